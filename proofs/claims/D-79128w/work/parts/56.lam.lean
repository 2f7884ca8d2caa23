/-! LAM: lambdas that capture nothing: the site's object, a call of it -/
abbrev HN : String := "DairyBook$Herd"
def LC : ByteArray := ⟨#[0x2b, 0xb8, 0x00, 0x11, 0xac]⟩
theorem lc_0 : decode LC 0 = .ok (.aload_n 1, 1) := by decide +kernel
theorem lc_1 : decode LC 1 = .ok (.invokestatic 17, 3) := by decide +kernel
theorem lc_4 : decode LC 4 = .ok (.ireturn, 1) := by decide +kernel
/-- what the made class is like, by the shape alone -/
def lamC (σ : Jvm.Lambda.Shape) (rt : FieldType) : Bool := (σ.file HN).any fun D => ((layoutMethods D).any fun ms => (ms[1]?).any fun f => decide ((f.code.map fun c => (c.code.data, c.maxLocals)) = some (LC.data, 2)) && decide (f.accessFlags = 1) && decide (f.sig.returnType = some rt)) &&
  decide (D.constantPool[17]? = some (.methodref 14 16)) && decide (D.constantPool.className? 14 = some HN) && decide (D.constantPool.nameAndType? 16 = some (σ.implName, σ.implDesc.toString)) && decide (D.constantPool[14]? = some (.class_ 13)) && decide (D.constantPool.string? 13 = some HN) && decide (14 ≠ D.thisClass)
theorem lam_made {σ : Jvm.Lambda.Shape} {rt : FieldType} (hc : lamC σ rt = true) (hic : σ.implClass = HN) {e : Setting} {vm : Vm} {d c : ClassId} {dk : Class} (hd : vm.classes[d]? = some dk) (hname : dk.name = HN) (h : Jvm.Lambda.isMade e vm d σ c = true) :
    ∃ (k tk : Class) (file D : ClassFile) (methk : Method) (ck : Code) (toy : ClassId) (t : MethodId),
      vm.classes[c]? = some k ∧ k.name = "DairyBook$Herd$$Lambda" ∧ k.cf = some file ∧ file.constantPool = D.constantPool ∧ D.constantPool[17]? = some (.methodref 14 16) ∧ D.constantPool.nameAndType? 16 = some (σ.implName, σ.implDesc.toString) ∧
      vm.method? ⟨c, 1⟩ = some methk ∧ methk.code = some ck ∧ ck.code = LC ∧ ck.maxLocals = 2 ∧ methk.locks = false ∧ methk.accessFlags = 0x0001 ∧ methk.sig.returnType = some rt ∧
      vm.findClass HN = some toy ∧ vm.classes[toy]? = some tk ∧ ((methodIn toy σ.implName σ.implDesc.toString tk.isInterface none).ask e vm).1 = .ok t ∧
      vm.methodReady c 17 t ∧ vm.classReady c 14 toy := by
  obtain ⟨dk', k, ok, tk, file, cf, object, iface, toy, lay, methods, target, found, hd', hk, hfile, hcf, -, -, -, -, hms, ht, htk, hg, -, hrec, -, -, -, -, hpool, hmeth, -, -, hres, -⟩ := Jvm.Lambda.isMade_spec h
  cases hd.symm.trans hd'
  rw [hic] at ht
  rw [hname] at hcf
  unfold lamC at hc
  rw [hcf] at hc
  simp only [Option.any_some, Bool.and_eq_true, decide_eq_true_eq] at hc
  obtain ⟨⟨⟨⟨⟨⟨hc, e17⟩, e14n⟩, e16⟩, e14⟩, e13⟩, hne⟩ := hc
  rw [hms] at hc
  simp only [Option.any_some] at hc
  cases hf : methods[1]? with
  | none => rw [hf] at hc; cases hc
  | some forwarder =>
    rw [hf] at hc
    simp only [Option.any_some, Bool.and_eq_true, decide_eq_true_eq] at hc
    obtain ⟨⟨fc, ff1⟩, ff2⟩ := hc
    obtain ⟨b, hb, hsame⟩ := hmeth 1 forwarder hf
    simp only [Jvm.Lambda.sameMethod, Bool.and_eq_true, decide_eq_true_eq] at hsame
    obtain ⟨⟨hn, -, hsig, hfl⟩, hcode⟩ := hsame
    cases hfc : forwarder.code with
    | none => rw [hfc] at fc; cases fc
    | some x =>
      cases hbc : b.code with
      | none => simp [hfc, hbc] at hcode
      | some y =>
        simp only [hfc, hbc, Bool.and_eq_true, decide_eq_true_eq] at hcode
        simp only [hfc, Option.map_some, Option.some.injEq, Prod.mk.injEq] at fc
        refine ⟨k, tk, file, cf, b, y, toy, target, hk, by rw [hrec.1, hname]; rfl, hfile, hpool.2.1, e17, e16, by simp [Vm.method?, hk, hb], hbc, ?_, by rw [← hcode.1.1.1.1.2.1]; exact fc.2, ?_, by rw [← hfl]; exact ff1, by rw [← hsig]; exact ff2, ht, htk, hg,
          ⟨k, hk, hres 17 _ (Jvm.Lambda.resolvedOf_method e17 e14n ht htk e16 hg)⟩, ⟨k, hk, hres 14 _ (Jvm.Lambda.resolvedOf_class e14 hne e13 ht)⟩⟩
        · rw [← hcode.1.1.1.1.2.2]
          exact ByteArray.ext fc.1
        · simp [Method.locks, Method.isSynchronized, ← hfl, ff1, hasFlag, Acc.synchronized]
/-- a lookup that is answered was of the right kind -/
theorem methodIn_kind {vm : Vm} {c : ClassId} {name desc : String} {via : Bool} {e : Setting} {k : Class} {m : MethodId} (hk : vm.classes[c]? = some k) (h : ((methodIn c name desc via none).ask e vm).1 = .ok m) : k.isInterface = via := by
  by_cases hv : k.isInterface = via
  · exact hv
  · exfalso
    have hb : (k.isInterface != via) = true := by simpa using hv
    have hg : (methodIn c name desc via none).Gives e vm (.error (.thrown ⟨"java/lang/IncompatibleClassChangeError", Words.wrongKindOfConstant k name desc⟩)) vm := by
      unfold methodIn
      refine (getClass_gives e hk).bind ?_
      simp only [hb, if_true]
      exact fun ms => ⟨_, rfl⟩
    obtain ⟨ms', hg⟩ := hg []
    have h2 : (methodIn c name desc via none true e vm []).1 = Except.ok m := h
    rw [hg] at h2
    cases h2
section LAMC
variable {p : Program} {l : Launch} {e : Env} {R : Room} {s : State} {m : MethodId} {args : Array Value} {below : List Frame} {meth : Method} {c : Code} {T : State} {locs : List Loc} {cells slots : Nat}
/-- invokedynamic of a site that captures nothing -/
theorem b_lam {x : MethodName} {σ : Jvm.Lambda.Shape} {cc : ByteArray} {pc index aL : Nat} {A : Nat → Prop} {H : Heap} {Q : State → Prop} {ls : Array Slot} {rest : List Value} (hx : p.tables.exec = Jvm.exec) (hb : c.code = cc) (hL : va_La x pc σ aL A s s.heap) (hn : s.methodNamed? x = some m) (hml : c.maxLocals = ls.size) (hdg : decode cc pc = .ok (.invokedynamic index, 5)) (hw : (rest.map fun v => v.category).sum + 3072 ≤ R.locals)
    (kk : W p l e R s m args below meth c H locs cells slots Q (F0 m (pc + 5) ls (.ref aL :: rest))) : W p l e R s m args below meth c H locs cells slots Q (F0 m pc ls rest) := by
  intro T hT X
  obtain ⟨mm, k, cf, i0, p0, cell, hm, hk, hcf, hfind, -⟩ := hL
  cases hn.symm.trans hm
  obtain ⟨t, a1, b1⟩ := kk T hT X
  have hlw : e.platform.lambdaLinkWords ≤ 3072 := by rw [X.admits.platform]; exact Nat.le_refl _
  have hst9 : (F0 m pc ls rest).stack = rest := rfl
  exact ⟨t, X.lambdaConstant hx (g := F0 m pc ls rest) rfl hml.symm (by rw [hb]; exact hdg) hk hfind (by rw [hst9]; show 2 * 0 + _ + _ ≤ _; omega) a1, b1⟩
/-- a call of the lambda's object -/
theorem b_runLam {Γ : GE} {x xi y : MethodName} {σ : Jvm.Lambda.Shape} {cc bytes : ByteArray} {pc pcx index count nL aL a0 : Nat} {A : Nat → Prop} {H : Heap} {ls : Array Slot} {rest : List Value} {own : String} {rt : FieldType} {rm : Room} {Qc : Array Value → State → Outcome → State → Prop} {free : Addr → Prop} {mc ms sz : Nat} {bc ro : BW}
    (hstk : (rest.map fun v => v.category).sum ≤ 8) (S : CallFix p m c cc nL s args lw_all own) (hL : va_La x pcx σ aL A s s.heap) (hxc : x.cls = HN) (hS : va_S A s.heap H locs) (hic : σ.implClass = HN) (hchk : lamC σ rt = true)
    (hxi : xi.cls = σ.iface ∧ xi.name = σ.name ∧ xi.desc = σ.sam.toString) (hxn : xi.cls ≠ "java/lang/invoke/MethodHandle" ∧ xi.cls ≠ "java/lang/invoke/VarHandle") (hlink : Cond.methodLink own index xi ∈ lw_all) (hdecl : va_Nw (.declares xi) s) (hsam : parseMethodDescriptor xi.desc = some ⟨[.object "DairyBook$Cow"], some rt⟩)
    (hy : y = ⟨HN, σ.implName, σ.implDesc.toString⟩) (hyd : parseMethodDescriptor y.desc = some ⟨[.object "DairyBook$Cow"], some rt⟩) (hstat : Cond.static y ∈ lw_all) (hcode : Cond.code y bytes 1 (some rt) ∈ lw_all) (hini : Cond.initialized HN ∈ lw_all)
    (hM : Met l y (ws_ y bytes 1 (some rt)) rm (va_Pc [.ref a0] (Cpre Γ bc ro sz)) Qc mc ms free) (hrc : rm.cells = mc) (hrs : rm.slots = ms) (hQ : ∀ st v t, Qc (List.toArray [.ref a0]) st (.returned v) t → ∃ r : Int32, v = some (.int r) ∧ narrow rt (.int r) = .int r)
    (hpre : ∀ U : State, U.heap = H → s.WarmedH U.vm → Cpre Γ bc ro sz U) (hsize : ls.size = nL) (hdg : decode cc pc = .ok (.invokeinterface index count, 5)) (hfr : rm.frames + 2 ≤ R.frames) (hlo : 8 + (2 + 11) + (8 + (1 + 11) + rm.locals) ≤ R.locals) (hf : cells + mc ≤ R.cells ∧ slots + ms ≤ R.slots) :
    va_Run5 p l e R s m args below meth c H locs cells slots mc ms (F0 m pc ls (.ref a0 :: .ref aL :: rest)) rest (Qc (List.toArray [.ref a0])) free := by
  intro T hT X
  obtain ⟨hx, hb, hml, ho, hts⟩ := S
  obtain ⟨mD, kD, cfD, i0, p0, cell, hmD, hkD, -, -, hmade, hcan, hcell0, hvm, hnA⟩ := hL
  have hcell : T.heap[aL]? = some cell := by rw [hT, hS.2.1 aL (Array.getElem?_eq_some_iff.mp hcell0).1 hnA]; exact hcell0
  obtain ⟨kD', hkD', hnameD⟩ := className_of_methodNamed hmD
  cases hkD.symm.trans hkD'
  rw [hxc] at hnameD
  obtain ⟨r0, r, hn, hrm, hstR, hsigR⟩ := Cond.declares_spec (va_Nw.use (A := args) rfl hdecl)
  obtain ⟨kL, hkL, -⟩ := className_of_methodNamed hn
  have hcL : s.vm.findClass xi.cls = some r0.cls := findClass_of_methodNamed hn
  obtain ⟨hnameR, hdescR⟩ := name_of_methodNamed hn hrm
  obtain ⟨-, kk0, -, -, -, -, -, iface', -, -, -, -, found, -, hkk0, -, -, -, hi', -, -, -, -, -, -, hfound', -, -, -, -, -, -, -, -, -, -, hsel⟩ := Jvm.Lambda.isMade_spec hmade
  rw [← hxi.1] at hi'
  cases hcL.symm.trans hi'
  rw [← hxi.2.1, ← hxi.2.2] at hfound'
  have hiL : kL.isInterface = true := methodIn_kind hkL hfound'
  have hfr0 : found = r0 := by
    have h1 : s.methodFound? xi.cls xi.name xi.desc = some r0 := State.methodFound?_of_named hn hxn
    simp only [State.methodFound?, hcL, hkL, hiL, Option.bind_eq_bind, Option.bind_some] at h1
    rw [hfound'] at h1
    exact Option.some.inj h1
  subst hfr0
  obtain ⟨i2, hi2, hasg, hway⟩ := State.lambdaCallable_spec hcan
  rw [← hxi.1] at hi2
  cases hcL.symm.trans hi2
  obtain ⟨k0, -, -, -, methk0, ck0, -, -, hk0, -, -, -, -, -, hmk0, hck0, -, -, -, hfl0, -, -⟩ := lam_made hchk hic hkD hnameD hmade
  obtain ⟨vm₁, X₁, hstep₁⟩ := X.invokeinterface hx ho (hts _ hlink) hn hrm hstR hkL hiL hxn (a := aL) (cell := cell) (kcell := k0) hcell (fun z h => by rw [hvm] at h; cases h) hk0 hasg
    (m' := ⟨cell.cls, 1⟩) (meth' := methk0) (by rw [Launch.admits_selectMethod X.admits]; exact hsel) hmk0 (by rw [hnameR, hdescR, hxi.2.1, hxi.2.2]; exact hway) (by rw [hfl0]; decide) (by simp [Method.isAbstract, hfl0, hasFlag, Acc.abstract])
    (g := F0 m pc ls (.ref a0 :: .ref aL :: rest)) rfl (argsL := [.ref a0]) (rest := rest) (by rw [Option.some.inj (hsigR.symm.trans hsam)]; rfl) rfl (by rw [hb]; exact hdg)
  have hW₁ : s.WarmedH vm₁ := X₁.warmed
  obtain ⟨kD₁, hkD₁, heD₁⟩ := hW₁.alike.2.2 _ _ hkD
  have hnameD₁ : kD₁.name = HN := by rw [heD₁]; exact hnameD
  obtain ⟨kK, tk, file, D, methk, ck, toy, t, hkK, hkn, hfile, hpool, e17, e16, hmk, hck, hbytes, hmlK, hlk, hfl, hretk, htoy, htk, hlook, hready, hclsR⟩ := lam_made hchk hic hkD₁ hnameD₁ (Jvm.Lambda.isMade_warmer hW₁ hmade)
  obtain ⟨mT, hmT⟩ := Cond.code_named (hts _ hcode)
  obtain ⟨methT, cT, hmethT, hcT, -, hlocT, -, hlocksT, -, hsigT⟩ := Cond.code_spec hmT (hts _ hcode)
  have hstaticT : methT.isStatic = true := Cond.static_spec hmT hmethT (hts _ hstat)
  obtain ⟨kT, hkT, hnameT⟩ := className_of_methodNamed hmT
  have hyc : y.cls = HN := by rw [hy]
  have hfT : s.vm.findClass HN = some mT.cls := by rw [← hyc]; exact findClass_of_methodNamed hmT
  have hinitK : kT.init = .initialized := Cond.initialized_spec hfT hkT (hts _ hini)
  have hfT₁ : vm₁.findClass HN = some mT.cls := by rw [hW₁.alike.findClass]; exact hfT
  cases htoy.symm.trans hfT₁
  have ht₁ : t = mT := by
    have h1 : (s.setVm vm₁).methodFound? HN σ.implName σ.implDesc.toString = some mT := by
      rw [State.methodFound?_setVm hW₁.alike]
      have := State.methodFound?_of_named hmT (by rw [hyc]; decide)
      rw [hy] at this
      exact this
    simp only [State.methodFound?, State.vm_setVm, hfT₁, htk, Option.bind_eq_bind, Option.bind_some] at h1
    rw [hlook] at h1
    exact Option.some.inj h1
  subst ht₁
  have hmethT₁ : vm₁.method? t = some methT := by rw [hW₁.alike.method?]; exact hmethT
  obtain ⟨kT₁, hkT₁, heT₁⟩ := hW₁.alike.2.2 _ _ hkT
  cases htk.symm.trans hkT₁
  have hnm : tk.name ≠ "java/lang/invoke/MethodHandle" ∧ tk.name ≠ "java/lang/invoke/VarHandle" := by
    have : tk.name = HN := by rw [heT₁, hnameT, hyc]
    rw [this]; decide
  have hsp : ∀ z : Method, signaturePolymorphic tk z = false := fun z => by simp [signaturePolymorphic, hnm.1, hnm.2]
  obtain ⟨b, hmem⟩ := memberRef_ask' (e := e) (vm := vm₁) (d := cell.cls) (index := 17) hkK hfile (Or.inl (by rw [hpool]; exact e17)) (by rw [hpool]; exact e16)
  have hpk : (T.setVm vm₁).plainMethod ⟨cell.cls, 1⟩ := State.plainMethod.of_name (fun k' hk' => by cases hkK.symm.trans hk'; rw [hkn]; decide)
  obtain ⟨g, hg⟩ : ∃ z, z = F0 m pc ls rest := ⟨_, rfl⟩
  have hgm : g.method = m := by rw [hg]
  have hgs : g.locals.size = c.maxLocals := by rw [hg]; exact hsize.trans hml.symm
  have hgd : decode c.code g.pc = .ok (.invokeinterface index count, 5) := by rw [hg, hb]; exact hdg
  obtain ⟨Y₀, hin⟩ := X₁.into hgm hgs hgd #[.ref aL, .ref a0] (R' := { frames := rm.frames + 1, cells := mc, slots := ms, locals := 8 + (1 + 11) + rm.locals }) hmk hck hlk hpk (by omega) (by rw [hg, hmlK, show (F0 m pc ls rest).stack = rest from rfl]; show 2 * 0 + _ + (2 + 11) + (8 + (1 + 11) + rm.locals) ≤ _; omega) hf.1 hf.2
  generalize hU : ((T.setVm vm₁).setTop g).pushFrame (.java (entryFrame ⟨cell.cls, 1⟩ #[.ref aL, .ref a0] ck.maxLocals)) = U at Y₀ hin
  have hvmU : U.vm = vm₁ := by rw [← hU]; rfl
  have hhU : U.heap = H := by rw [← hU, ← hT]; rfl
  have hWY : ∀ V : State, ((T.setVm vm₁).calling g ⟨cell.cls, 1⟩ #[.ref aL, .ref a0]).WarmedH V.vm → s.WarmedH V.vm := fun V hV => hW₁.trans hV
  have hBk : Back l { frames := rm.frames + 1, cells := mc, slots := ms, locals := 8 + (1 + 11) + rm.locals } p e (.java g :: below) ((T.setVm vm₁).calling g ⟨cell.cls, 1⟩ #[.ref aL, .ref a0]) #[.ref aL, .ref a0] y 3 8 (PreOf { frames := rm.frames + 1, cells := mc, slots := ms, locals := 8 + (1 + 11) + rm.locals } mc ms (va_Pc [.ref a0] (Cpre Γ bc ro sz))) (PostOf Qc mc ms free) :=
    back_of (bytes := bytes) (maxL := 1) (ret := some rt) hM cblind hrc hrs (Nat.le_refl _) (Nat.le_refl _) (fun w hw a' V hV => pay_in hts (lw_meth hcode) w hw a' V (hWY V hV)) List.mem_cons_self (fun a' V hV => word_at (hWY V hV) (Or.inl (by first | rfl | simp [Cond.onTables, Cond.keeps, Cond.steady])) (by rw [hyc]; exact hts _ hini))
  obtain ⟨v, ⟨V, L1, c1, s1⟩, Y₁, ⟨gk, mk9, t9, L, e1, e2, hq, k1, hLf, k2, k3⟩, hsteps⟩ := hBk ⟨cell.cls, 1⟩ methk ck ⟨U, [], 0, 0⟩ { method := ⟨cell.cls, 1⟩, pc := 1, locals := #[.val (.ref aL), .val (.ref a0)], stack := [], locked := none } (.invokestatic 17) t #[.ref a0] Y₀ rfl (by rw [hmlK]; rfl) (by rw [hbytes]; exact lc_1) (by show 2 * 0 + 0 ≤ 8; omega)
    (by show U.methodNamed? y = some t; have := State.methodNamed?_setVm (s := s) hW₁.alike y; rw [hmT] at this; rw [State.methodNamed?_of_vm (U := U) (V := s.setVm vm₁) hvmU]; exact this) ⟨by show 0 + mc ≤ mc; omega, by show 0 + ms ≤ ms; omega, rfl, hpre U hhU (by rw [hvmU]; exact hW₁)⟩
  dsimp only [Pt.U, Pt.locs, Pt.cells, Pt.slots] at Y₁ e1 e2 hq k1 k2 k3 hsteps
  obtain ⟨ri, rfl, hnar⟩ := hQ _ _ _ hq
  obtain ⟨fs, hleave, -, hended, hWe, hsame⟩ := Y₁.leave (v := some (.int ri)) (fun h => by rw [hretk] at h; cases h) hlk
  obtain ⟨T', X', hW', -, ht⟩ := X₁.outOf hgm hgd hended hWe hsame
  have hTh : T'.heap = V.heap := by
    have := congrArg State.heap ht
    exact this.symm
  have hTv : T'.vm = V.vm := by
    have := congrArg State.vm ht
    exact this.symm
  subst k1; subst k2; subst k3
  refine ⟨some (.int ri), U.calling gk mk9 #[.ref a0], t9, T', L1, hhU, ?_, hLf, by rw [hTh, e1], by rw [hTv, e2], hq, fun target h => ?_⟩
  · have := X'
    rw [Nat.zero_add, Nat.zero_add] at this
    exact this
  refine hstep₁ _ fun acts => ?_
  show Steps p.tables e below (doInvoke e ((T.setVm vm₁).setTop (F0 m pc ls rest)) acts ⟨cell.cls, 1⟩ (Value.ref aL :: [Value.ref a0]).toArray).1 target
  rw [← hg]
  have hin' := hin acts
  rw [show (Value.ref aL :: [Value.ref a0]).toArray = #[.ref aL, .ref a0] from rfl, hin']
  refine Steps.trans ?_ h
  have hgg : (F0 m pc ls rest) = g := hg.symm
  show Steps p.tables e below _ (T'.setTop { F0 m pc ls rest with pc := (F0 m pc ls rest).pc + 5, stack := (some (Value.int ri)).toList ++ rest })
  rw [hgg, show rest = g.stack by rw [hg], ← ht]
  refine Steps.weaken (mid := [.java g]) ?_
  have hloc : entryFrame ⟨cell.cls, 1⟩ #[.ref aL, .ref a0] ck.maxLocals = { method := ⟨cell.cls, 1⟩, pc := 0, locals := #[.val (.ref aL), .val (.ref a0)], stack := [], locked := none } := by rw [hmlK]; rfl
  rw [hloc]
  have hs : U.topJava?.isSome := Y₀.here.top
  jvm_step Y₀.here [hx, hbytes, lc_0, Value.isRef]
  jvm_step Y₀.here [hx, hbytes, lc_1, invokestatic.wp_ready (e := e) (s := U) (m := t) (k := tk) (meth := methT) (args := [.ref a0]) (rest := [])
    (f := { method := ⟨cell.cls, 1⟩, pc := 1, locals := #[.val (.ref aL), .val (.ref a0)], stack := [.ref a0], locked := none }) hs (by rw [← hU]; exact ⟨14, _, _, b, t.cls, tk, hmem, hclsR, htk, by simp [hsp]⟩) (by rw [hvmU]; exact hready) (by rw [hvmU]; exact htk) (by rw [hvmU]; exact hmethT₁) (hsp _) hstaticT (by rw [heT₁]; exact hinitK) (by rw [show methT.sig = _ from Option.some.inj (hsigT.symm.trans hyd)]; rfl) rfl]
  intro acts'
  rw [doInvoke_state]
  refine hsteps.trans ?_
  show Steps p.tables e (.java g :: below) (V.setTop { method := ⟨cell.cls, 1⟩, pc := 4, locals := #[.val (.ref aL), .val (.ref a0)], stack := [.int ri], locked := none }) _
  jvm_step Y₁.here [Y₁.here.top, hx, hbytes, lc_4, Y₁.method', hretk, hnar]
  intro acts''
  rw [hleave { method := ⟨cell.cls, 1⟩, pc := 4, locals := #[.val (.ref aL), .val (.ref a0)], stack := [], locked := none } acts'' rfl rfl rfl]
  exact Steps.refl _
end LAMC
abbrev laX : MethodName := ⟨"DairyBook$Herd", "account", "(I)I"⟩
def laSh (iface name impl : String) (rt : FieldType) : Jvm.Lambda.Shape := { iface := iface, name := name, sam := ⟨[.object "DairyBook$Cow"], some rt⟩, captured := [], kind := 6, implClass := "DairyBook$Herd", implName := impl, implDesc := ⟨[.object "DairyBook$Cow"], some rt⟩, implItf := false, inst := ⟨[.object "DairyBook$Cow"], some rt⟩ }
theorem va_La.at {Γ : GE} {A : Nat → Prop} {s : State} (hE : EN Γ A s) {i pc ix : Nat} {σ : Jvm.Lambda.Shape} (hi : i < 6) (h : laPart (laW i) = some (laX, pc, ix, σ)) : va_La laX pc σ (Γ.2.2 (10 + i)) A s s.heap := hE.1.2.2.1 i laX pc ix σ hi h
def laS0 : Jvm.Lambda.Shape := laSh "DairyBook$Chosen" "holds" "lambda$account$0" .boolean
theorem la_0 : laPart (laW 0) = some (laX, 49, 229, laS0) := rfl
theorem lamC_0 : lamC laS0 .boolean = true := by decide +kernel
def laV0 (c : Nat → Int32) : Int32 := if c 6 = 0 then 1 else 0
def laS1 : Jvm.Lambda.Shape := laSh "DairyBook$Chosen" "holds" "lambda$account$1" .boolean
theorem la_1 : laPart (laW 1) = some (laX, 59, 236, laS1) := rfl
theorem lamC_1 : lamC laS1 .boolean = true := by decide +kernel
def laV1 (c : Nat → Int32) : Int32 := cowMil c
def laS2 : Jvm.Lambda.Shape := laSh "DairyBook$Chosen" "holds" "lambda$account$2" .boolean
theorem la_2 : laPart (laW 2) = some (laX, 69, 237, laS2) := rfl
theorem lamC_2 : lamC laS2 .boolean = true := by decide +kernel
def laV2 (c : Nat → Int32) : Int32 := cowCar c
def laS3 : Jvm.Lambda.Shape := laSh "DairyBook$Measure" "of" "lambda$account$3" .int
theorem la_3 : laPart (laW 3) = some (laX, 79, 238, laS3) := rfl
theorem lamC_3 : lamC laS3 .int = true := by decide +kernel
def laV3 (c : Nat → Int32) : Int32 := c 10
def laS4 : Jvm.Lambda.Shape := laSh "DairyBook$Measure" "of" "lambda$account$4" .int
theorem la_4 : laPart (laW 4) = some (laX, 89, 245, laS4) := rfl
theorem lamC_4 : lamC laS4 .int = true := by decide +kernel
def laV4 (c : Nat → Int32) : Int32 := c 11
def laS5 : Jvm.Lambda.Shape := laSh "DairyBook$Measure" "of" "lambda$account$5" .int
theorem la_5 : laPart (laW 5) = some (laX, 104, 246, laS5) := rfl
theorem lamC_5 : lamC laS5 .int = true := by decide +kernel
def laV5 (c : Nat → Int32) : Int32 := c 10 - c 11
theorem laV0_nar (c : Nat → Int32) : narrow .boolean (.int (laV0 c)) = .int (laV0 c) := by unfold laV0; split <;> rfl
theorem laV1_nar (c : Nat → Int32) : narrow .boolean (.int (laV1 c)) = .int (laV1 c) := by
  unfold laV1 cowMil
  split
  · rfl
  · split <;> rfl
theorem laV2_nar (c : Nat → Int32) : narrow .boolean (.int (laV2 c)) = .int (laV2 c) := by
  unfold laV2 cowCar
  split
  · rfl
  · split <;> rfl
def ctS (f : (Nat → Int32) → Int32) (cv : Nat → Nat → Int32) (n : Nat) : Int32 := bx_sum (fun j => if f (cv j) = 0 then 0 else 1) n
def smS (f : (Nat → Int32) → Int32) (cv : Nat → Nat → Int32) (n : Nat) : Int32 := bx_sum (fun j => f (cv j)) n
theorem ctS_1 {f : (Nat → Int32) → Int32} {cv : Nat → Nat → Int32} {n : Nat} (h : ¬ f (cv n) = 0) : ctS f cv n + 1 = ctS f cv (n + 1) := by
  show _ = bx_sum (fun j => if f (cv j) = 0 then 0 else 1) n + (if f (cv n) = 0 then 0 else 1)
  rw [if_neg h]
  rfl
theorem ctS_0 {f : (Nat → Int32) → Int32} {cv : Nat → Nat → Int32} {n : Nat} (h : f (cv n) = 0) : ctS f cv n = ctS f cv (n + 1) := by
  show _ = bx_sum (fun j => if f (cv j) = 0 then 0 else 1) n + (if f (cv n) = 0 then 0 else 1)
  rw [if_pos h, Int32.add_zero]
  rfl
theorem K_introN {l : Launch} {y : MethodName} {cc : ByteArray} {L : Nat} {ret : Option FieldType} {Γ : GE} {fr lo mc ms : Nat} {av : List Value} {bs ro : BW} {sz : Nat} {Qc : (Nat → Prop) → Array Value → State → Outcome → State → Prop} (hy : plainName y.cls = true) (hLn : (lg_sl av).length ≤ L)
    (body : ∀ (p : Program) (e : Env) (s : State) (m : MethodId) (below : List Frame) (meth : Method) (c : Code) (A : Nat → Prop) (ls : Array Slot), p.tables.exec = Jvm.exec → c.code = cc → meth.sig.returnType = ret → c.maxLocals = L → s.vm.findClass y.cls = some m.cls → (∀ w ∈ lw_all, w.before av.toArray s = true) → meth.locks = false → meth.name = y.name →
      va_K Γ.1 cls (tysG Γ) s → EN Γ A s → (∀ q ∈ ro.flatten, Rc Γ A s s.heap q) → va_P Γ.1 cls bs.flatten s.heap → va_D A bs.flatten → (∀ q : Nat, s.heap.size ≤ q → A q) → va_S A s.heap s.heap [] → s.heap.size = sz → lv_has ls L (lv_args 0 av) → s.methodNamed? y = some m →
      W p l e { frames := fr, cells := mc, slots := ms, locals := lo } s m av.toArray below meth c s.heap [] 0 0 (MQ below (Qc A) av.toArray s mc ms A) (F0 m 0 ls [])) : KM l y cc L ret Γ fr lo mc ms av bs ro sz Qc := by
  refine Met.ofW (cc := cc) (maxL := L) (ret := ret) hy rfl ?_
  intro p e s m args below meth c s₁ B hml hv
  obtain ⟨rfl, hsz, hP, hK, hD, hE, hR⟩ := hv
  have hts := atoms_spec (ws := ws_ y cc L ret) B.pre
  have hts : ∀ w ∈ lw_all, w.before _ s = true := fun w h => hts w (List.mem_cons_of_mem _ h)
  have hl := lv_entry av (n := L) hLn
  rw [lg_entry_eq]
  exact body p e s m below meth c _ _ B.exec B.bytes B.returns hml (findClass_of_methodNamed B.named) hts B.notSynchronized (name_of_methodNamed B.named B.method).1 hK hE hR hP hD.self (fun q h => Or.inr (by rw [← hsz]; exact h)) va_S.rf hsz hl B.named
set_option maxHeartbeats 4000000 in
set_option maxRecDepth 100000 in
theorem mt_La_0 (l : Launch) (Γ : GE) (sz : Nat) (a : Nat) (c : Nat → Int32)  : KM l yX2_lambda_account_0 cX2_lambda_account_0 1 (some FieldType.boolean) Γ 0 0 0 0 [.ref a] [[(a, cowE c)]] [] sz (Qi Γ (fun r_ u_ => r_ = (laV0 c) ∧ u_ = [[(a, cowE c)]])) := by
  refine K_intro (by decide) (Nat.le_of_ble_eq_true rfl) ?_
  intro pr_ ev_ s mi_ below meth cd_ A ls hx hb hr hml hown hts hlocks hname hK hE hRo hP hD hA hS hsz hl
  have hl : lv_has ls 1 [(0, .ref a)] := hl
  have hown : s.vm.findClass RX2 = some mi_.cls := hown
  refine lv_aload_n hx hb dX2_lambda_account_0_0 rfl (lv_at hl 0 rfl) ?_
  refine b_getN (C := RX5) (T := TX5) (N := 12) (v := .int (c 6)) hx hb hts hE in_X5 hown hK (b_at (k := 0) hP rfl) rfl 6 (by decide) q434 (fun _ h9 => h9) rfl dX2_lambda_account_0_1 ?_
  refine lv_if_ne (tgt := 11) hx hb dX2_lambda_account_0_4 (by decide) (fun c_1 => ?_) (fun c_1 => ?_)
  · -- 4 taken
    refine lv_iconst (v := 0) hx hb dX2_lambda_account_0_11 (by decide) ?_
    exact b_zret hx hb hr hlocks hP hD hS (Nat.le_of_ble_eq_true rfl) (Nat.le_of_ble_eq_true rfl) rfl ⟨(by first | with_reducible rfl | (simp [laV0, c_1]; done) | rfl), (by first | with_reducible rfl | (simp [laV0, c_1]; done) | rfl)⟩ dX2_lambda_account_0_12
  · -- 4 not taken
    refine lv_iconst (v := 1) hx hb dX2_lambda_account_0_7 (by decide) ?_
    refine lv_goto (tgt := 12) hx hb dX2_lambda_account_0_8 (by decide) ?_
    exact b_zret hx hb hr hlocks hP hD hS (Nat.le_of_ble_eq_true rfl) (Nat.le_of_ble_eq_true rfl) rfl ⟨(by first | with_reducible rfl | (simp [laV0, c_1]; done) | rfl), (by first | with_reducible rfl | (simp [laV0, c_1]; done) | rfl)⟩ dX2_lambda_account_0_12
set_option maxHeartbeats 4000000 in
set_option maxRecDepth 100000 in
theorem mt_La_1 (l : Launch) (Γ : GE) (sz : Nat) (a : Nat) (c : Nat → Int32)  : KM l yX2_lambda_account_1 cX2_lambda_account_1 1 (some FieldType.boolean) Γ 1 20 0 0 [.ref a] [[(a, cowE c)]] [] sz (Qi Γ (fun r_ u_ => r_ = (laV1 c) ∧ u_ = [[(a, cowE c)]])) := by
  refine K_intro (by decide) (Nat.le_of_ble_eq_true rfl) ?_
  intro pr_ ev_ s mi_ below meth cd_ A ls hx hb hr hml hown hts hlocks hname hK hE hRo hP hD hA hS hsz hl
  have hl : lv_has ls 1 [(0, .ref a)] := hl
  have hown : s.vm.findClass RX2 = some mi_.cls := hown
  refine lv_aload_n hx hb dX2_lambda_account_1_0 rfl (lv_at hl 0 rfl) ?_
  refine b_calli (br := []) (b_runV ⟨hx, hb, hml, hown, hts⟩ (mt_Cow_isMilked l Γ _ a c) (lw_V q1028 q1029 q1030 q81 q1031) rfl rfl 0 (by decide +kernel) ⟨(Nat.le_of_ble_eq_true rfl), (Nat.le_of_ble_eq_true rfl)⟩ (c_pre hP hD hS hA hK hE [0] rfl rfl ro_nil) (recv_at (q := (RX5, TX5, 12)) hK (b_at (k := 0) hP rfl) rfl) rfl hl.1 rfl (Nat.le_of_ble_eq_true rfl) dX2_lambda_account_1_1 ⟨(Nat.le_of_ble_eq_true rfl), (Nat.le_of_ble_eq_true rfl)⟩) hP hD hS hA [0] [] rfl rfl rfl (fun r_1 u_1 H locs hw_1 hP hD hS _ => ?_)
  obtain ⟨rfl, rfl⟩ := hw_1
  have hP : WP Γ [[(a, cowE c)]] H := hP
  have hD : WD A [[(a, cowE c)]] := hD
  exact b_zret hx hb hr hlocks hP hD hS (Nat.le_of_ble_eq_true rfl) (Nat.le_of_ble_eq_true rfl) (laV1_nar _) ⟨(by first | with_reducible rfl | (simp [laV1]; done) | rfl), (by first | with_reducible rfl | (simp [laV1]; done) | rfl)⟩ dX2_lambda_account_1_4
set_option maxHeartbeats 4000000 in
set_option maxRecDepth 100000 in
theorem mt_La_2 (l : Launch) (Γ : GE) (sz : Nat) (a : Nat) (c : Nat → Int32)  : KM l yX2_lambda_account_2 cX2_lambda_account_2 1 (some FieldType.boolean) Γ 1 20 0 0 [.ref a] [[(a, cowE c)]] [] sz (Qi Γ (fun r_ u_ => r_ = (laV2 c) ∧ u_ = [[(a, cowE c)]])) := by
  refine K_intro (by decide) (Nat.le_of_ble_eq_true rfl) ?_
  intro pr_ ev_ s mi_ below meth cd_ A ls hx hb hr hml hown hts hlocks hname hK hE hRo hP hD hA hS hsz hl
  have hl : lv_has ls 1 [(0, .ref a)] := hl
  have hown : s.vm.findClass RX2 = some mi_.cls := hown
  refine lv_aload_n hx hb dX2_lambda_account_2_0 rfl (lv_at hl 0 rfl) ?_
  refine b_calli (br := []) (b_runV ⟨hx, hb, hml, hown, hts⟩ (mt_Cow_isCarrying l Γ _ a c) (lw_V q1024 q1025 q1026 q81 q1027) rfl rfl 0 (by decide +kernel) ⟨(Nat.le_of_ble_eq_true rfl), (Nat.le_of_ble_eq_true rfl)⟩ (c_pre hP hD hS hA hK hE [0] rfl rfl ro_nil) (recv_at (q := (RX5, TX5, 12)) hK (b_at (k := 0) hP rfl) rfl) rfl hl.1 rfl (Nat.le_of_ble_eq_true rfl) dX2_lambda_account_2_1 ⟨(Nat.le_of_ble_eq_true rfl), (Nat.le_of_ble_eq_true rfl)⟩) hP hD hS hA [0] [] rfl rfl rfl (fun r_1 u_1 H locs hw_1 hP hD hS _ => ?_)
  obtain ⟨rfl, rfl⟩ := hw_1
  have hP : WP Γ [[(a, cowE c)]] H := hP
  have hD : WD A [[(a, cowE c)]] := hD
  exact b_zret hx hb hr hlocks hP hD hS (Nat.le_of_ble_eq_true rfl) (Nat.le_of_ble_eq_true rfl) (laV2_nar _) ⟨(by first | with_reducible rfl | (simp [laV2]; done) | rfl), (by first | with_reducible rfl | (simp [laV2]; done) | rfl)⟩ dX2_lambda_account_2_4
set_option maxHeartbeats 4000000 in
set_option maxRecDepth 100000 in
theorem mt_La_3 (l : Launch) (Γ : GE) (sz : Nat) (a : Nat) (c : Nat → Int32)  : KM l yX2_lambda_account_3 cX2_lambda_account_3 1 (some FieldType.int) Γ 0 0 0 0 [.ref a] [[(a, cowE c)]] [] sz (Qi Γ (fun r_ u_ => r_ = (laV3 c) ∧ u_ = [[(a, cowE c)]])) := by
  refine K_intro (by decide) (Nat.le_of_ble_eq_true rfl) ?_
  intro pr_ ev_ s mi_ below meth cd_ A ls hx hb hr hml hown hts hlocks hname hK hE hRo hP hD hA hS hsz hl
  have hl : lv_has ls 1 [(0, .ref a)] := hl
  have hown : s.vm.findClass RX2 = some mi_.cls := hown
  refine lv_aload_n hx hb dX2_lambda_account_3_0 rfl (lv_at hl 0 rfl) ?_
  refine b_getN (C := RX5) (T := TX5) (N := 12) (v := .int (c 10)) hx hb hts hE in_X5 hown hK (b_at (k := 0) hP rfl) rfl 10 (by decide) q444 (fun _ h9 => h9) rfl dX2_lambda_account_3_1 ?_
  exact b_iret hx hb hr hlocks hP hD hS (Nat.le_of_ble_eq_true rfl) (Nat.le_of_ble_eq_true rfl) ⟨(by first | with_reducible rfl | (simp [laV3]; done) | rfl), (by first | with_reducible rfl | (simp [laV3]; done) | rfl)⟩ dX2_lambda_account_3_4
set_option maxHeartbeats 4000000 in
set_option maxRecDepth 100000 in
theorem mt_La_4 (l : Launch) (Γ : GE) (sz : Nat) (a : Nat) (c : Nat → Int32)  : KM l yX2_lambda_account_4 cX2_lambda_account_4 1 (some FieldType.int) Γ 0 0 0 0 [.ref a] [[(a, cowE c)]] [] sz (Qi Γ (fun r_ u_ => r_ = (laV4 c) ∧ u_ = [[(a, cowE c)]])) := by
  refine K_intro (by decide) (Nat.le_of_ble_eq_true rfl) ?_
  intro pr_ ev_ s mi_ below meth cd_ A ls hx hb hr hml hown hts hlocks hname hK hE hRo hP hD hA hS hsz hl
  have hl : lv_has ls 1 [(0, .ref a)] := hl
  have hown : s.vm.findClass RX2 = some mi_.cls := hown
  refine lv_aload_n hx hb dX2_lambda_account_4_0 rfl (lv_at hl 0 rfl) ?_
  refine b_getN (C := RX5) (T := TX5) (N := 12) (v := .int (c 11)) hx hb hts hE in_X5 hown hK (b_at (k := 0) hP rfl) rfl 11 (by decide) q447 (fun _ h9 => h9) rfl dX2_lambda_account_4_1 ?_
  exact b_iret hx hb hr hlocks hP hD hS (Nat.le_of_ble_eq_true rfl) (Nat.le_of_ble_eq_true rfl) ⟨(by first | with_reducible rfl | (simp [laV4]; done) | rfl), (by first | with_reducible rfl | (simp [laV4]; done) | rfl)⟩ dX2_lambda_account_4_4
set_option maxHeartbeats 4000000 in
set_option maxRecDepth 100000 in
theorem mt_La_5 (l : Launch) (Γ : GE) (sz : Nat) (a : Nat) (c : Nat → Int32)  : KM l yX2_lambda_account_5 cX2_lambda_account_5 1 (some FieldType.int) Γ 0 0 0 0 [.ref a] [[(a, cowE c)]] [] sz (Qi Γ (fun r_ u_ => r_ = (laV5 c) ∧ u_ = [[(a, cowE c)]])) := by
  refine K_intro (by decide) (Nat.le_of_ble_eq_true rfl) ?_
  intro pr_ ev_ s mi_ below meth cd_ A ls hx hb hr hml hown hts hlocks hname hK hE hRo hP hD hA hS hsz hl
  have hl : lv_has ls 1 [(0, .ref a)] := hl
  have hown : s.vm.findClass RX2 = some mi_.cls := hown
  refine lv_aload_n hx hb dX2_lambda_account_5_0 rfl (lv_at hl 0 rfl) ?_
  refine b_getN (C := RX5) (T := TX5) (N := 12) (v := .int (c 10)) hx hb hts hE in_X5 hown hK (b_at (k := 0) hP rfl) rfl 10 (by decide) q444 (fun _ h9 => h9) rfl dX2_lambda_account_5_1 ?_
  refine lv_aload_n hx hb dX2_lambda_account_5_4 rfl (lv_at hl 0 rfl) ?_
  refine b_getN (C := RX5) (T := TX5) (N := 12) (v := .int (c 11)) hx hb hts hE in_X5 hown hK (b_at (k := 0) hP rfl) rfl 11 (by decide) q447 (fun _ h9 => h9) rfl dX2_lambda_account_5_5 ?_
  refine lv_isub hx hb dX2_lambda_account_5_8 ?_
  exact b_iret hx hb hr hlocks hP hD hS (Nat.le_of_ble_eq_true rfl) (Nat.le_of_ble_eq_true rfl) ⟨(by first | with_reducible rfl | (simp [laV5]; done) | rfl), (by first | with_reducible rfl | (simp [laV5]; done) | rfl)⟩ dX2_lambda_account_5_9
set_option maxHeartbeats 4000000 in
set_option maxRecDepth 100000 in
theorem mt_Hd_count_0 (l : Launch) (Γ : GE) (sz : Nat) (e0 : Nat) (e1 : Nat) (e2 : Nat) (e3 : Nat) (e4 : Nat) (e5 : Nat) (td : Int32) (pk : Int32) (pd : Int32) (x0 : LST) (m0 : Int32) (n : Nat) (ca : Nat → Nat) (cv : Nat → Nat → Int32) (hal0 : alI Γ x0 n ca) (hn8 : n ≤ 8) : KM l yX2_count cX2_count 5 (some FieldType.int) Γ 3 71 1 4 [.ref e0, .ref (Γ.2.2 10)] [[(e0, .inr (1, [.ref e1, .ref e2, .ref e3, .ref e4, .ref e5, .int td, .int pk, .int pd]))], [(e1, .inr (11, [.int m0, .ref x0.1, .int (nI n)]))], (alA Γ x0), (cowsB n ca cv)] [] sz (Qi Γ (fun r_ u_ => r_ = (ctS laV0 cv n) ∧ u_ = [[(e0, .inr (1, [.ref e1, .ref e2, .ref e3, .ref e4, .ref e5, .int td, .int pk, .int pd]))], [(e1, .inr (11, [.int m0, .ref x0.1, .int (nI n)]))], (alA Γ x0), (cowsB n ca cv)])) := by
  refine K_intro (by decide) (Nat.le_of_ble_eq_true rfl) ?_
  intro pr_ ev_ s mi_ below meth cd_ A ls hx hb hr hml hown hts hlocks hname hK hE hRo hP hD hA hS hsz hl
  have hl : lv_has ls 5 [(0, .ref e0), (1, .ref (Γ.2.2 10))] := hl
  have hown : s.vm.findClass RX2 = some mi_.cls := hown
  refine lv_iconst (v := 0) hx hb dX2_count_0 (by decide) ?_
  refine lv_istore_n (lv' := [(2, .int 0), (0, .ref e0), (1, .ref (Γ.2.2 10))]) hx hb dX2_count_1 rfl hl (by decide) rfl (fun ls hl => ?_)
  refine lv_aload_n hx hb dX2_count_2 rfl (lv_at hl 1 rfl) ?_
  refine b_get (C := RX2) (T := TX2) (N := 8) (v := .ref e1) hx hb hts in_X2 hown hK (b_at (k := 0) hP rfl) rfl 0 (by decide) q163 (fun _ h9 => h9) rfl dX2_count_3 ?_
  refine b_callq (br := [[(e0, .inr (1, [.ref e1, .ref e2, .ref e3, .ref e4, .ref e5, .int td, .int pk, .int pd]))], (alA Γ x0), (cowsB n ca cv)]) (b_runV ⟨hx, hb, hml, hown, hts⟩ (mt_AL_iterator l Γ _ e1 m0 x0.1 n) (lw_V q296 q297 q298 q66 q299) rfl rfl 0 (by decide +kernel) ⟨(Nat.le_of_ble_eq_true rfl), (Nat.le_of_ble_eq_true rfl)⟩ (c_pre hP hD hS hA hK hE [1] rfl rfl ro_nil) (recv_at (q := (RJ2, TJ2, 3)) hK (b_at (k := 1) hP rfl) rfl) rfl hl.1 rfl (Nat.le_of_ble_eq_true rfl) dX2_count_6 ⟨(Nat.le_of_ble_eq_true rfl), (Nat.le_of_ble_eq_true rfl)⟩) hP hD hS hA [1] [0, 2, 3] rfl rfl rfl (fun r_1 u_1 H locs hw_1 hP hD hS _ => ?_)
  obtain ⟨t_1, rfl, rfl⟩ := hw_1
  have hP : WP Γ [[(t_1, .inr (15, [.int (nI 0), .int (-1), .int m0, .ref e1]))], [(e1, .inr (11, [.int m0, .ref x0.1, .int (nI n)]))], [(e0, .inr (1, [.ref e1, .ref e2, .ref e3, .ref e4, .ref e5, .int td, .int pk, .int pd]))], (alA Γ x0), (cowsB n ca cv)] H := hP
  have hD : WD A [[(t_1, .inr (15, [.int (nI 0), .int (-1), .int m0, .ref e1]))], [(e1, .inr (11, [.int m0, .ref x0.1, .int (nI n)]))], [(e0, .inr (1, [.ref e1, .ref e2, .ref e3, .ref e4, .ref e5, .int td, .int pk, .int pd]))], (alA Γ x0), (cowsB n ca cv)] := hD
  refine W.eq (g2 := F0 mi_ 9 ls ([.ref t_1])) rfl ?_
  refine lv_astore_n (lv' := [(3, .ref t_1), (2, .int 0), (0, .ref e0), (1, .ref (Γ.2.2 10))]) hx hb dX2_count_9 rfl hl (by decide) rfl (fun ls hl => ?_)
  have hl : lv_has ls 5 [(3, .ref t_1), (2, .int (ctS laV0 cv 0)), (0, .ref e0), (1, .ref (Γ.2.2 10))] := hl
  have loop_2 : ∀ (fuel : Nat) (j : Nat) (lr : Int32), n - j < fuel → (j ≤ n) → ∀ (H : Heap) (locs : List Loc) (ls : Array Slot), WP Γ [[(t_1, .inr (15, [.int (nI j), .int lr, .int m0, .ref e1]))], [(e1, .inr (11, [.int m0, .ref x0.1, .int (nI n)]))], [(e0, .inr (1, [.ref e1, .ref e2, .ref e3, .ref e4, .ref e5, .int td, .int pk, .int pd]))], (alA Γ x0), (cowsB n ca cv)] H → WD A [[(t_1, .inr (15, [.int (nI j), .int lr, .int m0, .ref e1]))], [(e1, .inr (11, [.int m0, .ref x0.1, .int (nI n)]))], [(e0, .inr (1, [.ref e1, .ref e2, .ref e3, .ref e4, .ref e5, .int td, .int pk, .int pd]))], (alA Γ x0), (cowsB n ca cv)] → va_S A s.heap H locs → lv_has ls 5 [(3, .ref t_1), (2, .int (ctS laV0 cv j)), (0, .ref e0), (1, .ref (Γ.2.2 10))] → W pr_ l ev_ { frames := 3, cells := 1, slots := 4, locals := 71 } s mi_ ([.ref e0, .ref (Γ.2.2 10)] : List Value).toArray below meth cd_ H locs 1 4 (MQ below (Qi Γ (fun r_ u_ => r_ = (ctS laV0 cv n) ∧ u_ = [[(e0, .inr (1, [.ref e1, .ref e2, .ref e3, .ref e4, .ref e5, .int td, .int pk, .int pd]))], [(e1, .inr (11, [.int m0, .ref x0.1, .int (nI n)]))], (alA Γ x0), (cowsB n ca cv)]) A) ([.ref e0, .ref (Γ.2.2 10)] : List Value).toArray s 1 4 A) (F0 mi_ 10 ls ([])) := by
    intro fuel
    induction fuel with
    | zero => intro j lr hfuel; exact absurd hfuel (Nat.not_lt_zero _)
    | succ fuel ih =>
      intro j lr hfuel hj H locs ls hP hD hS hl
      refine lv_aload_n hx hb dX2_count_10 rfl (lv_at hl 0 rfl) ?_
      by_cases hjn : j < n
      ·
        refine b_call5i (br := [[(e0, .inr (1, [.ref e1, .ref e2, .ref e3, .ref e4, .ref e5, .int td, .int pk, .int pd]))], (alA Γ x0), (cowsB n ca cv)]) (b_runF (x := ⟨"java/util/Iterator", "hasNext", "()Z"⟩) (hK.1 15 _ rfl).2 ⟨hx, hb, hml, hown, hts⟩ (mt_Itr_hasNext_yes l Γ _ t_1 e1 m0 x0.1 n j lr (by omega) (by omega)) (hE.1.2.1.1 (fwL[1]'(by decide)) (List.getElem_mem _)) q320 q324 q326 q79 q328 rfl rfl 0 ⟨by decide, by decide, by decide +kernel⟩ ⟨(Nat.le_of_ble_eq_true rfl), (Nat.le_of_ble_eq_true rfl)⟩ (c_pre hP hD hS hA hK hE [0, 1] rfl rfl ro_nil) (recv_at (q := (RJ13, TJ13, 4)) hK (b_at (k := 0) hP rfl) rfl) rfl hl.1 rfl (Nat.le_of_ble_eq_true rfl) dX2_count_11 ⟨(Nat.le_of_ble_eq_true rfl), (Nat.le_of_ble_eq_true rfl)⟩) hP hD hS hA [0, 1] [2, 3, 4] rfl rfl rfl (fun r_3 u_3 H locs hw_3 hP hD hS _ => ?_)
        obtain ⟨rfl, rfl⟩ := hw_3
        have hP : WP Γ [[(t_1, .inr (15, [.int (nI j), .int lr, .int m0, .ref e1]))], [(e1, .inr (11, [.int m0, .ref x0.1, .int (nI n)]))], [(e0, .inr (1, [.ref e1, .ref e2, .ref e3, .ref e4, .ref e5, .int td, .int pk, .int pd]))], (alA Γ x0), (cowsB n ca cv)] H := hP
        have hD : WD A [[(t_1, .inr (15, [.int (nI j), .int lr, .int m0, .ref e1]))], [(e1, .inr (11, [.int m0, .ref x0.1, .int (nI n)]))], [(e0, .inr (1, [.ref e1, .ref e2, .ref e3, .ref e4, .ref e5, .int td, .int pk, .int pd]))], (alA Γ x0), (cowsB n ca cv)] := hD
        refine lv_if_eq (tgt := 47) hx hb dX2_count_16 (by decide) (fun c_4 => ?_) (fun c_4 => ?_)
        · -- 16 taken
          have n_4 : 1 = 0 := (nI_eq (by omega) (by omega)).mp (show nI 1 = nI 0 from c_4)
          exact absurd n_4 (by omega)
        · -- 16 not taken
          have n_4 : ¬ (1 = 0) := fun hh7 => c_4 ((nI_eq (a := 1) (b := 0) (by omega) (by omega)).mpr hh7)
          refine lv_aload_n hx hb dX2_count_19 rfl (lv_at hl 0 rfl) ?_
          refine b_call5q (br := [[(e0, .inr (1, [.ref e1, .ref e2, .ref e3, .ref e4, .ref e5, .int td, .int pk, .int pd]))], (cowsB n ca cv)]) (b_runF (x := ⟨"java/util/Iterator", "next", "()Ljava/lang/Object;"⟩) (hK.1 15 _ rfl).2 ⟨hx, hb, hml, hown, hts⟩ (mt_Itr_next l Γ _ t_1 e1 m0 x0 n j lr ca hal0 (by omega)) (hE.1.2.1.1 (fwL[2]'(by decide)) (List.getElem_mem _)) q330 q333 q335 q79 q337 rfl rfl 0 ⟨by decide, by decide, by decide +kernel⟩ ⟨(Nat.le_of_ble_eq_true rfl), (Nat.le_of_ble_eq_true rfl)⟩ (c_pre hP hD hS hA hK hE [0, 1, 3] rfl rfl ro_nil) (recv_at (q := (RJ13, TJ13, 4)) hK (b_at (k := 0) hP rfl) rfl) rfl hl.1 rfl (Nat.le_of_ble_eq_true rfl) dX2_count_20 ⟨(Nat.le_of_ble_eq_true rfl), (Nat.le_of_ble_eq_true rfl)⟩) hP hD hS hA [0, 1, 3] [2, 4] rfl rfl rfl (fun r_5 u_5 H locs hw_5 hP hD hS _ => ?_)
          obtain ⟨rfl, rfl⟩ := hw_5
          have hP : WP Γ [[(t_1, .inr (15, [.int (nI (j + 1)), .int (nI j), .int m0, .ref e1]))], [(e1, .inr (11, [.int m0, .ref x0.1, .int (nI n)]))], (alA Γ x0), [(e0, .inr (1, [.ref e1, .ref e2, .ref e3, .ref e4, .ref e5, .int td, .int pk, .int pd]))], (cowsB n ca cv)] H := hP
          have hD : WD A [[(t_1, .inr (15, [.int (nI (j + 1)), .int (nI j), .int m0, .ref e1]))], [(e1, .inr (11, [.int m0, .ref x0.1, .int (nI n)]))], (alA Γ x0), [(e0, .inr (1, [.ref e1, .ref e2, .ref e3, .ref e4, .ref e5, .int td, .int pk, .int pd]))], (cowsB n ca cv)] := hD
          refine W.eq (g2 := F0 mi_ 25 ls ([.ref (ca j)])) rfl ?_
          have hP : WP Γ [(cowsB n ca cv), [(t_1, .inr (15, [.int (nI (j + 1)), .int (nI j), .int m0, .ref e1]))], [(e1, .inr (11, [.int m0, .ref x0.1, .int (nI n)]))], (alA Γ x0), [(e0, .inr (1, [.ref e1, .ref e2, .ref e3, .ref e4, .ref e5, .int td, .int pk, .int pd]))]] H := bP_sel hP [4, 0, 1, 2, 3] rfl
          have hD : WD A [(cowsB n ca cv), [(t_1, .inr (15, [.int (nI (j + 1)), .int (nI j), .int m0, .ref e1]))], [(e1, .inr (11, [.int m0, .ref x0.1, .int (nI n)]))], (alA Γ x0), [(e0, .inr (1, [.ref e1, .ref e2, .ref e3, .ref e4, .ref e5, .int td, .int pk, .int pd]))]] := bD_sel hD [4, 0, 1, 2, 3] rfl rfl
          have hP : WP Γ [[((ca j), cowE (cv j))], (cowsX n j ca cv), [(t_1, .inr (15, [.int (nI (j + 1)), .int (nI j), .int m0, .ref e1]))], [(e1, .inr (11, [.int m0, .ref x0.1, .int (nI n)]))], (alA Γ x0), [(e0, .inr (1, [.ref e1, .ref e2, .ref e3, .ref e4, .ref e5, .int td, .int pk, .int pd]))]] H := cowP_focus hjn hP
          have hD : WD A [[((ca j), cowE (cv j))], (cowsX n j ca cv), [(t_1, .inr (15, [.int (nI (j + 1)), .int (nI j), .int m0, .ref e1]))], [(e1, .inr (11, [.int m0, .ref x0.1, .int (nI n)]))], (alA Γ x0), [(e0, .inr (1, [.ref e1, .ref e2, .ref e3, .ref e4, .ref e5, .int td, .int pk, .int pd]))]] := cowD_focus hjn hD
          refine va_castS hx hb hown (hts _ q412) (hK.1 4 _ rfl).2 (recv_at (q := (RX5, TX5, 12)) hK (b_at (k := 0) hP rfl) rfl) dX2_count_25 ?_
          refine lv_astore (lv' := [(4, .ref (ca j)), (3, .ref t_1), (2, .int (ctS laV0 cv j)), (0, .ref e0), (1, .ref (Γ.2.2 10))]) hx hb dX2_count_28 hl (by decide) rfl (fun ls hl => ?_)
          refine lv_aload_n hx hb dX2_count_30 rfl (lv_at hl 4 rfl) ?_
          refine lv_aload hx hb dX2_count_31 (lv_at hl 0 rfl) ?_
          refine b_call5i (br := [(cowsX n j ca cv), [(t_1, .inr (15, [.int (nI (j + 1)), .int (nI j), .int m0, .ref e1]))], [(e1, .inr (11, [.int m0, .ref x0.1, .int (nI n)]))], (alA Γ x0), [(e0, .inr (1, [.ref e1, .ref e2, .ref e3, .ref e4, .ref e5, .int td, .int pk, .int pd]))]]) (b_runLam (x := laX) (xi := ⟨"DairyBook$Chosen", "holds", "(LDairyBook$Cow;)Z"⟩) (y := yX2_lambda_account_0) (σ := laS0) (rt := .boolean) (Nat.le_of_ble_eq_true rfl) ⟨hx, hb, hml, hown, hts⟩ (va_La.at hE (by decide) la_0) rfl hS rfl lamC_0 ⟨rfl, rfl, by decide +kernel⟩ ⟨by decide, by decide⟩ q1074 (hE.1.1 _ q1076 rfl) (by decide +kernel) (by decide +kernel) (by decide +kernel) q1067 q1068 q63 (mt_La_0 l Γ _ (ca j) (cv j)) rfl rfl (fun st9 v9 t9 h9 => by obtain ⟨⟨r9, u9, e9, ⟨rfl, -⟩, -⟩, -⟩ := h9; cases e9; exact ⟨_, rfl, laV0_nar _⟩) (c_pre hP hD hS hA hK hE [0] rfl rfl ro_nil) hl.1 dX2_count_33 (Nat.le_of_ble_eq_true rfl) (Nat.le_of_ble_eq_true rfl) ⟨(Nat.le_of_ble_eq_true rfl), (Nat.le_of_ble_eq_true rfl)⟩) hP hD hS hA [0] [1, 2, 3, 4, 5] rfl rfl rfl (fun r_6 u_6 H locs hw_6 hP hD hS _ => ?_)
          obtain ⟨rfl, rfl⟩ := hw_6
          have hP : WP Γ [[((ca j), cowE (cv j))], (cowsX n j ca cv), [(t_1, .inr (15, [.int (nI (j + 1)), .int (nI j), .int m0, .ref e1]))], [(e1, .inr (11, [.int m0, .ref x0.1, .int (nI n)]))], (alA Γ x0), [(e0, .inr (1, [.ref e1, .ref e2, .ref e3, .ref e4, .ref e5, .int td, .int pk, .int pd]))]] H := hP
          have hD : WD A [[((ca j), cowE (cv j))], (cowsX n j ca cv), [(t_1, .inr (15, [.int (nI (j + 1)), .int (nI j), .int m0, .ref e1]))], [(e1, .inr (11, [.int m0, .ref x0.1, .int (nI n)]))], (alA Γ x0), [(e0, .inr (1, [.ref e1, .ref e2, .ref e3, .ref e4, .ref e5, .int td, .int pk, .int pd]))]] := hD
          refine lv_if_eq (tgt := 44) hx hb dX2_count_38 (by decide) (fun c_7 => ?_) (fun c_7 => ?_)
          · -- 38 taken
            have hP : WP Γ [(cowsB n ca (va_up cv j (cv j))), [(t_1, .inr (15, [.int (nI (j + 1)), .int (nI j), .int m0, .ref e1]))], [(e1, .inr (11, [.int m0, .ref x0.1, .int (nI n)]))], (alA Γ x0), [(e0, .inr (1, [.ref e1, .ref e2, .ref e3, .ref e4, .ref e5, .int td, .int pk, .int pd]))]] H := cowP_un hjn hP
            have hD : WD A [(cowsB n ca (va_up cv j (cv j))), [(t_1, .inr (15, [.int (nI (j + 1)), .int (nI j), .int m0, .ref e1]))], [(e1, .inr (11, [.int m0, .ref x0.1, .int (nI n)]))], (alA Γ x0), [(e0, .inr (1, [.ref e1, .ref e2, .ref e3, .ref e4, .ref e5, .int td, .int pk, .int pd]))]] := cowD_un hjn hD
            rw [up_same] at hP hD
            have hl : lv_has ls 5 [(4, .ref (ca j)), (3, .ref t_1), (2, .int (ctS laV0 cv (j + 1))), (0, .ref e0), (1, .ref (Γ.2.2 10))] := by rw [← show (ctS laV0 cv j) = ctS laV0 cv (j + 1) from ctS_0 c_7]; exact hl
            refine lv_goto (tgt := 10) hx hb dX2_count_44 (by decide) ?_
            have hP : WP Γ [[(t_1, .inr (15, [.int (nI (j + 1)), .int (nI j), .int m0, .ref e1]))], [(e1, .inr (11, [.int m0, .ref x0.1, .int (nI n)]))], [(e0, .inr (1, [.ref e1, .ref e2, .ref e3, .ref e4, .ref e5, .int td, .int pk, .int pd]))], (alA Γ x0), (cowsB n ca cv)] H := bP_sel hP [1, 2, 4, 3, 0] rfl
            have hD : WD A [[(t_1, .inr (15, [.int (nI (j + 1)), .int (nI j), .int m0, .ref e1]))], [(e1, .inr (11, [.int m0, .ref x0.1, .int (nI n)]))], [(e0, .inr (1, [.ref e1, .ref e2, .ref e3, .ref e4, .ref e5, .int td, .int pk, .int pd]))], (alA Γ x0), (cowsB n ca cv)] := bD_sel hD [1, 2, 4, 3, 0] rfl rfl
            exact ih (j + 1) (nI j) (by omega) (by omega) _ _ _ hP hD hS (lv_sub hl [1, 2, 3, 4] rfl)
          · -- 38 not taken
            refine lv_iinc (v := ((ctS laV0 cv j) + 1)) (lv' := [(2, .int ((ctS laV0 cv j) + 1)), (4, .ref (ca j)), (3, .ref t_1), (0, .ref e0), (1, .ref (Γ.2.2 10))]) hx hb dX2_count_41 hl (k := 2) rfl (rfl) (by decide) rfl (fun ls hl => ?_)
            have hP : WP Γ [(cowsB n ca (va_up cv j (cv j))), [(t_1, .inr (15, [.int (nI (j + 1)), .int (nI j), .int m0, .ref e1]))], [(e1, .inr (11, [.int m0, .ref x0.1, .int (nI n)]))], (alA Γ x0), [(e0, .inr (1, [.ref e1, .ref e2, .ref e3, .ref e4, .ref e5, .int td, .int pk, .int pd]))]] H := cowP_un hjn hP
            have hD : WD A [(cowsB n ca (va_up cv j (cv j))), [(t_1, .inr (15, [.int (nI (j + 1)), .int (nI j), .int m0, .ref e1]))], [(e1, .inr (11, [.int m0, .ref x0.1, .int (nI n)]))], (alA Γ x0), [(e0, .inr (1, [.ref e1, .ref e2, .ref e3, .ref e4, .ref e5, .int td, .int pk, .int pd]))]] := cowD_un hjn hD
            rw [up_same] at hP hD
            have hl : lv_has ls 5 [(2, .int (ctS laV0 cv (j + 1))), (4, .ref (ca j)), (3, .ref t_1), (0, .ref e0), (1, .ref (Γ.2.2 10))] := by rw [← show ((ctS laV0 cv j) + 1) = ctS laV0 cv (j + 1) from ctS_1 c_7]; exact hl
            refine lv_goto (tgt := 10) hx hb dX2_count_44 (by decide) ?_
            have hP : WP Γ [[(t_1, .inr (15, [.int (nI (j + 1)), .int (nI j), .int m0, .ref e1]))], [(e1, .inr (11, [.int m0, .ref x0.1, .int (nI n)]))], [(e0, .inr (1, [.ref e1, .ref e2, .ref e3, .ref e4, .ref e5, .int td, .int pk, .int pd]))], (alA Γ x0), (cowsB n ca cv)] H := bP_sel hP [1, 2, 4, 3, 0] rfl
            have hD : WD A [[(t_1, .inr (15, [.int (nI (j + 1)), .int (nI j), .int m0, .ref e1]))], [(e1, .inr (11, [.int m0, .ref x0.1, .int (nI n)]))], [(e0, .inr (1, [.ref e1, .ref e2, .ref e3, .ref e4, .ref e5, .int td, .int pk, .int pd]))], (alA Γ x0), (cowsB n ca cv)] := bD_sel hD [1, 2, 4, 3, 0] rfl rfl
            exact ih (j + 1) (nI j) (by omega) (by omega) _ _ _ hP hD hS (lv_sub hl [2, 0, 3, 4] rfl)
      ·
        refine b_call5i (br := [[(e0, .inr (1, [.ref e1, .ref e2, .ref e3, .ref e4, .ref e5, .int td, .int pk, .int pd]))], (alA Γ x0), (cowsB n ca cv)]) (b_runF (x := ⟨"java/util/Iterator", "hasNext", "()Z"⟩) (hK.1 15 _ rfl).2 ⟨hx, hb, hml, hown, hts⟩ (mt_Itr_hasNext_no l Γ _ t_1 e1 m0 x0.1 n j lr (by omega) (by omega)) (hE.1.2.1.1 (fwL[1]'(by decide)) (List.getElem_mem _)) q320 q324 q326 q79 q328 rfl rfl 0 ⟨by decide, by decide, by decide +kernel⟩ ⟨(Nat.le_of_ble_eq_true rfl), (Nat.le_of_ble_eq_true rfl)⟩ (c_pre hP hD hS hA hK hE [0, 1] rfl rfl ro_nil) (recv_at (q := (RJ13, TJ13, 4)) hK (b_at (k := 0) hP rfl) rfl) rfl hl.1 rfl (Nat.le_of_ble_eq_true rfl) dX2_count_11 ⟨(Nat.le_of_ble_eq_true rfl), (Nat.le_of_ble_eq_true rfl)⟩) hP hD hS hA [0, 1] [2, 3, 4] rfl rfl rfl (fun r_8 u_8 H locs hw_8 hP hD hS _ => ?_)
        obtain ⟨rfl, rfl⟩ := hw_8
        have hP : WP Γ [[(t_1, .inr (15, [.int (nI j), .int lr, .int m0, .ref e1]))], [(e1, .inr (11, [.int m0, .ref x0.1, .int (nI n)]))], [(e0, .inr (1, [.ref e1, .ref e2, .ref e3, .ref e4, .ref e5, .int td, .int pk, .int pd]))], (alA Γ x0), (cowsB n ca cv)] H := hP
        have hD : WD A [[(t_1, .inr (15, [.int (nI j), .int lr, .int m0, .ref e1]))], [(e1, .inr (11, [.int m0, .ref x0.1, .int (nI n)]))], [(e0, .inr (1, [.ref e1, .ref e2, .ref e3, .ref e4, .ref e5, .int td, .int pk, .int pd]))], (alA Γ x0), (cowsB n ca cv)] := hD
        refine lv_if_eq (tgt := 47) hx hb dX2_count_16 (by decide) (fun c_9 => ?_) (fun c_9 => ?_)
        · -- 16 taken
          have n_9 : 0 = 0 := (nI_eq (by omega) (by omega)).mp (show nI 0 = nI 0 from c_9)
          refine lv_iload_n hx hb dX2_count_47 rfl (lv_at hl 1 rfl) ?_
          have hP : WP Γ [[(e0, .inr (1, [.ref e1, .ref e2, .ref e3, .ref e4, .ref e5, .int td, .int pk, .int pd]))], [(e1, .inr (11, [.int m0, .ref x0.1, .int (nI n)]))], (alA Γ x0), (cowsB n ca cv)] H := bP_sel hP [2, 1, 3, 4] rfl
          have hD : WD A [[(e0, .inr (1, [.ref e1, .ref e2, .ref e3, .ref e4, .ref e5, .int td, .int pk, .int pd]))], [(e1, .inr (11, [.int m0, .ref x0.1, .int (nI n)]))], (alA Γ x0), (cowsB n ca cv)] := bD_sel hD [2, 1, 3, 4] rfl rfl
          exact b_iret hx hb hr hlocks hP hD hS (Nat.le_of_ble_eq_true rfl) (Nat.le_of_ble_eq_true rfl) ⟨(by rw [show n = j by omega]), (by first | with_reducible rfl | (simp [hjn, n_9]; done) | rfl)⟩ dX2_count_48
        · -- 16 not taken
          have n_9 : ¬ (0 = 0) := fun hh7 => c_9 ((nI_eq (a := 0) (b := 0) (by omega) (by omega)).mpr hh7)
          exact absurd n_9 (by omega)
  exact loop_2 ((n - 0) + 1) 0 (-1) (Nat.lt_succ_self _) (Nat.zero_le _) _ _ _ hP hD hS (lv_sub hl [0, 1, 2, 3] rfl)
set_option maxHeartbeats 4000000 in
set_option maxRecDepth 100000 in
theorem mt_Hd_count_1 (l : Launch) (Γ : GE) (sz : Nat) (e0 : Nat) (e1 : Nat) (e2 : Nat) (e3 : Nat) (e4 : Nat) (e5 : Nat) (td : Int32) (pk : Int32) (pd : Int32) (x0 : LST) (m0 : Int32) (n : Nat) (ca : Nat → Nat) (cv : Nat → Nat → Int32) (hal0 : alI Γ x0 n ca) (hn8 : n ≤ 8) : KM l yX2_count cX2_count 5 (some FieldType.int) Γ 3 71 1 4 [.ref e0, .ref (Γ.2.2 11)] [[(e0, .inr (1, [.ref e1, .ref e2, .ref e3, .ref e4, .ref e5, .int td, .int pk, .int pd]))], [(e1, .inr (11, [.int m0, .ref x0.1, .int (nI n)]))], (alA Γ x0), (cowsB n ca cv)] [] sz (Qi Γ (fun r_ u_ => r_ = (ctS laV1 cv n) ∧ u_ = [[(e0, .inr (1, [.ref e1, .ref e2, .ref e3, .ref e4, .ref e5, .int td, .int pk, .int pd]))], [(e1, .inr (11, [.int m0, .ref x0.1, .int (nI n)]))], (alA Γ x0), (cowsB n ca cv)])) := by
  refine K_intro (by decide) (Nat.le_of_ble_eq_true rfl) ?_
  intro pr_ ev_ s mi_ below meth cd_ A ls hx hb hr hml hown hts hlocks hname hK hE hRo hP hD hA hS hsz hl
  have hl : lv_has ls 5 [(0, .ref e0), (1, .ref (Γ.2.2 11))] := hl
  have hown : s.vm.findClass RX2 = some mi_.cls := hown
  refine lv_iconst (v := 0) hx hb dX2_count_0 (by decide) ?_
  refine lv_istore_n (lv' := [(2, .int 0), (0, .ref e0), (1, .ref (Γ.2.2 11))]) hx hb dX2_count_1 rfl hl (by decide) rfl (fun ls hl => ?_)
  refine lv_aload_n hx hb dX2_count_2 rfl (lv_at hl 1 rfl) ?_
  refine b_get (C := RX2) (T := TX2) (N := 8) (v := .ref e1) hx hb hts in_X2 hown hK (b_at (k := 0) hP rfl) rfl 0 (by decide) q163 (fun _ h9 => h9) rfl dX2_count_3 ?_
  refine b_callq (br := [[(e0, .inr (1, [.ref e1, .ref e2, .ref e3, .ref e4, .ref e5, .int td, .int pk, .int pd]))], (alA Γ x0), (cowsB n ca cv)]) (b_runV ⟨hx, hb, hml, hown, hts⟩ (mt_AL_iterator l Γ _ e1 m0 x0.1 n) (lw_V q296 q297 q298 q66 q299) rfl rfl 0 (by decide +kernel) ⟨(Nat.le_of_ble_eq_true rfl), (Nat.le_of_ble_eq_true rfl)⟩ (c_pre hP hD hS hA hK hE [1] rfl rfl ro_nil) (recv_at (q := (RJ2, TJ2, 3)) hK (b_at (k := 1) hP rfl) rfl) rfl hl.1 rfl (Nat.le_of_ble_eq_true rfl) dX2_count_6 ⟨(Nat.le_of_ble_eq_true rfl), (Nat.le_of_ble_eq_true rfl)⟩) hP hD hS hA [1] [0, 2, 3] rfl rfl rfl (fun r_1 u_1 H locs hw_1 hP hD hS _ => ?_)
  obtain ⟨t_1, rfl, rfl⟩ := hw_1
  have hP : WP Γ [[(t_1, .inr (15, [.int (nI 0), .int (-1), .int m0, .ref e1]))], [(e1, .inr (11, [.int m0, .ref x0.1, .int (nI n)]))], [(e0, .inr (1, [.ref e1, .ref e2, .ref e3, .ref e4, .ref e5, .int td, .int pk, .int pd]))], (alA Γ x0), (cowsB n ca cv)] H := hP
  have hD : WD A [[(t_1, .inr (15, [.int (nI 0), .int (-1), .int m0, .ref e1]))], [(e1, .inr (11, [.int m0, .ref x0.1, .int (nI n)]))], [(e0, .inr (1, [.ref e1, .ref e2, .ref e3, .ref e4, .ref e5, .int td, .int pk, .int pd]))], (alA Γ x0), (cowsB n ca cv)] := hD
  refine W.eq (g2 := F0 mi_ 9 ls ([.ref t_1])) rfl ?_
  refine lv_astore_n (lv' := [(3, .ref t_1), (2, .int 0), (0, .ref e0), (1, .ref (Γ.2.2 11))]) hx hb dX2_count_9 rfl hl (by decide) rfl (fun ls hl => ?_)
  have hl : lv_has ls 5 [(3, .ref t_1), (2, .int (ctS laV1 cv 0)), (0, .ref e0), (1, .ref (Γ.2.2 11))] := hl
  have loop_2 : ∀ (fuel : Nat) (j : Nat) (lr : Int32), n - j < fuel → (j ≤ n) → ∀ (H : Heap) (locs : List Loc) (ls : Array Slot), WP Γ [[(t_1, .inr (15, [.int (nI j), .int lr, .int m0, .ref e1]))], [(e1, .inr (11, [.int m0, .ref x0.1, .int (nI n)]))], [(e0, .inr (1, [.ref e1, .ref e2, .ref e3, .ref e4, .ref e5, .int td, .int pk, .int pd]))], (alA Γ x0), (cowsB n ca cv)] H → WD A [[(t_1, .inr (15, [.int (nI j), .int lr, .int m0, .ref e1]))], [(e1, .inr (11, [.int m0, .ref x0.1, .int (nI n)]))], [(e0, .inr (1, [.ref e1, .ref e2, .ref e3, .ref e4, .ref e5, .int td, .int pk, .int pd]))], (alA Γ x0), (cowsB n ca cv)] → va_S A s.heap H locs → lv_has ls 5 [(3, .ref t_1), (2, .int (ctS laV1 cv j)), (0, .ref e0), (1, .ref (Γ.2.2 11))] → W pr_ l ev_ { frames := 3, cells := 1, slots := 4, locals := 71 } s mi_ ([.ref e0, .ref (Γ.2.2 11)] : List Value).toArray below meth cd_ H locs 1 4 (MQ below (Qi Γ (fun r_ u_ => r_ = (ctS laV1 cv n) ∧ u_ = [[(e0, .inr (1, [.ref e1, .ref e2, .ref e3, .ref e4, .ref e5, .int td, .int pk, .int pd]))], [(e1, .inr (11, [.int m0, .ref x0.1, .int (nI n)]))], (alA Γ x0), (cowsB n ca cv)]) A) ([.ref e0, .ref (Γ.2.2 11)] : List Value).toArray s 1 4 A) (F0 mi_ 10 ls ([])) := by
    intro fuel
    induction fuel with
    | zero => intro j lr hfuel; exact absurd hfuel (Nat.not_lt_zero _)
    | succ fuel ih =>
      intro j lr hfuel hj H locs ls hP hD hS hl
      refine lv_aload_n hx hb dX2_count_10 rfl (lv_at hl 0 rfl) ?_
      by_cases hjn : j < n
      ·
        refine b_call5i (br := [[(e0, .inr (1, [.ref e1, .ref e2, .ref e3, .ref e4, .ref e5, .int td, .int pk, .int pd]))], (alA Γ x0), (cowsB n ca cv)]) (b_runF (x := ⟨"java/util/Iterator", "hasNext", "()Z"⟩) (hK.1 15 _ rfl).2 ⟨hx, hb, hml, hown, hts⟩ (mt_Itr_hasNext_yes l Γ _ t_1 e1 m0 x0.1 n j lr (by omega) (by omega)) (hE.1.2.1.1 (fwL[1]'(by decide)) (List.getElem_mem _)) q320 q324 q326 q79 q328 rfl rfl 0 ⟨by decide, by decide, by decide +kernel⟩ ⟨(Nat.le_of_ble_eq_true rfl), (Nat.le_of_ble_eq_true rfl)⟩ (c_pre hP hD hS hA hK hE [0, 1] rfl rfl ro_nil) (recv_at (q := (RJ13, TJ13, 4)) hK (b_at (k := 0) hP rfl) rfl) rfl hl.1 rfl (Nat.le_of_ble_eq_true rfl) dX2_count_11 ⟨(Nat.le_of_ble_eq_true rfl), (Nat.le_of_ble_eq_true rfl)⟩) hP hD hS hA [0, 1] [2, 3, 4] rfl rfl rfl (fun r_3 u_3 H locs hw_3 hP hD hS _ => ?_)
        obtain ⟨rfl, rfl⟩ := hw_3
        have hP : WP Γ [[(t_1, .inr (15, [.int (nI j), .int lr, .int m0, .ref e1]))], [(e1, .inr (11, [.int m0, .ref x0.1, .int (nI n)]))], [(e0, .inr (1, [.ref e1, .ref e2, .ref e3, .ref e4, .ref e5, .int td, .int pk, .int pd]))], (alA Γ x0), (cowsB n ca cv)] H := hP
        have hD : WD A [[(t_1, .inr (15, [.int (nI j), .int lr, .int m0, .ref e1]))], [(e1, .inr (11, [.int m0, .ref x0.1, .int (nI n)]))], [(e0, .inr (1, [.ref e1, .ref e2, .ref e3, .ref e4, .ref e5, .int td, .int pk, .int pd]))], (alA Γ x0), (cowsB n ca cv)] := hD
        refine lv_if_eq (tgt := 47) hx hb dX2_count_16 (by decide) (fun c_4 => ?_) (fun c_4 => ?_)
        · -- 16 taken
          have n_4 : 1 = 0 := (nI_eq (by omega) (by omega)).mp (show nI 1 = nI 0 from c_4)
          exact absurd n_4 (by omega)
        · -- 16 not taken
          have n_4 : ¬ (1 = 0) := fun hh7 => c_4 ((nI_eq (a := 1) (b := 0) (by omega) (by omega)).mpr hh7)
          refine lv_aload_n hx hb dX2_count_19 rfl (lv_at hl 0 rfl) ?_
          refine b_call5q (br := [[(e0, .inr (1, [.ref e1, .ref e2, .ref e3, .ref e4, .ref e5, .int td, .int pk, .int pd]))], (cowsB n ca cv)]) (b_runF (x := ⟨"java/util/Iterator", "next", "()Ljava/lang/Object;"⟩) (hK.1 15 _ rfl).2 ⟨hx, hb, hml, hown, hts⟩ (mt_Itr_next l Γ _ t_1 e1 m0 x0 n j lr ca hal0 (by omega)) (hE.1.2.1.1 (fwL[2]'(by decide)) (List.getElem_mem _)) q330 q333 q335 q79 q337 rfl rfl 0 ⟨by decide, by decide, by decide +kernel⟩ ⟨(Nat.le_of_ble_eq_true rfl), (Nat.le_of_ble_eq_true rfl)⟩ (c_pre hP hD hS hA hK hE [0, 1, 3] rfl rfl ro_nil) (recv_at (q := (RJ13, TJ13, 4)) hK (b_at (k := 0) hP rfl) rfl) rfl hl.1 rfl (Nat.le_of_ble_eq_true rfl) dX2_count_20 ⟨(Nat.le_of_ble_eq_true rfl), (Nat.le_of_ble_eq_true rfl)⟩) hP hD hS hA [0, 1, 3] [2, 4] rfl rfl rfl (fun r_5 u_5 H locs hw_5 hP hD hS _ => ?_)
          obtain ⟨rfl, rfl⟩ := hw_5
          have hP : WP Γ [[(t_1, .inr (15, [.int (nI (j + 1)), .int (nI j), .int m0, .ref e1]))], [(e1, .inr (11, [.int m0, .ref x0.1, .int (nI n)]))], (alA Γ x0), [(e0, .inr (1, [.ref e1, .ref e2, .ref e3, .ref e4, .ref e5, .int td, .int pk, .int pd]))], (cowsB n ca cv)] H := hP
          have hD : WD A [[(t_1, .inr (15, [.int (nI (j + 1)), .int (nI j), .int m0, .ref e1]))], [(e1, .inr (11, [.int m0, .ref x0.1, .int (nI n)]))], (alA Γ x0), [(e0, .inr (1, [.ref e1, .ref e2, .ref e3, .ref e4, .ref e5, .int td, .int pk, .int pd]))], (cowsB n ca cv)] := hD
          refine W.eq (g2 := F0 mi_ 25 ls ([.ref (ca j)])) rfl ?_
          have hP : WP Γ [(cowsB n ca cv), [(t_1, .inr (15, [.int (nI (j + 1)), .int (nI j), .int m0, .ref e1]))], [(e1, .inr (11, [.int m0, .ref x0.1, .int (nI n)]))], (alA Γ x0), [(e0, .inr (1, [.ref e1, .ref e2, .ref e3, .ref e4, .ref e5, .int td, .int pk, .int pd]))]] H := bP_sel hP [4, 0, 1, 2, 3] rfl
          have hD : WD A [(cowsB n ca cv), [(t_1, .inr (15, [.int (nI (j + 1)), .int (nI j), .int m0, .ref e1]))], [(e1, .inr (11, [.int m0, .ref x0.1, .int (nI n)]))], (alA Γ x0), [(e0, .inr (1, [.ref e1, .ref e2, .ref e3, .ref e4, .ref e5, .int td, .int pk, .int pd]))]] := bD_sel hD [4, 0, 1, 2, 3] rfl rfl
          have hP : WP Γ [[((ca j), cowE (cv j))], (cowsX n j ca cv), [(t_1, .inr (15, [.int (nI (j + 1)), .int (nI j), .int m0, .ref e1]))], [(e1, .inr (11, [.int m0, .ref x0.1, .int (nI n)]))], (alA Γ x0), [(e0, .inr (1, [.ref e1, .ref e2, .ref e3, .ref e4, .ref e5, .int td, .int pk, .int pd]))]] H := cowP_focus hjn hP
          have hD : WD A [[((ca j), cowE (cv j))], (cowsX n j ca cv), [(t_1, .inr (15, [.int (nI (j + 1)), .int (nI j), .int m0, .ref e1]))], [(e1, .inr (11, [.int m0, .ref x0.1, .int (nI n)]))], (alA Γ x0), [(e0, .inr (1, [.ref e1, .ref e2, .ref e3, .ref e4, .ref e5, .int td, .int pk, .int pd]))]] := cowD_focus hjn hD
          refine va_castS hx hb hown (hts _ q412) (hK.1 4 _ rfl).2 (recv_at (q := (RX5, TX5, 12)) hK (b_at (k := 0) hP rfl) rfl) dX2_count_25 ?_
          refine lv_astore (lv' := [(4, .ref (ca j)), (3, .ref t_1), (2, .int (ctS laV1 cv j)), (0, .ref e0), (1, .ref (Γ.2.2 11))]) hx hb dX2_count_28 hl (by decide) rfl (fun ls hl => ?_)
          refine lv_aload_n hx hb dX2_count_30 rfl (lv_at hl 4 rfl) ?_
          refine lv_aload hx hb dX2_count_31 (lv_at hl 0 rfl) ?_
          refine b_call5i (br := [(cowsX n j ca cv), [(t_1, .inr (15, [.int (nI (j + 1)), .int (nI j), .int m0, .ref e1]))], [(e1, .inr (11, [.int m0, .ref x0.1, .int (nI n)]))], (alA Γ x0), [(e0, .inr (1, [.ref e1, .ref e2, .ref e3, .ref e4, .ref e5, .int td, .int pk, .int pd]))]]) (b_runLam (x := laX) (xi := ⟨"DairyBook$Chosen", "holds", "(LDairyBook$Cow;)Z"⟩) (y := yX2_lambda_account_1) (σ := laS1) (rt := .boolean) (Nat.le_of_ble_eq_true rfl) ⟨hx, hb, hml, hown, hts⟩ (va_La.at hE (by decide) la_1) rfl hS rfl lamC_1 ⟨rfl, rfl, by decide +kernel⟩ ⟨by decide, by decide⟩ q1074 (hE.1.1 _ q1076 rfl) (by decide +kernel) (by decide +kernel) (by decide +kernel) q1077 q1078 q63 (mt_La_1 l Γ _ (ca j) (cv j)) rfl rfl (fun st9 v9 t9 h9 => by obtain ⟨⟨r9, u9, e9, ⟨rfl, -⟩, -⟩, -⟩ := h9; cases e9; exact ⟨_, rfl, laV1_nar _⟩) (c_pre hP hD hS hA hK hE [0] rfl rfl ro_nil) hl.1 dX2_count_33 (Nat.le_of_ble_eq_true rfl) (Nat.le_of_ble_eq_true rfl) ⟨(Nat.le_of_ble_eq_true rfl), (Nat.le_of_ble_eq_true rfl)⟩) hP hD hS hA [0] [1, 2, 3, 4, 5] rfl rfl rfl (fun r_6 u_6 H locs hw_6 hP hD hS _ => ?_)
          obtain ⟨rfl, rfl⟩ := hw_6
          have hP : WP Γ [[((ca j), cowE (cv j))], (cowsX n j ca cv), [(t_1, .inr (15, [.int (nI (j + 1)), .int (nI j), .int m0, .ref e1]))], [(e1, .inr (11, [.int m0, .ref x0.1, .int (nI n)]))], (alA Γ x0), [(e0, .inr (1, [.ref e1, .ref e2, .ref e3, .ref e4, .ref e5, .int td, .int pk, .int pd]))]] H := hP
          have hD : WD A [[((ca j), cowE (cv j))], (cowsX n j ca cv), [(t_1, .inr (15, [.int (nI (j + 1)), .int (nI j), .int m0, .ref e1]))], [(e1, .inr (11, [.int m0, .ref x0.1, .int (nI n)]))], (alA Γ x0), [(e0, .inr (1, [.ref e1, .ref e2, .ref e3, .ref e4, .ref e5, .int td, .int pk, .int pd]))]] := hD
          refine lv_if_eq (tgt := 44) hx hb dX2_count_38 (by decide) (fun c_7 => ?_) (fun c_7 => ?_)
          · -- 38 taken
            have hP : WP Γ [(cowsB n ca (va_up cv j (cv j))), [(t_1, .inr (15, [.int (nI (j + 1)), .int (nI j), .int m0, .ref e1]))], [(e1, .inr (11, [.int m0, .ref x0.1, .int (nI n)]))], (alA Γ x0), [(e0, .inr (1, [.ref e1, .ref e2, .ref e3, .ref e4, .ref e5, .int td, .int pk, .int pd]))]] H := cowP_un hjn hP
            have hD : WD A [(cowsB n ca (va_up cv j (cv j))), [(t_1, .inr (15, [.int (nI (j + 1)), .int (nI j), .int m0, .ref e1]))], [(e1, .inr (11, [.int m0, .ref x0.1, .int (nI n)]))], (alA Γ x0), [(e0, .inr (1, [.ref e1, .ref e2, .ref e3, .ref e4, .ref e5, .int td, .int pk, .int pd]))]] := cowD_un hjn hD
            rw [up_same] at hP hD
            have hl : lv_has ls 5 [(4, .ref (ca j)), (3, .ref t_1), (2, .int (ctS laV1 cv (j + 1))), (0, .ref e0), (1, .ref (Γ.2.2 11))] := by rw [← show (ctS laV1 cv j) = ctS laV1 cv (j + 1) from ctS_0 c_7]; exact hl
            refine lv_goto (tgt := 10) hx hb dX2_count_44 (by decide) ?_
            have hP : WP Γ [[(t_1, .inr (15, [.int (nI (j + 1)), .int (nI j), .int m0, .ref e1]))], [(e1, .inr (11, [.int m0, .ref x0.1, .int (nI n)]))], [(e0, .inr (1, [.ref e1, .ref e2, .ref e3, .ref e4, .ref e5, .int td, .int pk, .int pd]))], (alA Γ x0), (cowsB n ca cv)] H := bP_sel hP [1, 2, 4, 3, 0] rfl
            have hD : WD A [[(t_1, .inr (15, [.int (nI (j + 1)), .int (nI j), .int m0, .ref e1]))], [(e1, .inr (11, [.int m0, .ref x0.1, .int (nI n)]))], [(e0, .inr (1, [.ref e1, .ref e2, .ref e3, .ref e4, .ref e5, .int td, .int pk, .int pd]))], (alA Γ x0), (cowsB n ca cv)] := bD_sel hD [1, 2, 4, 3, 0] rfl rfl
            exact ih (j + 1) (nI j) (by omega) (by omega) _ _ _ hP hD hS (lv_sub hl [1, 2, 3, 4] rfl)
          · -- 38 not taken
            refine lv_iinc (v := ((ctS laV1 cv j) + 1)) (lv' := [(2, .int ((ctS laV1 cv j) + 1)), (4, .ref (ca j)), (3, .ref t_1), (0, .ref e0), (1, .ref (Γ.2.2 11))]) hx hb dX2_count_41 hl (k := 2) rfl (rfl) (by decide) rfl (fun ls hl => ?_)
            have hP : WP Γ [(cowsB n ca (va_up cv j (cv j))), [(t_1, .inr (15, [.int (nI (j + 1)), .int (nI j), .int m0, .ref e1]))], [(e1, .inr (11, [.int m0, .ref x0.1, .int (nI n)]))], (alA Γ x0), [(e0, .inr (1, [.ref e1, .ref e2, .ref e3, .ref e4, .ref e5, .int td, .int pk, .int pd]))]] H := cowP_un hjn hP
            have hD : WD A [(cowsB n ca (va_up cv j (cv j))), [(t_1, .inr (15, [.int (nI (j + 1)), .int (nI j), .int m0, .ref e1]))], [(e1, .inr (11, [.int m0, .ref x0.1, .int (nI n)]))], (alA Γ x0), [(e0, .inr (1, [.ref e1, .ref e2, .ref e3, .ref e4, .ref e5, .int td, .int pk, .int pd]))]] := cowD_un hjn hD
            rw [up_same] at hP hD
            have hl : lv_has ls 5 [(2, .int (ctS laV1 cv (j + 1))), (4, .ref (ca j)), (3, .ref t_1), (0, .ref e0), (1, .ref (Γ.2.2 11))] := by rw [← show ((ctS laV1 cv j) + 1) = ctS laV1 cv (j + 1) from ctS_1 c_7]; exact hl
            refine lv_goto (tgt := 10) hx hb dX2_count_44 (by decide) ?_
            have hP : WP Γ [[(t_1, .inr (15, [.int (nI (j + 1)), .int (nI j), .int m0, .ref e1]))], [(e1, .inr (11, [.int m0, .ref x0.1, .int (nI n)]))], [(e0, .inr (1, [.ref e1, .ref e2, .ref e3, .ref e4, .ref e5, .int td, .int pk, .int pd]))], (alA Γ x0), (cowsB n ca cv)] H := bP_sel hP [1, 2, 4, 3, 0] rfl
            have hD : WD A [[(t_1, .inr (15, [.int (nI (j + 1)), .int (nI j), .int m0, .ref e1]))], [(e1, .inr (11, [.int m0, .ref x0.1, .int (nI n)]))], [(e0, .inr (1, [.ref e1, .ref e2, .ref e3, .ref e4, .ref e5, .int td, .int pk, .int pd]))], (alA Γ x0), (cowsB n ca cv)] := bD_sel hD [1, 2, 4, 3, 0] rfl rfl
            exact ih (j + 1) (nI j) (by omega) (by omega) _ _ _ hP hD hS (lv_sub hl [2, 0, 3, 4] rfl)
      ·
        refine b_call5i (br := [[(e0, .inr (1, [.ref e1, .ref e2, .ref e3, .ref e4, .ref e5, .int td, .int pk, .int pd]))], (alA Γ x0), (cowsB n ca cv)]) (b_runF (x := ⟨"java/util/Iterator", "hasNext", "()Z"⟩) (hK.1 15 _ rfl).2 ⟨hx, hb, hml, hown, hts⟩ (mt_Itr_hasNext_no l Γ _ t_1 e1 m0 x0.1 n j lr (by omega) (by omega)) (hE.1.2.1.1 (fwL[1]'(by decide)) (List.getElem_mem _)) q320 q324 q326 q79 q328 rfl rfl 0 ⟨by decide, by decide, by decide +kernel⟩ ⟨(Nat.le_of_ble_eq_true rfl), (Nat.le_of_ble_eq_true rfl)⟩ (c_pre hP hD hS hA hK hE [0, 1] rfl rfl ro_nil) (recv_at (q := (RJ13, TJ13, 4)) hK (b_at (k := 0) hP rfl) rfl) rfl hl.1 rfl (Nat.le_of_ble_eq_true rfl) dX2_count_11 ⟨(Nat.le_of_ble_eq_true rfl), (Nat.le_of_ble_eq_true rfl)⟩) hP hD hS hA [0, 1] [2, 3, 4] rfl rfl rfl (fun r_8 u_8 H locs hw_8 hP hD hS _ => ?_)
        obtain ⟨rfl, rfl⟩ := hw_8
        have hP : WP Γ [[(t_1, .inr (15, [.int (nI j), .int lr, .int m0, .ref e1]))], [(e1, .inr (11, [.int m0, .ref x0.1, .int (nI n)]))], [(e0, .inr (1, [.ref e1, .ref e2, .ref e3, .ref e4, .ref e5, .int td, .int pk, .int pd]))], (alA Γ x0), (cowsB n ca cv)] H := hP
        have hD : WD A [[(t_1, .inr (15, [.int (nI j), .int lr, .int m0, .ref e1]))], [(e1, .inr (11, [.int m0, .ref x0.1, .int (nI n)]))], [(e0, .inr (1, [.ref e1, .ref e2, .ref e3, .ref e4, .ref e5, .int td, .int pk, .int pd]))], (alA Γ x0), (cowsB n ca cv)] := hD
        refine lv_if_eq (tgt := 47) hx hb dX2_count_16 (by decide) (fun c_9 => ?_) (fun c_9 => ?_)
        · -- 16 taken
          have n_9 : 0 = 0 := (nI_eq (by omega) (by omega)).mp (show nI 0 = nI 0 from c_9)
          refine lv_iload_n hx hb dX2_count_47 rfl (lv_at hl 1 rfl) ?_
          have hP : WP Γ [[(e0, .inr (1, [.ref e1, .ref e2, .ref e3, .ref e4, .ref e5, .int td, .int pk, .int pd]))], [(e1, .inr (11, [.int m0, .ref x0.1, .int (nI n)]))], (alA Γ x0), (cowsB n ca cv)] H := bP_sel hP [2, 1, 3, 4] rfl
          have hD : WD A [[(e0, .inr (1, [.ref e1, .ref e2, .ref e3, .ref e4, .ref e5, .int td, .int pk, .int pd]))], [(e1, .inr (11, [.int m0, .ref x0.1, .int (nI n)]))], (alA Γ x0), (cowsB n ca cv)] := bD_sel hD [2, 1, 3, 4] rfl rfl
          exact b_iret hx hb hr hlocks hP hD hS (Nat.le_of_ble_eq_true rfl) (Nat.le_of_ble_eq_true rfl) ⟨(by rw [show n = j by omega]), (by first | with_reducible rfl | (simp [hjn, n_9]; done) | rfl)⟩ dX2_count_48
        · -- 16 not taken
          have n_9 : ¬ (0 = 0) := fun hh7 => c_9 ((nI_eq (a := 0) (b := 0) (by omega) (by omega)).mpr hh7)
          exact absurd n_9 (by omega)
  exact loop_2 ((n - 0) + 1) 0 (-1) (Nat.lt_succ_self _) (Nat.zero_le _) _ _ _ hP hD hS (lv_sub hl [0, 1, 2, 3] rfl)
set_option maxHeartbeats 4000000 in
set_option maxRecDepth 100000 in
theorem mt_Hd_count_2 (l : Launch) (Γ : GE) (sz : Nat) (e0 : Nat) (e1 : Nat) (e2 : Nat) (e3 : Nat) (e4 : Nat) (e5 : Nat) (td : Int32) (pk : Int32) (pd : Int32) (x0 : LST) (m0 : Int32) (n : Nat) (ca : Nat → Nat) (cv : Nat → Nat → Int32) (hal0 : alI Γ x0 n ca) (hn8 : n ≤ 8) : KM l yX2_count cX2_count 5 (some FieldType.int) Γ 3 71 1 4 [.ref e0, .ref (Γ.2.2 12)] [[(e0, .inr (1, [.ref e1, .ref e2, .ref e3, .ref e4, .ref e5, .int td, .int pk, .int pd]))], [(e1, .inr (11, [.int m0, .ref x0.1, .int (nI n)]))], (alA Γ x0), (cowsB n ca cv)] [] sz (Qi Γ (fun r_ u_ => r_ = (ctS laV2 cv n) ∧ u_ = [[(e0, .inr (1, [.ref e1, .ref e2, .ref e3, .ref e4, .ref e5, .int td, .int pk, .int pd]))], [(e1, .inr (11, [.int m0, .ref x0.1, .int (nI n)]))], (alA Γ x0), (cowsB n ca cv)])) := by
  refine K_intro (by decide) (Nat.le_of_ble_eq_true rfl) ?_
  intro pr_ ev_ s mi_ below meth cd_ A ls hx hb hr hml hown hts hlocks hname hK hE hRo hP hD hA hS hsz hl
  have hl : lv_has ls 5 [(0, .ref e0), (1, .ref (Γ.2.2 12))] := hl
  have hown : s.vm.findClass RX2 = some mi_.cls := hown
  refine lv_iconst (v := 0) hx hb dX2_count_0 (by decide) ?_
  refine lv_istore_n (lv' := [(2, .int 0), (0, .ref e0), (1, .ref (Γ.2.2 12))]) hx hb dX2_count_1 rfl hl (by decide) rfl (fun ls hl => ?_)
  refine lv_aload_n hx hb dX2_count_2 rfl (lv_at hl 1 rfl) ?_
  refine b_get (C := RX2) (T := TX2) (N := 8) (v := .ref e1) hx hb hts in_X2 hown hK (b_at (k := 0) hP rfl) rfl 0 (by decide) q163 (fun _ h9 => h9) rfl dX2_count_3 ?_
  refine b_callq (br := [[(e0, .inr (1, [.ref e1, .ref e2, .ref e3, .ref e4, .ref e5, .int td, .int pk, .int pd]))], (alA Γ x0), (cowsB n ca cv)]) (b_runV ⟨hx, hb, hml, hown, hts⟩ (mt_AL_iterator l Γ _ e1 m0 x0.1 n) (lw_V q296 q297 q298 q66 q299) rfl rfl 0 (by decide +kernel) ⟨(Nat.le_of_ble_eq_true rfl), (Nat.le_of_ble_eq_true rfl)⟩ (c_pre hP hD hS hA hK hE [1] rfl rfl ro_nil) (recv_at (q := (RJ2, TJ2, 3)) hK (b_at (k := 1) hP rfl) rfl) rfl hl.1 rfl (Nat.le_of_ble_eq_true rfl) dX2_count_6 ⟨(Nat.le_of_ble_eq_true rfl), (Nat.le_of_ble_eq_true rfl)⟩) hP hD hS hA [1] [0, 2, 3] rfl rfl rfl (fun r_1 u_1 H locs hw_1 hP hD hS _ => ?_)
  obtain ⟨t_1, rfl, rfl⟩ := hw_1
  have hP : WP Γ [[(t_1, .inr (15, [.int (nI 0), .int (-1), .int m0, .ref e1]))], [(e1, .inr (11, [.int m0, .ref x0.1, .int (nI n)]))], [(e0, .inr (1, [.ref e1, .ref e2, .ref e3, .ref e4, .ref e5, .int td, .int pk, .int pd]))], (alA Γ x0), (cowsB n ca cv)] H := hP
  have hD : WD A [[(t_1, .inr (15, [.int (nI 0), .int (-1), .int m0, .ref e1]))], [(e1, .inr (11, [.int m0, .ref x0.1, .int (nI n)]))], [(e0, .inr (1, [.ref e1, .ref e2, .ref e3, .ref e4, .ref e5, .int td, .int pk, .int pd]))], (alA Γ x0), (cowsB n ca cv)] := hD
  refine W.eq (g2 := F0 mi_ 9 ls ([.ref t_1])) rfl ?_
  refine lv_astore_n (lv' := [(3, .ref t_1), (2, .int 0), (0, .ref e0), (1, .ref (Γ.2.2 12))]) hx hb dX2_count_9 rfl hl (by decide) rfl (fun ls hl => ?_)
  have hl : lv_has ls 5 [(3, .ref t_1), (2, .int (ctS laV2 cv 0)), (0, .ref e0), (1, .ref (Γ.2.2 12))] := hl
  have loop_2 : ∀ (fuel : Nat) (j : Nat) (lr : Int32), n - j < fuel → (j ≤ n) → ∀ (H : Heap) (locs : List Loc) (ls : Array Slot), WP Γ [[(t_1, .inr (15, [.int (nI j), .int lr, .int m0, .ref e1]))], [(e1, .inr (11, [.int m0, .ref x0.1, .int (nI n)]))], [(e0, .inr (1, [.ref e1, .ref e2, .ref e3, .ref e4, .ref e5, .int td, .int pk, .int pd]))], (alA Γ x0), (cowsB n ca cv)] H → WD A [[(t_1, .inr (15, [.int (nI j), .int lr, .int m0, .ref e1]))], [(e1, .inr (11, [.int m0, .ref x0.1, .int (nI n)]))], [(e0, .inr (1, [.ref e1, .ref e2, .ref e3, .ref e4, .ref e5, .int td, .int pk, .int pd]))], (alA Γ x0), (cowsB n ca cv)] → va_S A s.heap H locs → lv_has ls 5 [(3, .ref t_1), (2, .int (ctS laV2 cv j)), (0, .ref e0), (1, .ref (Γ.2.2 12))] → W pr_ l ev_ { frames := 3, cells := 1, slots := 4, locals := 71 } s mi_ ([.ref e0, .ref (Γ.2.2 12)] : List Value).toArray below meth cd_ H locs 1 4 (MQ below (Qi Γ (fun r_ u_ => r_ = (ctS laV2 cv n) ∧ u_ = [[(e0, .inr (1, [.ref e1, .ref e2, .ref e3, .ref e4, .ref e5, .int td, .int pk, .int pd]))], [(e1, .inr (11, [.int m0, .ref x0.1, .int (nI n)]))], (alA Γ x0), (cowsB n ca cv)]) A) ([.ref e0, .ref (Γ.2.2 12)] : List Value).toArray s 1 4 A) (F0 mi_ 10 ls ([])) := by
    intro fuel
    induction fuel with
    | zero => intro j lr hfuel; exact absurd hfuel (Nat.not_lt_zero _)
    | succ fuel ih =>
      intro j lr hfuel hj H locs ls hP hD hS hl
      refine lv_aload_n hx hb dX2_count_10 rfl (lv_at hl 0 rfl) ?_
      by_cases hjn : j < n
      ·
        refine b_call5i (br := [[(e0, .inr (1, [.ref e1, .ref e2, .ref e3, .ref e4, .ref e5, .int td, .int pk, .int pd]))], (alA Γ x0), (cowsB n ca cv)]) (b_runF (x := ⟨"java/util/Iterator", "hasNext", "()Z"⟩) (hK.1 15 _ rfl).2 ⟨hx, hb, hml, hown, hts⟩ (mt_Itr_hasNext_yes l Γ _ t_1 e1 m0 x0.1 n j lr (by omega) (by omega)) (hE.1.2.1.1 (fwL[1]'(by decide)) (List.getElem_mem _)) q320 q324 q326 q79 q328 rfl rfl 0 ⟨by decide, by decide, by decide +kernel⟩ ⟨(Nat.le_of_ble_eq_true rfl), (Nat.le_of_ble_eq_true rfl)⟩ (c_pre hP hD hS hA hK hE [0, 1] rfl rfl ro_nil) (recv_at (q := (RJ13, TJ13, 4)) hK (b_at (k := 0) hP rfl) rfl) rfl hl.1 rfl (Nat.le_of_ble_eq_true rfl) dX2_count_11 ⟨(Nat.le_of_ble_eq_true rfl), (Nat.le_of_ble_eq_true rfl)⟩) hP hD hS hA [0, 1] [2, 3, 4] rfl rfl rfl (fun r_3 u_3 H locs hw_3 hP hD hS _ => ?_)
        obtain ⟨rfl, rfl⟩ := hw_3
        have hP : WP Γ [[(t_1, .inr (15, [.int (nI j), .int lr, .int m0, .ref e1]))], [(e1, .inr (11, [.int m0, .ref x0.1, .int (nI n)]))], [(e0, .inr (1, [.ref e1, .ref e2, .ref e3, .ref e4, .ref e5, .int td, .int pk, .int pd]))], (alA Γ x0), (cowsB n ca cv)] H := hP
        have hD : WD A [[(t_1, .inr (15, [.int (nI j), .int lr, .int m0, .ref e1]))], [(e1, .inr (11, [.int m0, .ref x0.1, .int (nI n)]))], [(e0, .inr (1, [.ref e1, .ref e2, .ref e3, .ref e4, .ref e5, .int td, .int pk, .int pd]))], (alA Γ x0), (cowsB n ca cv)] := hD
        refine lv_if_eq (tgt := 47) hx hb dX2_count_16 (by decide) (fun c_4 => ?_) (fun c_4 => ?_)
        · -- 16 taken
          have n_4 : 1 = 0 := (nI_eq (by omega) (by omega)).mp (show nI 1 = nI 0 from c_4)
          exact absurd n_4 (by omega)
        · -- 16 not taken
          have n_4 : ¬ (1 = 0) := fun hh7 => c_4 ((nI_eq (a := 1) (b := 0) (by omega) (by omega)).mpr hh7)
          refine lv_aload_n hx hb dX2_count_19 rfl (lv_at hl 0 rfl) ?_
          refine b_call5q (br := [[(e0, .inr (1, [.ref e1, .ref e2, .ref e3, .ref e4, .ref e5, .int td, .int pk, .int pd]))], (cowsB n ca cv)]) (b_runF (x := ⟨"java/util/Iterator", "next", "()Ljava/lang/Object;"⟩) (hK.1 15 _ rfl).2 ⟨hx, hb, hml, hown, hts⟩ (mt_Itr_next l Γ _ t_1 e1 m0 x0 n j lr ca hal0 (by omega)) (hE.1.2.1.1 (fwL[2]'(by decide)) (List.getElem_mem _)) q330 q333 q335 q79 q337 rfl rfl 0 ⟨by decide, by decide, by decide +kernel⟩ ⟨(Nat.le_of_ble_eq_true rfl), (Nat.le_of_ble_eq_true rfl)⟩ (c_pre hP hD hS hA hK hE [0, 1, 3] rfl rfl ro_nil) (recv_at (q := (RJ13, TJ13, 4)) hK (b_at (k := 0) hP rfl) rfl) rfl hl.1 rfl (Nat.le_of_ble_eq_true rfl) dX2_count_20 ⟨(Nat.le_of_ble_eq_true rfl), (Nat.le_of_ble_eq_true rfl)⟩) hP hD hS hA [0, 1, 3] [2, 4] rfl rfl rfl (fun r_5 u_5 H locs hw_5 hP hD hS _ => ?_)
          obtain ⟨rfl, rfl⟩ := hw_5
          have hP : WP Γ [[(t_1, .inr (15, [.int (nI (j + 1)), .int (nI j), .int m0, .ref e1]))], [(e1, .inr (11, [.int m0, .ref x0.1, .int (nI n)]))], (alA Γ x0), [(e0, .inr (1, [.ref e1, .ref e2, .ref e3, .ref e4, .ref e5, .int td, .int pk, .int pd]))], (cowsB n ca cv)] H := hP
          have hD : WD A [[(t_1, .inr (15, [.int (nI (j + 1)), .int (nI j), .int m0, .ref e1]))], [(e1, .inr (11, [.int m0, .ref x0.1, .int (nI n)]))], (alA Γ x0), [(e0, .inr (1, [.ref e1, .ref e2, .ref e3, .ref e4, .ref e5, .int td, .int pk, .int pd]))], (cowsB n ca cv)] := hD
          refine W.eq (g2 := F0 mi_ 25 ls ([.ref (ca j)])) rfl ?_
          have hP : WP Γ [(cowsB n ca cv), [(t_1, .inr (15, [.int (nI (j + 1)), .int (nI j), .int m0, .ref e1]))], [(e1, .inr (11, [.int m0, .ref x0.1, .int (nI n)]))], (alA Γ x0), [(e0, .inr (1, [.ref e1, .ref e2, .ref e3, .ref e4, .ref e5, .int td, .int pk, .int pd]))]] H := bP_sel hP [4, 0, 1, 2, 3] rfl
          have hD : WD A [(cowsB n ca cv), [(t_1, .inr (15, [.int (nI (j + 1)), .int (nI j), .int m0, .ref e1]))], [(e1, .inr (11, [.int m0, .ref x0.1, .int (nI n)]))], (alA Γ x0), [(e0, .inr (1, [.ref e1, .ref e2, .ref e3, .ref e4, .ref e5, .int td, .int pk, .int pd]))]] := bD_sel hD [4, 0, 1, 2, 3] rfl rfl
          have hP : WP Γ [[((ca j), cowE (cv j))], (cowsX n j ca cv), [(t_1, .inr (15, [.int (nI (j + 1)), .int (nI j), .int m0, .ref e1]))], [(e1, .inr (11, [.int m0, .ref x0.1, .int (nI n)]))], (alA Γ x0), [(e0, .inr (1, [.ref e1, .ref e2, .ref e3, .ref e4, .ref e5, .int td, .int pk, .int pd]))]] H := cowP_focus hjn hP
          have hD : WD A [[((ca j), cowE (cv j))], (cowsX n j ca cv), [(t_1, .inr (15, [.int (nI (j + 1)), .int (nI j), .int m0, .ref e1]))], [(e1, .inr (11, [.int m0, .ref x0.1, .int (nI n)]))], (alA Γ x0), [(e0, .inr (1, [.ref e1, .ref e2, .ref e3, .ref e4, .ref e5, .int td, .int pk, .int pd]))]] := cowD_focus hjn hD
          refine va_castS hx hb hown (hts _ q412) (hK.1 4 _ rfl).2 (recv_at (q := (RX5, TX5, 12)) hK (b_at (k := 0) hP rfl) rfl) dX2_count_25 ?_
          refine lv_astore (lv' := [(4, .ref (ca j)), (3, .ref t_1), (2, .int (ctS laV2 cv j)), (0, .ref e0), (1, .ref (Γ.2.2 12))]) hx hb dX2_count_28 hl (by decide) rfl (fun ls hl => ?_)
          refine lv_aload_n hx hb dX2_count_30 rfl (lv_at hl 4 rfl) ?_
          refine lv_aload hx hb dX2_count_31 (lv_at hl 0 rfl) ?_
          refine b_call5i (br := [(cowsX n j ca cv), [(t_1, .inr (15, [.int (nI (j + 1)), .int (nI j), .int m0, .ref e1]))], [(e1, .inr (11, [.int m0, .ref x0.1, .int (nI n)]))], (alA Γ x0), [(e0, .inr (1, [.ref e1, .ref e2, .ref e3, .ref e4, .ref e5, .int td, .int pk, .int pd]))]]) (b_runLam (x := laX) (xi := ⟨"DairyBook$Chosen", "holds", "(LDairyBook$Cow;)Z"⟩) (y := yX2_lambda_account_2) (σ := laS2) (rt := .boolean) (Nat.le_of_ble_eq_true rfl) ⟨hx, hb, hml, hown, hts⟩ (va_La.at hE (by decide) la_2) rfl hS rfl lamC_2 ⟨rfl, rfl, by decide +kernel⟩ ⟨by decide, by decide⟩ q1074 (hE.1.1 _ q1076 rfl) (by decide +kernel) (by decide +kernel) (by decide +kernel) q1079 q1080 q63 (mt_La_2 l Γ _ (ca j) (cv j)) rfl rfl (fun st9 v9 t9 h9 => by obtain ⟨⟨r9, u9, e9, ⟨rfl, -⟩, -⟩, -⟩ := h9; cases e9; exact ⟨_, rfl, laV2_nar _⟩) (c_pre hP hD hS hA hK hE [0] rfl rfl ro_nil) hl.1 dX2_count_33 (Nat.le_of_ble_eq_true rfl) (Nat.le_of_ble_eq_true rfl) ⟨(Nat.le_of_ble_eq_true rfl), (Nat.le_of_ble_eq_true rfl)⟩) hP hD hS hA [0] [1, 2, 3, 4, 5] rfl rfl rfl (fun r_6 u_6 H locs hw_6 hP hD hS _ => ?_)
          obtain ⟨rfl, rfl⟩ := hw_6
          have hP : WP Γ [[((ca j), cowE (cv j))], (cowsX n j ca cv), [(t_1, .inr (15, [.int (nI (j + 1)), .int (nI j), .int m0, .ref e1]))], [(e1, .inr (11, [.int m0, .ref x0.1, .int (nI n)]))], (alA Γ x0), [(e0, .inr (1, [.ref e1, .ref e2, .ref e3, .ref e4, .ref e5, .int td, .int pk, .int pd]))]] H := hP
          have hD : WD A [[((ca j), cowE (cv j))], (cowsX n j ca cv), [(t_1, .inr (15, [.int (nI (j + 1)), .int (nI j), .int m0, .ref e1]))], [(e1, .inr (11, [.int m0, .ref x0.1, .int (nI n)]))], (alA Γ x0), [(e0, .inr (1, [.ref e1, .ref e2, .ref e3, .ref e4, .ref e5, .int td, .int pk, .int pd]))]] := hD
          refine lv_if_eq (tgt := 44) hx hb dX2_count_38 (by decide) (fun c_7 => ?_) (fun c_7 => ?_)
          · -- 38 taken
            have hP : WP Γ [(cowsB n ca (va_up cv j (cv j))), [(t_1, .inr (15, [.int (nI (j + 1)), .int (nI j), .int m0, .ref e1]))], [(e1, .inr (11, [.int m0, .ref x0.1, .int (nI n)]))], (alA Γ x0), [(e0, .inr (1, [.ref e1, .ref e2, .ref e3, .ref e4, .ref e5, .int td, .int pk, .int pd]))]] H := cowP_un hjn hP
            have hD : WD A [(cowsB n ca (va_up cv j (cv j))), [(t_1, .inr (15, [.int (nI (j + 1)), .int (nI j), .int m0, .ref e1]))], [(e1, .inr (11, [.int m0, .ref x0.1, .int (nI n)]))], (alA Γ x0), [(e0, .inr (1, [.ref e1, .ref e2, .ref e3, .ref e4, .ref e5, .int td, .int pk, .int pd]))]] := cowD_un hjn hD
            rw [up_same] at hP hD
            have hl : lv_has ls 5 [(4, .ref (ca j)), (3, .ref t_1), (2, .int (ctS laV2 cv (j + 1))), (0, .ref e0), (1, .ref (Γ.2.2 12))] := by rw [← show (ctS laV2 cv j) = ctS laV2 cv (j + 1) from ctS_0 c_7]; exact hl
            refine lv_goto (tgt := 10) hx hb dX2_count_44 (by decide) ?_
            have hP : WP Γ [[(t_1, .inr (15, [.int (nI (j + 1)), .int (nI j), .int m0, .ref e1]))], [(e1, .inr (11, [.int m0, .ref x0.1, .int (nI n)]))], [(e0, .inr (1, [.ref e1, .ref e2, .ref e3, .ref e4, .ref e5, .int td, .int pk, .int pd]))], (alA Γ x0), (cowsB n ca cv)] H := bP_sel hP [1, 2, 4, 3, 0] rfl
            have hD : WD A [[(t_1, .inr (15, [.int (nI (j + 1)), .int (nI j), .int m0, .ref e1]))], [(e1, .inr (11, [.int m0, .ref x0.1, .int (nI n)]))], [(e0, .inr (1, [.ref e1, .ref e2, .ref e3, .ref e4, .ref e5, .int td, .int pk, .int pd]))], (alA Γ x0), (cowsB n ca cv)] := bD_sel hD [1, 2, 4, 3, 0] rfl rfl
            exact ih (j + 1) (nI j) (by omega) (by omega) _ _ _ hP hD hS (lv_sub hl [1, 2, 3, 4] rfl)
          · -- 38 not taken
            refine lv_iinc (v := ((ctS laV2 cv j) + 1)) (lv' := [(2, .int ((ctS laV2 cv j) + 1)), (4, .ref (ca j)), (3, .ref t_1), (0, .ref e0), (1, .ref (Γ.2.2 12))]) hx hb dX2_count_41 hl (k := 2) rfl (rfl) (by decide) rfl (fun ls hl => ?_)
            have hP : WP Γ [(cowsB n ca (va_up cv j (cv j))), [(t_1, .inr (15, [.int (nI (j + 1)), .int (nI j), .int m0, .ref e1]))], [(e1, .inr (11, [.int m0, .ref x0.1, .int (nI n)]))], (alA Γ x0), [(e0, .inr (1, [.ref e1, .ref e2, .ref e3, .ref e4, .ref e5, .int td, .int pk, .int pd]))]] H := cowP_un hjn hP
            have hD : WD A [(cowsB n ca (va_up cv j (cv j))), [(t_1, .inr (15, [.int (nI (j + 1)), .int (nI j), .int m0, .ref e1]))], [(e1, .inr (11, [.int m0, .ref x0.1, .int (nI n)]))], (alA Γ x0), [(e0, .inr (1, [.ref e1, .ref e2, .ref e3, .ref e4, .ref e5, .int td, .int pk, .int pd]))]] := cowD_un hjn hD
            rw [up_same] at hP hD
            have hl : lv_has ls 5 [(2, .int (ctS laV2 cv (j + 1))), (4, .ref (ca j)), (3, .ref t_1), (0, .ref e0), (1, .ref (Γ.2.2 12))] := by rw [← show ((ctS laV2 cv j) + 1) = ctS laV2 cv (j + 1) from ctS_1 c_7]; exact hl
            refine lv_goto (tgt := 10) hx hb dX2_count_44 (by decide) ?_
            have hP : WP Γ [[(t_1, .inr (15, [.int (nI (j + 1)), .int (nI j), .int m0, .ref e1]))], [(e1, .inr (11, [.int m0, .ref x0.1, .int (nI n)]))], [(e0, .inr (1, [.ref e1, .ref e2, .ref e3, .ref e4, .ref e5, .int td, .int pk, .int pd]))], (alA Γ x0), (cowsB n ca cv)] H := bP_sel hP [1, 2, 4, 3, 0] rfl
            have hD : WD A [[(t_1, .inr (15, [.int (nI (j + 1)), .int (nI j), .int m0, .ref e1]))], [(e1, .inr (11, [.int m0, .ref x0.1, .int (nI n)]))], [(e0, .inr (1, [.ref e1, .ref e2, .ref e3, .ref e4, .ref e5, .int td, .int pk, .int pd]))], (alA Γ x0), (cowsB n ca cv)] := bD_sel hD [1, 2, 4, 3, 0] rfl rfl
            exact ih (j + 1) (nI j) (by omega) (by omega) _ _ _ hP hD hS (lv_sub hl [2, 0, 3, 4] rfl)
      ·
        refine b_call5i (br := [[(e0, .inr (1, [.ref e1, .ref e2, .ref e3, .ref e4, .ref e5, .int td, .int pk, .int pd]))], (alA Γ x0), (cowsB n ca cv)]) (b_runF (x := ⟨"java/util/Iterator", "hasNext", "()Z"⟩) (hK.1 15 _ rfl).2 ⟨hx, hb, hml, hown, hts⟩ (mt_Itr_hasNext_no l Γ _ t_1 e1 m0 x0.1 n j lr (by omega) (by omega)) (hE.1.2.1.1 (fwL[1]'(by decide)) (List.getElem_mem _)) q320 q324 q326 q79 q328 rfl rfl 0 ⟨by decide, by decide, by decide +kernel⟩ ⟨(Nat.le_of_ble_eq_true rfl), (Nat.le_of_ble_eq_true rfl)⟩ (c_pre hP hD hS hA hK hE [0, 1] rfl rfl ro_nil) (recv_at (q := (RJ13, TJ13, 4)) hK (b_at (k := 0) hP rfl) rfl) rfl hl.1 rfl (Nat.le_of_ble_eq_true rfl) dX2_count_11 ⟨(Nat.le_of_ble_eq_true rfl), (Nat.le_of_ble_eq_true rfl)⟩) hP hD hS hA [0, 1] [2, 3, 4] rfl rfl rfl (fun r_8 u_8 H locs hw_8 hP hD hS _ => ?_)
        obtain ⟨rfl, rfl⟩ := hw_8
        have hP : WP Γ [[(t_1, .inr (15, [.int (nI j), .int lr, .int m0, .ref e1]))], [(e1, .inr (11, [.int m0, .ref x0.1, .int (nI n)]))], [(e0, .inr (1, [.ref e1, .ref e2, .ref e3, .ref e4, .ref e5, .int td, .int pk, .int pd]))], (alA Γ x0), (cowsB n ca cv)] H := hP
        have hD : WD A [[(t_1, .inr (15, [.int (nI j), .int lr, .int m0, .ref e1]))], [(e1, .inr (11, [.int m0, .ref x0.1, .int (nI n)]))], [(e0, .inr (1, [.ref e1, .ref e2, .ref e3, .ref e4, .ref e5, .int td, .int pk, .int pd]))], (alA Γ x0), (cowsB n ca cv)] := hD
        refine lv_if_eq (tgt := 47) hx hb dX2_count_16 (by decide) (fun c_9 => ?_) (fun c_9 => ?_)
        · -- 16 taken
          have n_9 : 0 = 0 := (nI_eq (by omega) (by omega)).mp (show nI 0 = nI 0 from c_9)
          refine lv_iload_n hx hb dX2_count_47 rfl (lv_at hl 1 rfl) ?_
          have hP : WP Γ [[(e0, .inr (1, [.ref e1, .ref e2, .ref e3, .ref e4, .ref e5, .int td, .int pk, .int pd]))], [(e1, .inr (11, [.int m0, .ref x0.1, .int (nI n)]))], (alA Γ x0), (cowsB n ca cv)] H := bP_sel hP [2, 1, 3, 4] rfl
          have hD : WD A [[(e0, .inr (1, [.ref e1, .ref e2, .ref e3, .ref e4, .ref e5, .int td, .int pk, .int pd]))], [(e1, .inr (11, [.int m0, .ref x0.1, .int (nI n)]))], (alA Γ x0), (cowsB n ca cv)] := bD_sel hD [2, 1, 3, 4] rfl rfl
          exact b_iret hx hb hr hlocks hP hD hS (Nat.le_of_ble_eq_true rfl) (Nat.le_of_ble_eq_true rfl) ⟨(by rw [show n = j by omega]), (by first | with_reducible rfl | (simp [hjn, n_9]; done) | rfl)⟩ dX2_count_48
        · -- 16 not taken
          have n_9 : ¬ (0 = 0) := fun hh7 => c_9 ((nI_eq (a := 0) (b := 0) (by omega) (by omega)).mpr hh7)
          exact absurd n_9 (by omega)
  exact loop_2 ((n - 0) + 1) 0 (-1) (Nat.lt_succ_self _) (Nat.zero_le _) _ _ _ hP hD hS (lv_sub hl [0, 1, 2, 3] rfl)
set_option maxHeartbeats 4000000 in
set_option maxRecDepth 100000 in
theorem mt_Hd_sum_3 (l : Launch) (Γ : GE) (sz : Nat) (e0 : Nat) (e1 : Nat) (e2 : Nat) (e3 : Nat) (e4 : Nat) (e5 : Nat) (td : Int32) (pk : Int32) (pd : Int32) (x0 : LST) (m0 : Int32) (n : Nat) (ca : Nat → Nat) (cv : Nat → Nat → Int32) (hal0 : alI Γ x0 n ca) (hn8 : n ≤ 8) : KM l yX2_sum cX2_sum 5 (some FieldType.int) Γ 3 71 1 4 [.ref e0, .ref (Γ.2.2 13)] [[(e0, .inr (1, [.ref e1, .ref e2, .ref e3, .ref e4, .ref e5, .int td, .int pk, .int pd]))], [(e1, .inr (11, [.int m0, .ref x0.1, .int (nI n)]))], (alA Γ x0), (cowsB n ca cv)] [] sz (Qi Γ (fun r_ u_ => r_ = (smS laV3 cv n) ∧ u_ = [[(e0, .inr (1, [.ref e1, .ref e2, .ref e3, .ref e4, .ref e5, .int td, .int pk, .int pd]))], [(e1, .inr (11, [.int m0, .ref x0.1, .int (nI n)]))], (alA Γ x0), (cowsB n ca cv)])) := by
  refine K_intro (by decide) (Nat.le_of_ble_eq_true rfl) ?_
  intro pr_ ev_ s mi_ below meth cd_ A ls hx hb hr hml hown hts hlocks hname hK hE hRo hP hD hA hS hsz hl
  have hl : lv_has ls 5 [(0, .ref e0), (1, .ref (Γ.2.2 13))] := hl
  have hown : s.vm.findClass RX2 = some mi_.cls := hown
  refine lv_iconst (v := 0) hx hb dX2_sum_0 (by decide) ?_
  refine lv_istore_n (lv' := [(2, .int 0), (0, .ref e0), (1, .ref (Γ.2.2 13))]) hx hb dX2_sum_1 rfl hl (by decide) rfl (fun ls hl => ?_)
  refine lv_aload_n hx hb dX2_sum_2 rfl (lv_at hl 1 rfl) ?_
  refine b_get (C := RX2) (T := TX2) (N := 8) (v := .ref e1) hx hb hts in_X2 hown hK (b_at (k := 0) hP rfl) rfl 0 (by decide) q163 (fun _ h9 => h9) rfl dX2_sum_3 ?_
  refine b_callq (br := [[(e0, .inr (1, [.ref e1, .ref e2, .ref e3, .ref e4, .ref e5, .int td, .int pk, .int pd]))], (alA Γ x0), (cowsB n ca cv)]) (b_runV ⟨hx, hb, hml, hown, hts⟩ (mt_AL_iterator l Γ _ e1 m0 x0.1 n) (lw_V q296 q297 q298 q66 q299) rfl rfl 0 (by decide +kernel) ⟨(Nat.le_of_ble_eq_true rfl), (Nat.le_of_ble_eq_true rfl)⟩ (c_pre hP hD hS hA hK hE [1] rfl rfl ro_nil) (recv_at (q := (RJ2, TJ2, 3)) hK (b_at (k := 1) hP rfl) rfl) rfl hl.1 rfl (Nat.le_of_ble_eq_true rfl) dX2_sum_6 ⟨(Nat.le_of_ble_eq_true rfl), (Nat.le_of_ble_eq_true rfl)⟩) hP hD hS hA [1] [0, 2, 3] rfl rfl rfl (fun r_1 u_1 H locs hw_1 hP hD hS _ => ?_)
  obtain ⟨t_1, rfl, rfl⟩ := hw_1
  have hP : WP Γ [[(t_1, .inr (15, [.int (nI 0), .int (-1), .int m0, .ref e1]))], [(e1, .inr (11, [.int m0, .ref x0.1, .int (nI n)]))], [(e0, .inr (1, [.ref e1, .ref e2, .ref e3, .ref e4, .ref e5, .int td, .int pk, .int pd]))], (alA Γ x0), (cowsB n ca cv)] H := hP
  have hD : WD A [[(t_1, .inr (15, [.int (nI 0), .int (-1), .int m0, .ref e1]))], [(e1, .inr (11, [.int m0, .ref x0.1, .int (nI n)]))], [(e0, .inr (1, [.ref e1, .ref e2, .ref e3, .ref e4, .ref e5, .int td, .int pk, .int pd]))], (alA Γ x0), (cowsB n ca cv)] := hD
  refine W.eq (g2 := F0 mi_ 9 ls ([.ref t_1])) rfl ?_
  refine lv_astore_n (lv' := [(3, .ref t_1), (2, .int 0), (0, .ref e0), (1, .ref (Γ.2.2 13))]) hx hb dX2_sum_9 rfl hl (by decide) rfl (fun ls hl => ?_)
  have hl : lv_has ls 5 [(3, .ref t_1), (2, .int (smS laV3 cv 0)), (0, .ref e0), (1, .ref (Γ.2.2 13))] := hl
  have loop_2 : ∀ (fuel : Nat) (j : Nat) (lr : Int32), n - j < fuel → (j ≤ n) → ∀ (H : Heap) (locs : List Loc) (ls : Array Slot), WP Γ [[(t_1, .inr (15, [.int (nI j), .int lr, .int m0, .ref e1]))], [(e1, .inr (11, [.int m0, .ref x0.1, .int (nI n)]))], [(e0, .inr (1, [.ref e1, .ref e2, .ref e3, .ref e4, .ref e5, .int td, .int pk, .int pd]))], (alA Γ x0), (cowsB n ca cv)] H → WD A [[(t_1, .inr (15, [.int (nI j), .int lr, .int m0, .ref e1]))], [(e1, .inr (11, [.int m0, .ref x0.1, .int (nI n)]))], [(e0, .inr (1, [.ref e1, .ref e2, .ref e3, .ref e4, .ref e5, .int td, .int pk, .int pd]))], (alA Γ x0), (cowsB n ca cv)] → va_S A s.heap H locs → lv_has ls 5 [(3, .ref t_1), (2, .int (smS laV3 cv j)), (0, .ref e0), (1, .ref (Γ.2.2 13))] → W pr_ l ev_ { frames := 3, cells := 1, slots := 4, locals := 71 } s mi_ ([.ref e0, .ref (Γ.2.2 13)] : List Value).toArray below meth cd_ H locs 1 4 (MQ below (Qi Γ (fun r_ u_ => r_ = (smS laV3 cv n) ∧ u_ = [[(e0, .inr (1, [.ref e1, .ref e2, .ref e3, .ref e4, .ref e5, .int td, .int pk, .int pd]))], [(e1, .inr (11, [.int m0, .ref x0.1, .int (nI n)]))], (alA Γ x0), (cowsB n ca cv)]) A) ([.ref e0, .ref (Γ.2.2 13)] : List Value).toArray s 1 4 A) (F0 mi_ 10 ls ([])) := by
    intro fuel
    induction fuel with
    | zero => intro j lr hfuel; exact absurd hfuel (Nat.not_lt_zero _)
    | succ fuel ih =>
      intro j lr hfuel hj H locs ls hP hD hS hl
      refine lv_aload_n hx hb dX2_sum_10 rfl (lv_at hl 0 rfl) ?_
      by_cases hjn : j < n
      ·
        refine b_call5i (br := [[(e0, .inr (1, [.ref e1, .ref e2, .ref e3, .ref e4, .ref e5, .int td, .int pk, .int pd]))], (alA Γ x0), (cowsB n ca cv)]) (b_runF (x := ⟨"java/util/Iterator", "hasNext", "()Z"⟩) (hK.1 15 _ rfl).2 ⟨hx, hb, hml, hown, hts⟩ (mt_Itr_hasNext_yes l Γ _ t_1 e1 m0 x0.1 n j lr (by omega) (by omega)) (hE.1.2.1.1 (fwL[1]'(by decide)) (List.getElem_mem _)) q320 q324 q326 q79 q328 rfl rfl 0 ⟨by decide, by decide, by decide +kernel⟩ ⟨(Nat.le_of_ble_eq_true rfl), (Nat.le_of_ble_eq_true rfl)⟩ (c_pre hP hD hS hA hK hE [0, 1] rfl rfl ro_nil) (recv_at (q := (RJ13, TJ13, 4)) hK (b_at (k := 0) hP rfl) rfl) rfl hl.1 rfl (Nat.le_of_ble_eq_true rfl) dX2_sum_11 ⟨(Nat.le_of_ble_eq_true rfl), (Nat.le_of_ble_eq_true rfl)⟩) hP hD hS hA [0, 1] [2, 3, 4] rfl rfl rfl (fun r_3 u_3 H locs hw_3 hP hD hS _ => ?_)
        obtain ⟨rfl, rfl⟩ := hw_3
        have hP : WP Γ [[(t_1, .inr (15, [.int (nI j), .int lr, .int m0, .ref e1]))], [(e1, .inr (11, [.int m0, .ref x0.1, .int (nI n)]))], [(e0, .inr (1, [.ref e1, .ref e2, .ref e3, .ref e4, .ref e5, .int td, .int pk, .int pd]))], (alA Γ x0), (cowsB n ca cv)] H := hP
        have hD : WD A [[(t_1, .inr (15, [.int (nI j), .int lr, .int m0, .ref e1]))], [(e1, .inr (11, [.int m0, .ref x0.1, .int (nI n)]))], [(e0, .inr (1, [.ref e1, .ref e2, .ref e3, .ref e4, .ref e5, .int td, .int pk, .int pd]))], (alA Γ x0), (cowsB n ca cv)] := hD
        refine lv_if_eq (tgt := 44) hx hb dX2_sum_16 (by decide) (fun c_4 => ?_) (fun c_4 => ?_)
        · -- 16 taken
          have n_4 : 1 = 0 := (nI_eq (by omega) (by omega)).mp (show nI 1 = nI 0 from c_4)
          exact absurd n_4 (by omega)
        · -- 16 not taken
          have n_4 : ¬ (1 = 0) := fun hh7 => c_4 ((nI_eq (a := 1) (b := 0) (by omega) (by omega)).mpr hh7)
          refine lv_aload_n hx hb dX2_sum_19 rfl (lv_at hl 0 rfl) ?_
          refine b_call5q (br := [[(e0, .inr (1, [.ref e1, .ref e2, .ref e3, .ref e4, .ref e5, .int td, .int pk, .int pd]))], (cowsB n ca cv)]) (b_runF (x := ⟨"java/util/Iterator", "next", "()Ljava/lang/Object;"⟩) (hK.1 15 _ rfl).2 ⟨hx, hb, hml, hown, hts⟩ (mt_Itr_next l Γ _ t_1 e1 m0 x0 n j lr ca hal0 (by omega)) (hE.1.2.1.1 (fwL[2]'(by decide)) (List.getElem_mem _)) q330 q333 q335 q79 q337 rfl rfl 0 ⟨by decide, by decide, by decide +kernel⟩ ⟨(Nat.le_of_ble_eq_true rfl), (Nat.le_of_ble_eq_true rfl)⟩ (c_pre hP hD hS hA hK hE [0, 1, 3] rfl rfl ro_nil) (recv_at (q := (RJ13, TJ13, 4)) hK (b_at (k := 0) hP rfl) rfl) rfl hl.1 rfl (Nat.le_of_ble_eq_true rfl) dX2_sum_20 ⟨(Nat.le_of_ble_eq_true rfl), (Nat.le_of_ble_eq_true rfl)⟩) hP hD hS hA [0, 1, 3] [2, 4] rfl rfl rfl (fun r_5 u_5 H locs hw_5 hP hD hS _ => ?_)
          obtain ⟨rfl, rfl⟩ := hw_5
          have hP : WP Γ [[(t_1, .inr (15, [.int (nI (j + 1)), .int (nI j), .int m0, .ref e1]))], [(e1, .inr (11, [.int m0, .ref x0.1, .int (nI n)]))], (alA Γ x0), [(e0, .inr (1, [.ref e1, .ref e2, .ref e3, .ref e4, .ref e5, .int td, .int pk, .int pd]))], (cowsB n ca cv)] H := hP
          have hD : WD A [[(t_1, .inr (15, [.int (nI (j + 1)), .int (nI j), .int m0, .ref e1]))], [(e1, .inr (11, [.int m0, .ref x0.1, .int (nI n)]))], (alA Γ x0), [(e0, .inr (1, [.ref e1, .ref e2, .ref e3, .ref e4, .ref e5, .int td, .int pk, .int pd]))], (cowsB n ca cv)] := hD
          refine W.eq (g2 := F0 mi_ 25 ls ([.ref (ca j)])) rfl ?_
          have hP : WP Γ [(cowsB n ca cv), [(t_1, .inr (15, [.int (nI (j + 1)), .int (nI j), .int m0, .ref e1]))], [(e1, .inr (11, [.int m0, .ref x0.1, .int (nI n)]))], (alA Γ x0), [(e0, .inr (1, [.ref e1, .ref e2, .ref e3, .ref e4, .ref e5, .int td, .int pk, .int pd]))]] H := bP_sel hP [4, 0, 1, 2, 3] rfl
          have hD : WD A [(cowsB n ca cv), [(t_1, .inr (15, [.int (nI (j + 1)), .int (nI j), .int m0, .ref e1]))], [(e1, .inr (11, [.int m0, .ref x0.1, .int (nI n)]))], (alA Γ x0), [(e0, .inr (1, [.ref e1, .ref e2, .ref e3, .ref e4, .ref e5, .int td, .int pk, .int pd]))]] := bD_sel hD [4, 0, 1, 2, 3] rfl rfl
          have hP : WP Γ [[((ca j), cowE (cv j))], (cowsX n j ca cv), [(t_1, .inr (15, [.int (nI (j + 1)), .int (nI j), .int m0, .ref e1]))], [(e1, .inr (11, [.int m0, .ref x0.1, .int (nI n)]))], (alA Γ x0), [(e0, .inr (1, [.ref e1, .ref e2, .ref e3, .ref e4, .ref e5, .int td, .int pk, .int pd]))]] H := cowP_focus hjn hP
          have hD : WD A [[((ca j), cowE (cv j))], (cowsX n j ca cv), [(t_1, .inr (15, [.int (nI (j + 1)), .int (nI j), .int m0, .ref e1]))], [(e1, .inr (11, [.int m0, .ref x0.1, .int (nI n)]))], (alA Γ x0), [(e0, .inr (1, [.ref e1, .ref e2, .ref e3, .ref e4, .ref e5, .int td, .int pk, .int pd]))]] := cowD_focus hjn hD
          refine va_castS hx hb hown (hts _ q412) (hK.1 4 _ rfl).2 (recv_at (q := (RX5, TX5, 12)) hK (b_at (k := 0) hP rfl) rfl) dX2_sum_25 ?_
          refine lv_astore (lv' := [(4, .ref (ca j)), (3, .ref t_1), (2, .int (smS laV3 cv j)), (0, .ref e0), (1, .ref (Γ.2.2 13))]) hx hb dX2_sum_28 hl (by decide) rfl (fun ls hl => ?_)
          refine lv_iload_n hx hb dX2_sum_30 rfl (lv_at hl 2 rfl) ?_
          refine lv_aload_n hx hb dX2_sum_31 rfl (lv_at hl 4 rfl) ?_
          refine lv_aload hx hb dX2_sum_32 (lv_at hl 0 rfl) ?_
          refine b_call5i (br := [(cowsX n j ca cv), [(t_1, .inr (15, [.int (nI (j + 1)), .int (nI j), .int m0, .ref e1]))], [(e1, .inr (11, [.int m0, .ref x0.1, .int (nI n)]))], (alA Γ x0), [(e0, .inr (1, [.ref e1, .ref e2, .ref e3, .ref e4, .ref e5, .int td, .int pk, .int pd]))]]) (b_runLam (x := laX) (xi := ⟨"DairyBook$Measure", "of", "(LDairyBook$Cow;)I"⟩) (y := yX2_lambda_account_3) (σ := laS3) (rt := .int) (Nat.le_of_ble_eq_true rfl) ⟨hx, hb, hml, hown, hts⟩ (va_La.at hE (by decide) la_3) rfl hS rfl lamC_3 ⟨rfl, rfl, by decide +kernel⟩ ⟨by decide, by decide⟩ q1088 (hE.1.1 _ q1090 rfl) (by decide +kernel) (by decide +kernel) (by decide +kernel) q1081 q1082 q63 (mt_La_3 l Γ _ (ca j) (cv j)) rfl rfl (fun st9 v9 t9 h9 => by obtain ⟨⟨r9, u9, e9, ⟨rfl, -⟩, -⟩, -⟩ := h9; cases e9; exact ⟨_, rfl, rfl⟩) (c_pre hP hD hS hA hK hE [0] rfl rfl ro_nil) hl.1 dX2_sum_34 (Nat.le_of_ble_eq_true rfl) (Nat.le_of_ble_eq_true rfl) ⟨(Nat.le_of_ble_eq_true rfl), (Nat.le_of_ble_eq_true rfl)⟩) hP hD hS hA [0] [1, 2, 3, 4, 5] rfl rfl rfl (fun r_6 u_6 H locs hw_6 hP hD hS _ => ?_)
          obtain ⟨rfl, rfl⟩ := hw_6
          have hP : WP Γ [[((ca j), cowE (cv j))], (cowsX n j ca cv), [(t_1, .inr (15, [.int (nI (j + 1)), .int (nI j), .int m0, .ref e1]))], [(e1, .inr (11, [.int m0, .ref x0.1, .int (nI n)]))], (alA Γ x0), [(e0, .inr (1, [.ref e1, .ref e2, .ref e3, .ref e4, .ref e5, .int td, .int pk, .int pd]))]] H := hP
          have hD : WD A [[((ca j), cowE (cv j))], (cowsX n j ca cv), [(t_1, .inr (15, [.int (nI (j + 1)), .int (nI j), .int m0, .ref e1]))], [(e1, .inr (11, [.int m0, .ref x0.1, .int (nI n)]))], (alA Γ x0), [(e0, .inr (1, [.ref e1, .ref e2, .ref e3, .ref e4, .ref e5, .int td, .int pk, .int pd]))]] := hD
          refine lv_iadd hx hb dX2_sum_39 ?_
          refine lv_istore_n (lv' := [(2, .int ((smS laV3 cv j) + (laV3 (cv j)))), (4, .ref (ca j)), (3, .ref t_1), (0, .ref e0), (1, .ref (Γ.2.2 13))]) hx hb dX2_sum_40 rfl hl (by decide) rfl (fun ls hl => ?_)
          have hP : WP Γ [(cowsB n ca (va_up cv j (cv j))), [(t_1, .inr (15, [.int (nI (j + 1)), .int (nI j), .int m0, .ref e1]))], [(e1, .inr (11, [.int m0, .ref x0.1, .int (nI n)]))], (alA Γ x0), [(e0, .inr (1, [.ref e1, .ref e2, .ref e3, .ref e4, .ref e5, .int td, .int pk, .int pd]))]] H := cowP_un hjn hP
          have hD : WD A [(cowsB n ca (va_up cv j (cv j))), [(t_1, .inr (15, [.int (nI (j + 1)), .int (nI j), .int m0, .ref e1]))], [(e1, .inr (11, [.int m0, .ref x0.1, .int (nI n)]))], (alA Γ x0), [(e0, .inr (1, [.ref e1, .ref e2, .ref e3, .ref e4, .ref e5, .int td, .int pk, .int pd]))]] := cowD_un hjn hD
          rw [up_same] at hP hD
          have hl : lv_has ls 5 [(2, .int (smS laV3 cv (j + 1))), (4, .ref (ca j)), (3, .ref t_1), (0, .ref e0), (1, .ref (Γ.2.2 13))] := by rw [← show ((smS laV3 cv j) + (laV3 (cv j))) = smS laV3 cv (j + 1) from rfl]; exact hl
          refine lv_goto (tgt := 10) hx hb dX2_sum_41 (by decide) ?_
          have hP : WP Γ [[(t_1, .inr (15, [.int (nI (j + 1)), .int (nI j), .int m0, .ref e1]))], [(e1, .inr (11, [.int m0, .ref x0.1, .int (nI n)]))], [(e0, .inr (1, [.ref e1, .ref e2, .ref e3, .ref e4, .ref e5, .int td, .int pk, .int pd]))], (alA Γ x0), (cowsB n ca cv)] H := bP_sel hP [1, 2, 4, 3, 0] rfl
          have hD : WD A [[(t_1, .inr (15, [.int (nI (j + 1)), .int (nI j), .int m0, .ref e1]))], [(e1, .inr (11, [.int m0, .ref x0.1, .int (nI n)]))], [(e0, .inr (1, [.ref e1, .ref e2, .ref e3, .ref e4, .ref e5, .int td, .int pk, .int pd]))], (alA Γ x0), (cowsB n ca cv)] := bD_sel hD [1, 2, 4, 3, 0] rfl rfl
          exact ih (j + 1) (nI j) (by omega) (by omega) _ _ _ hP hD hS (lv_sub hl [2, 0, 3, 4] rfl)
      ·
        refine b_call5i (br := [[(e0, .inr (1, [.ref e1, .ref e2, .ref e3, .ref e4, .ref e5, .int td, .int pk, .int pd]))], (alA Γ x0), (cowsB n ca cv)]) (b_runF (x := ⟨"java/util/Iterator", "hasNext", "()Z"⟩) (hK.1 15 _ rfl).2 ⟨hx, hb, hml, hown, hts⟩ (mt_Itr_hasNext_no l Γ _ t_1 e1 m0 x0.1 n j lr (by omega) (by omega)) (hE.1.2.1.1 (fwL[1]'(by decide)) (List.getElem_mem _)) q320 q324 q326 q79 q328 rfl rfl 0 ⟨by decide, by decide, by decide +kernel⟩ ⟨(Nat.le_of_ble_eq_true rfl), (Nat.le_of_ble_eq_true rfl)⟩ (c_pre hP hD hS hA hK hE [0, 1] rfl rfl ro_nil) (recv_at (q := (RJ13, TJ13, 4)) hK (b_at (k := 0) hP rfl) rfl) rfl hl.1 rfl (Nat.le_of_ble_eq_true rfl) dX2_sum_11 ⟨(Nat.le_of_ble_eq_true rfl), (Nat.le_of_ble_eq_true rfl)⟩) hP hD hS hA [0, 1] [2, 3, 4] rfl rfl rfl (fun r_7 u_7 H locs hw_7 hP hD hS _ => ?_)
        obtain ⟨rfl, rfl⟩ := hw_7
        have hP : WP Γ [[(t_1, .inr (15, [.int (nI j), .int lr, .int m0, .ref e1]))], [(e1, .inr (11, [.int m0, .ref x0.1, .int (nI n)]))], [(e0, .inr (1, [.ref e1, .ref e2, .ref e3, .ref e4, .ref e5, .int td, .int pk, .int pd]))], (alA Γ x0), (cowsB n ca cv)] H := hP
        have hD : WD A [[(t_1, .inr (15, [.int (nI j), .int lr, .int m0, .ref e1]))], [(e1, .inr (11, [.int m0, .ref x0.1, .int (nI n)]))], [(e0, .inr (1, [.ref e1, .ref e2, .ref e3, .ref e4, .ref e5, .int td, .int pk, .int pd]))], (alA Γ x0), (cowsB n ca cv)] := hD
        refine lv_if_eq (tgt := 44) hx hb dX2_sum_16 (by decide) (fun c_8 => ?_) (fun c_8 => ?_)
        · -- 16 taken
          have n_8 : 0 = 0 := (nI_eq (by omega) (by omega)).mp (show nI 0 = nI 0 from c_8)
          refine lv_iload_n hx hb dX2_sum_44 rfl (lv_at hl 1 rfl) ?_
          have hP : WP Γ [[(e0, .inr (1, [.ref e1, .ref e2, .ref e3, .ref e4, .ref e5, .int td, .int pk, .int pd]))], [(e1, .inr (11, [.int m0, .ref x0.1, .int (nI n)]))], (alA Γ x0), (cowsB n ca cv)] H := bP_sel hP [2, 1, 3, 4] rfl
          have hD : WD A [[(e0, .inr (1, [.ref e1, .ref e2, .ref e3, .ref e4, .ref e5, .int td, .int pk, .int pd]))], [(e1, .inr (11, [.int m0, .ref x0.1, .int (nI n)]))], (alA Γ x0), (cowsB n ca cv)] := bD_sel hD [2, 1, 3, 4] rfl rfl
          exact b_iret hx hb hr hlocks hP hD hS (Nat.le_of_ble_eq_true rfl) (Nat.le_of_ble_eq_true rfl) ⟨(by rw [show n = j by omega]), (by first | with_reducible rfl | (simp [hjn, n_8]; done) | rfl)⟩ dX2_sum_45
        · -- 16 not taken
          have n_8 : ¬ (0 = 0) := fun hh7 => c_8 ((nI_eq (a := 0) (b := 0) (by omega) (by omega)).mpr hh7)
          exact absurd n_8 (by omega)
  exact loop_2 ((n - 0) + 1) 0 (-1) (Nat.lt_succ_self _) (Nat.zero_le _) _ _ _ hP hD hS (lv_sub hl [0, 1, 2, 3] rfl)
set_option maxHeartbeats 4000000 in
set_option maxRecDepth 100000 in
theorem mt_Hd_sum_4 (l : Launch) (Γ : GE) (sz : Nat) (e0 : Nat) (e1 : Nat) (e2 : Nat) (e3 : Nat) (e4 : Nat) (e5 : Nat) (td : Int32) (pk : Int32) (pd : Int32) (x0 : LST) (m0 : Int32) (n : Nat) (ca : Nat → Nat) (cv : Nat → Nat → Int32) (hal0 : alI Γ x0 n ca) (hn8 : n ≤ 8) : KM l yX2_sum cX2_sum 5 (some FieldType.int) Γ 3 71 1 4 [.ref e0, .ref (Γ.2.2 14)] [[(e0, .inr (1, [.ref e1, .ref e2, .ref e3, .ref e4, .ref e5, .int td, .int pk, .int pd]))], [(e1, .inr (11, [.int m0, .ref x0.1, .int (nI n)]))], (alA Γ x0), (cowsB n ca cv)] [] sz (Qi Γ (fun r_ u_ => r_ = (smS laV4 cv n) ∧ u_ = [[(e0, .inr (1, [.ref e1, .ref e2, .ref e3, .ref e4, .ref e5, .int td, .int pk, .int pd]))], [(e1, .inr (11, [.int m0, .ref x0.1, .int (nI n)]))], (alA Γ x0), (cowsB n ca cv)])) := by
  refine K_intro (by decide) (Nat.le_of_ble_eq_true rfl) ?_
  intro pr_ ev_ s mi_ below meth cd_ A ls hx hb hr hml hown hts hlocks hname hK hE hRo hP hD hA hS hsz hl
  have hl : lv_has ls 5 [(0, .ref e0), (1, .ref (Γ.2.2 14))] := hl
  have hown : s.vm.findClass RX2 = some mi_.cls := hown
  refine lv_iconst (v := 0) hx hb dX2_sum_0 (by decide) ?_
  refine lv_istore_n (lv' := [(2, .int 0), (0, .ref e0), (1, .ref (Γ.2.2 14))]) hx hb dX2_sum_1 rfl hl (by decide) rfl (fun ls hl => ?_)
  refine lv_aload_n hx hb dX2_sum_2 rfl (lv_at hl 1 rfl) ?_
  refine b_get (C := RX2) (T := TX2) (N := 8) (v := .ref e1) hx hb hts in_X2 hown hK (b_at (k := 0) hP rfl) rfl 0 (by decide) q163 (fun _ h9 => h9) rfl dX2_sum_3 ?_
  refine b_callq (br := [[(e0, .inr (1, [.ref e1, .ref e2, .ref e3, .ref e4, .ref e5, .int td, .int pk, .int pd]))], (alA Γ x0), (cowsB n ca cv)]) (b_runV ⟨hx, hb, hml, hown, hts⟩ (mt_AL_iterator l Γ _ e1 m0 x0.1 n) (lw_V q296 q297 q298 q66 q299) rfl rfl 0 (by decide +kernel) ⟨(Nat.le_of_ble_eq_true rfl), (Nat.le_of_ble_eq_true rfl)⟩ (c_pre hP hD hS hA hK hE [1] rfl rfl ro_nil) (recv_at (q := (RJ2, TJ2, 3)) hK (b_at (k := 1) hP rfl) rfl) rfl hl.1 rfl (Nat.le_of_ble_eq_true rfl) dX2_sum_6 ⟨(Nat.le_of_ble_eq_true rfl), (Nat.le_of_ble_eq_true rfl)⟩) hP hD hS hA [1] [0, 2, 3] rfl rfl rfl (fun r_1 u_1 H locs hw_1 hP hD hS _ => ?_)
  obtain ⟨t_1, rfl, rfl⟩ := hw_1
  have hP : WP Γ [[(t_1, .inr (15, [.int (nI 0), .int (-1), .int m0, .ref e1]))], [(e1, .inr (11, [.int m0, .ref x0.1, .int (nI n)]))], [(e0, .inr (1, [.ref e1, .ref e2, .ref e3, .ref e4, .ref e5, .int td, .int pk, .int pd]))], (alA Γ x0), (cowsB n ca cv)] H := hP
  have hD : WD A [[(t_1, .inr (15, [.int (nI 0), .int (-1), .int m0, .ref e1]))], [(e1, .inr (11, [.int m0, .ref x0.1, .int (nI n)]))], [(e0, .inr (1, [.ref e1, .ref e2, .ref e3, .ref e4, .ref e5, .int td, .int pk, .int pd]))], (alA Γ x0), (cowsB n ca cv)] := hD
  refine W.eq (g2 := F0 mi_ 9 ls ([.ref t_1])) rfl ?_
  refine lv_astore_n (lv' := [(3, .ref t_1), (2, .int 0), (0, .ref e0), (1, .ref (Γ.2.2 14))]) hx hb dX2_sum_9 rfl hl (by decide) rfl (fun ls hl => ?_)
  have hl : lv_has ls 5 [(3, .ref t_1), (2, .int (smS laV4 cv 0)), (0, .ref e0), (1, .ref (Γ.2.2 14))] := hl
  have loop_2 : ∀ (fuel : Nat) (j : Nat) (lr : Int32), n - j < fuel → (j ≤ n) → ∀ (H : Heap) (locs : List Loc) (ls : Array Slot), WP Γ [[(t_1, .inr (15, [.int (nI j), .int lr, .int m0, .ref e1]))], [(e1, .inr (11, [.int m0, .ref x0.1, .int (nI n)]))], [(e0, .inr (1, [.ref e1, .ref e2, .ref e3, .ref e4, .ref e5, .int td, .int pk, .int pd]))], (alA Γ x0), (cowsB n ca cv)] H → WD A [[(t_1, .inr (15, [.int (nI j), .int lr, .int m0, .ref e1]))], [(e1, .inr (11, [.int m0, .ref x0.1, .int (nI n)]))], [(e0, .inr (1, [.ref e1, .ref e2, .ref e3, .ref e4, .ref e5, .int td, .int pk, .int pd]))], (alA Γ x0), (cowsB n ca cv)] → va_S A s.heap H locs → lv_has ls 5 [(3, .ref t_1), (2, .int (smS laV4 cv j)), (0, .ref e0), (1, .ref (Γ.2.2 14))] → W pr_ l ev_ { frames := 3, cells := 1, slots := 4, locals := 71 } s mi_ ([.ref e0, .ref (Γ.2.2 14)] : List Value).toArray below meth cd_ H locs 1 4 (MQ below (Qi Γ (fun r_ u_ => r_ = (smS laV4 cv n) ∧ u_ = [[(e0, .inr (1, [.ref e1, .ref e2, .ref e3, .ref e4, .ref e5, .int td, .int pk, .int pd]))], [(e1, .inr (11, [.int m0, .ref x0.1, .int (nI n)]))], (alA Γ x0), (cowsB n ca cv)]) A) ([.ref e0, .ref (Γ.2.2 14)] : List Value).toArray s 1 4 A) (F0 mi_ 10 ls ([])) := by
    intro fuel
    induction fuel with
    | zero => intro j lr hfuel; exact absurd hfuel (Nat.not_lt_zero _)
    | succ fuel ih =>
      intro j lr hfuel hj H locs ls hP hD hS hl
      refine lv_aload_n hx hb dX2_sum_10 rfl (lv_at hl 0 rfl) ?_
      by_cases hjn : j < n
      ·
        refine b_call5i (br := [[(e0, .inr (1, [.ref e1, .ref e2, .ref e3, .ref e4, .ref e5, .int td, .int pk, .int pd]))], (alA Γ x0), (cowsB n ca cv)]) (b_runF (x := ⟨"java/util/Iterator", "hasNext", "()Z"⟩) (hK.1 15 _ rfl).2 ⟨hx, hb, hml, hown, hts⟩ (mt_Itr_hasNext_yes l Γ _ t_1 e1 m0 x0.1 n j lr (by omega) (by omega)) (hE.1.2.1.1 (fwL[1]'(by decide)) (List.getElem_mem _)) q320 q324 q326 q79 q328 rfl rfl 0 ⟨by decide, by decide, by decide +kernel⟩ ⟨(Nat.le_of_ble_eq_true rfl), (Nat.le_of_ble_eq_true rfl)⟩ (c_pre hP hD hS hA hK hE [0, 1] rfl rfl ro_nil) (recv_at (q := (RJ13, TJ13, 4)) hK (b_at (k := 0) hP rfl) rfl) rfl hl.1 rfl (Nat.le_of_ble_eq_true rfl) dX2_sum_11 ⟨(Nat.le_of_ble_eq_true rfl), (Nat.le_of_ble_eq_true rfl)⟩) hP hD hS hA [0, 1] [2, 3, 4] rfl rfl rfl (fun r_3 u_3 H locs hw_3 hP hD hS _ => ?_)
        obtain ⟨rfl, rfl⟩ := hw_3
        have hP : WP Γ [[(t_1, .inr (15, [.int (nI j), .int lr, .int m0, .ref e1]))], [(e1, .inr (11, [.int m0, .ref x0.1, .int (nI n)]))], [(e0, .inr (1, [.ref e1, .ref e2, .ref e3, .ref e4, .ref e5, .int td, .int pk, .int pd]))], (alA Γ x0), (cowsB n ca cv)] H := hP
        have hD : WD A [[(t_1, .inr (15, [.int (nI j), .int lr, .int m0, .ref e1]))], [(e1, .inr (11, [.int m0, .ref x0.1, .int (nI n)]))], [(e0, .inr (1, [.ref e1, .ref e2, .ref e3, .ref e4, .ref e5, .int td, .int pk, .int pd]))], (alA Γ x0), (cowsB n ca cv)] := hD
        refine lv_if_eq (tgt := 44) hx hb dX2_sum_16 (by decide) (fun c_4 => ?_) (fun c_4 => ?_)
        · -- 16 taken
          have n_4 : 1 = 0 := (nI_eq (by omega) (by omega)).mp (show nI 1 = nI 0 from c_4)
          exact absurd n_4 (by omega)
        · -- 16 not taken
          have n_4 : ¬ (1 = 0) := fun hh7 => c_4 ((nI_eq (a := 1) (b := 0) (by omega) (by omega)).mpr hh7)
          refine lv_aload_n hx hb dX2_sum_19 rfl (lv_at hl 0 rfl) ?_
          refine b_call5q (br := [[(e0, .inr (1, [.ref e1, .ref e2, .ref e3, .ref e4, .ref e5, .int td, .int pk, .int pd]))], (cowsB n ca cv)]) (b_runF (x := ⟨"java/util/Iterator", "next", "()Ljava/lang/Object;"⟩) (hK.1 15 _ rfl).2 ⟨hx, hb, hml, hown, hts⟩ (mt_Itr_next l Γ _ t_1 e1 m0 x0 n j lr ca hal0 (by omega)) (hE.1.2.1.1 (fwL[2]'(by decide)) (List.getElem_mem _)) q330 q333 q335 q79 q337 rfl rfl 0 ⟨by decide, by decide, by decide +kernel⟩ ⟨(Nat.le_of_ble_eq_true rfl), (Nat.le_of_ble_eq_true rfl)⟩ (c_pre hP hD hS hA hK hE [0, 1, 3] rfl rfl ro_nil) (recv_at (q := (RJ13, TJ13, 4)) hK (b_at (k := 0) hP rfl) rfl) rfl hl.1 rfl (Nat.le_of_ble_eq_true rfl) dX2_sum_20 ⟨(Nat.le_of_ble_eq_true rfl), (Nat.le_of_ble_eq_true rfl)⟩) hP hD hS hA [0, 1, 3] [2, 4] rfl rfl rfl (fun r_5 u_5 H locs hw_5 hP hD hS _ => ?_)
          obtain ⟨rfl, rfl⟩ := hw_5
          have hP : WP Γ [[(t_1, .inr (15, [.int (nI (j + 1)), .int (nI j), .int m0, .ref e1]))], [(e1, .inr (11, [.int m0, .ref x0.1, .int (nI n)]))], (alA Γ x0), [(e0, .inr (1, [.ref e1, .ref e2, .ref e3, .ref e4, .ref e5, .int td, .int pk, .int pd]))], (cowsB n ca cv)] H := hP
          have hD : WD A [[(t_1, .inr (15, [.int (nI (j + 1)), .int (nI j), .int m0, .ref e1]))], [(e1, .inr (11, [.int m0, .ref x0.1, .int (nI n)]))], (alA Γ x0), [(e0, .inr (1, [.ref e1, .ref e2, .ref e3, .ref e4, .ref e5, .int td, .int pk, .int pd]))], (cowsB n ca cv)] := hD
          refine W.eq (g2 := F0 mi_ 25 ls ([.ref (ca j)])) rfl ?_
          have hP : WP Γ [(cowsB n ca cv), [(t_1, .inr (15, [.int (nI (j + 1)), .int (nI j), .int m0, .ref e1]))], [(e1, .inr (11, [.int m0, .ref x0.1, .int (nI n)]))], (alA Γ x0), [(e0, .inr (1, [.ref e1, .ref e2, .ref e3, .ref e4, .ref e5, .int td, .int pk, .int pd]))]] H := bP_sel hP [4, 0, 1, 2, 3] rfl
          have hD : WD A [(cowsB n ca cv), [(t_1, .inr (15, [.int (nI (j + 1)), .int (nI j), .int m0, .ref e1]))], [(e1, .inr (11, [.int m0, .ref x0.1, .int (nI n)]))], (alA Γ x0), [(e0, .inr (1, [.ref e1, .ref e2, .ref e3, .ref e4, .ref e5, .int td, .int pk, .int pd]))]] := bD_sel hD [4, 0, 1, 2, 3] rfl rfl
          have hP : WP Γ [[((ca j), cowE (cv j))], (cowsX n j ca cv), [(t_1, .inr (15, [.int (nI (j + 1)), .int (nI j), .int m0, .ref e1]))], [(e1, .inr (11, [.int m0, .ref x0.1, .int (nI n)]))], (alA Γ x0), [(e0, .inr (1, [.ref e1, .ref e2, .ref e3, .ref e4, .ref e5, .int td, .int pk, .int pd]))]] H := cowP_focus hjn hP
          have hD : WD A [[((ca j), cowE (cv j))], (cowsX n j ca cv), [(t_1, .inr (15, [.int (nI (j + 1)), .int (nI j), .int m0, .ref e1]))], [(e1, .inr (11, [.int m0, .ref x0.1, .int (nI n)]))], (alA Γ x0), [(e0, .inr (1, [.ref e1, .ref e2, .ref e3, .ref e4, .ref e5, .int td, .int pk, .int pd]))]] := cowD_focus hjn hD
          refine va_castS hx hb hown (hts _ q412) (hK.1 4 _ rfl).2 (recv_at (q := (RX5, TX5, 12)) hK (b_at (k := 0) hP rfl) rfl) dX2_sum_25 ?_
          refine lv_astore (lv' := [(4, .ref (ca j)), (3, .ref t_1), (2, .int (smS laV4 cv j)), (0, .ref e0), (1, .ref (Γ.2.2 14))]) hx hb dX2_sum_28 hl (by decide) rfl (fun ls hl => ?_)
          refine lv_iload_n hx hb dX2_sum_30 rfl (lv_at hl 2 rfl) ?_
          refine lv_aload_n hx hb dX2_sum_31 rfl (lv_at hl 4 rfl) ?_
          refine lv_aload hx hb dX2_sum_32 (lv_at hl 0 rfl) ?_
          refine b_call5i (br := [(cowsX n j ca cv), [(t_1, .inr (15, [.int (nI (j + 1)), .int (nI j), .int m0, .ref e1]))], [(e1, .inr (11, [.int m0, .ref x0.1, .int (nI n)]))], (alA Γ x0), [(e0, .inr (1, [.ref e1, .ref e2, .ref e3, .ref e4, .ref e5, .int td, .int pk, .int pd]))]]) (b_runLam (x := laX) (xi := ⟨"DairyBook$Measure", "of", "(LDairyBook$Cow;)I"⟩) (y := yX2_lambda_account_4) (σ := laS4) (rt := .int) (Nat.le_of_ble_eq_true rfl) ⟨hx, hb, hml, hown, hts⟩ (va_La.at hE (by decide) la_4) rfl hS rfl lamC_4 ⟨rfl, rfl, by decide +kernel⟩ ⟨by decide, by decide⟩ q1088 (hE.1.1 _ q1090 rfl) (by decide +kernel) (by decide +kernel) (by decide +kernel) q1091 q1092 q63 (mt_La_4 l Γ _ (ca j) (cv j)) rfl rfl (fun st9 v9 t9 h9 => by obtain ⟨⟨r9, u9, e9, ⟨rfl, -⟩, -⟩, -⟩ := h9; cases e9; exact ⟨_, rfl, rfl⟩) (c_pre hP hD hS hA hK hE [0] rfl rfl ro_nil) hl.1 dX2_sum_34 (Nat.le_of_ble_eq_true rfl) (Nat.le_of_ble_eq_true rfl) ⟨(Nat.le_of_ble_eq_true rfl), (Nat.le_of_ble_eq_true rfl)⟩) hP hD hS hA [0] [1, 2, 3, 4, 5] rfl rfl rfl (fun r_6 u_6 H locs hw_6 hP hD hS _ => ?_)
          obtain ⟨rfl, rfl⟩ := hw_6
          have hP : WP Γ [[((ca j), cowE (cv j))], (cowsX n j ca cv), [(t_1, .inr (15, [.int (nI (j + 1)), .int (nI j), .int m0, .ref e1]))], [(e1, .inr (11, [.int m0, .ref x0.1, .int (nI n)]))], (alA Γ x0), [(e0, .inr (1, [.ref e1, .ref e2, .ref e3, .ref e4, .ref e5, .int td, .int pk, .int pd]))]] H := hP
          have hD : WD A [[((ca j), cowE (cv j))], (cowsX n j ca cv), [(t_1, .inr (15, [.int (nI (j + 1)), .int (nI j), .int m0, .ref e1]))], [(e1, .inr (11, [.int m0, .ref x0.1, .int (nI n)]))], (alA Γ x0), [(e0, .inr (1, [.ref e1, .ref e2, .ref e3, .ref e4, .ref e5, .int td, .int pk, .int pd]))]] := hD
          refine lv_iadd hx hb dX2_sum_39 ?_
          refine lv_istore_n (lv' := [(2, .int ((smS laV4 cv j) + (laV4 (cv j)))), (4, .ref (ca j)), (3, .ref t_1), (0, .ref e0), (1, .ref (Γ.2.2 14))]) hx hb dX2_sum_40 rfl hl (by decide) rfl (fun ls hl => ?_)
          have hP : WP Γ [(cowsB n ca (va_up cv j (cv j))), [(t_1, .inr (15, [.int (nI (j + 1)), .int (nI j), .int m0, .ref e1]))], [(e1, .inr (11, [.int m0, .ref x0.1, .int (nI n)]))], (alA Γ x0), [(e0, .inr (1, [.ref e1, .ref e2, .ref e3, .ref e4, .ref e5, .int td, .int pk, .int pd]))]] H := cowP_un hjn hP
          have hD : WD A [(cowsB n ca (va_up cv j (cv j))), [(t_1, .inr (15, [.int (nI (j + 1)), .int (nI j), .int m0, .ref e1]))], [(e1, .inr (11, [.int m0, .ref x0.1, .int (nI n)]))], (alA Γ x0), [(e0, .inr (1, [.ref e1, .ref e2, .ref e3, .ref e4, .ref e5, .int td, .int pk, .int pd]))]] := cowD_un hjn hD
          rw [up_same] at hP hD
          have hl : lv_has ls 5 [(2, .int (smS laV4 cv (j + 1))), (4, .ref (ca j)), (3, .ref t_1), (0, .ref e0), (1, .ref (Γ.2.2 14))] := by rw [← show ((smS laV4 cv j) + (laV4 (cv j))) = smS laV4 cv (j + 1) from rfl]; exact hl
          refine lv_goto (tgt := 10) hx hb dX2_sum_41 (by decide) ?_
          have hP : WP Γ [[(t_1, .inr (15, [.int (nI (j + 1)), .int (nI j), .int m0, .ref e1]))], [(e1, .inr (11, [.int m0, .ref x0.1, .int (nI n)]))], [(e0, .inr (1, [.ref e1, .ref e2, .ref e3, .ref e4, .ref e5, .int td, .int pk, .int pd]))], (alA Γ x0), (cowsB n ca cv)] H := bP_sel hP [1, 2, 4, 3, 0] rfl
          have hD : WD A [[(t_1, .inr (15, [.int (nI (j + 1)), .int (nI j), .int m0, .ref e1]))], [(e1, .inr (11, [.int m0, .ref x0.1, .int (nI n)]))], [(e0, .inr (1, [.ref e1, .ref e2, .ref e3, .ref e4, .ref e5, .int td, .int pk, .int pd]))], (alA Γ x0), (cowsB n ca cv)] := bD_sel hD [1, 2, 4, 3, 0] rfl rfl
          exact ih (j + 1) (nI j) (by omega) (by omega) _ _ _ hP hD hS (lv_sub hl [2, 0, 3, 4] rfl)
      ·
        refine b_call5i (br := [[(e0, .inr (1, [.ref e1, .ref e2, .ref e3, .ref e4, .ref e5, .int td, .int pk, .int pd]))], (alA Γ x0), (cowsB n ca cv)]) (b_runF (x := ⟨"java/util/Iterator", "hasNext", "()Z"⟩) (hK.1 15 _ rfl).2 ⟨hx, hb, hml, hown, hts⟩ (mt_Itr_hasNext_no l Γ _ t_1 e1 m0 x0.1 n j lr (by omega) (by omega)) (hE.1.2.1.1 (fwL[1]'(by decide)) (List.getElem_mem _)) q320 q324 q326 q79 q328 rfl rfl 0 ⟨by decide, by decide, by decide +kernel⟩ ⟨(Nat.le_of_ble_eq_true rfl), (Nat.le_of_ble_eq_true rfl)⟩ (c_pre hP hD hS hA hK hE [0, 1] rfl rfl ro_nil) (recv_at (q := (RJ13, TJ13, 4)) hK (b_at (k := 0) hP rfl) rfl) rfl hl.1 rfl (Nat.le_of_ble_eq_true rfl) dX2_sum_11 ⟨(Nat.le_of_ble_eq_true rfl), (Nat.le_of_ble_eq_true rfl)⟩) hP hD hS hA [0, 1] [2, 3, 4] rfl rfl rfl (fun r_7 u_7 H locs hw_7 hP hD hS _ => ?_)
        obtain ⟨rfl, rfl⟩ := hw_7
        have hP : WP Γ [[(t_1, .inr (15, [.int (nI j), .int lr, .int m0, .ref e1]))], [(e1, .inr (11, [.int m0, .ref x0.1, .int (nI n)]))], [(e0, .inr (1, [.ref e1, .ref e2, .ref e3, .ref e4, .ref e5, .int td, .int pk, .int pd]))], (alA Γ x0), (cowsB n ca cv)] H := hP
        have hD : WD A [[(t_1, .inr (15, [.int (nI j), .int lr, .int m0, .ref e1]))], [(e1, .inr (11, [.int m0, .ref x0.1, .int (nI n)]))], [(e0, .inr (1, [.ref e1, .ref e2, .ref e3, .ref e4, .ref e5, .int td, .int pk, .int pd]))], (alA Γ x0), (cowsB n ca cv)] := hD
        refine lv_if_eq (tgt := 44) hx hb dX2_sum_16 (by decide) (fun c_8 => ?_) (fun c_8 => ?_)
        · -- 16 taken
          have n_8 : 0 = 0 := (nI_eq (by omega) (by omega)).mp (show nI 0 = nI 0 from c_8)
          refine lv_iload_n hx hb dX2_sum_44 rfl (lv_at hl 1 rfl) ?_
          have hP : WP Γ [[(e0, .inr (1, [.ref e1, .ref e2, .ref e3, .ref e4, .ref e5, .int td, .int pk, .int pd]))], [(e1, .inr (11, [.int m0, .ref x0.1, .int (nI n)]))], (alA Γ x0), (cowsB n ca cv)] H := bP_sel hP [2, 1, 3, 4] rfl
          have hD : WD A [[(e0, .inr (1, [.ref e1, .ref e2, .ref e3, .ref e4, .ref e5, .int td, .int pk, .int pd]))], [(e1, .inr (11, [.int m0, .ref x0.1, .int (nI n)]))], (alA Γ x0), (cowsB n ca cv)] := bD_sel hD [2, 1, 3, 4] rfl rfl
          exact b_iret hx hb hr hlocks hP hD hS (Nat.le_of_ble_eq_true rfl) (Nat.le_of_ble_eq_true rfl) ⟨(by rw [show n = j by omega]), (by first | with_reducible rfl | (simp [hjn, n_8]; done) | rfl)⟩ dX2_sum_45
        · -- 16 not taken
          have n_8 : ¬ (0 = 0) := fun hh7 => c_8 ((nI_eq (a := 0) (b := 0) (by omega) (by omega)).mpr hh7)
          exact absurd n_8 (by omega)
  exact loop_2 ((n - 0) + 1) 0 (-1) (Nat.lt_succ_self _) (Nat.zero_le _) _ _ _ hP hD hS (lv_sub hl [0, 1, 2, 3] rfl)
set_option maxHeartbeats 4000000 in
set_option maxRecDepth 100000 in
theorem mt_Hd_sum_5 (l : Launch) (Γ : GE) (sz : Nat) (e0 : Nat) (e1 : Nat) (e2 : Nat) (e3 : Nat) (e4 : Nat) (e5 : Nat) (td : Int32) (pk : Int32) (pd : Int32) (x0 : LST) (m0 : Int32) (n : Nat) (ca : Nat → Nat) (cv : Nat → Nat → Int32) (hal0 : alI Γ x0 n ca) (hn8 : n ≤ 8) : KM l yX2_sum cX2_sum 5 (some FieldType.int) Γ 3 71 1 4 [.ref e0, .ref (Γ.2.2 15)] [[(e0, .inr (1, [.ref e1, .ref e2, .ref e3, .ref e4, .ref e5, .int td, .int pk, .int pd]))], [(e1, .inr (11, [.int m0, .ref x0.1, .int (nI n)]))], (alA Γ x0), (cowsB n ca cv)] [] sz (Qi Γ (fun r_ u_ => r_ = (smS laV5 cv n) ∧ u_ = [[(e0, .inr (1, [.ref e1, .ref e2, .ref e3, .ref e4, .ref e5, .int td, .int pk, .int pd]))], [(e1, .inr (11, [.int m0, .ref x0.1, .int (nI n)]))], (alA Γ x0), (cowsB n ca cv)])) := by
  refine K_intro (by decide) (Nat.le_of_ble_eq_true rfl) ?_
  intro pr_ ev_ s mi_ below meth cd_ A ls hx hb hr hml hown hts hlocks hname hK hE hRo hP hD hA hS hsz hl
  have hl : lv_has ls 5 [(0, .ref e0), (1, .ref (Γ.2.2 15))] := hl
  have hown : s.vm.findClass RX2 = some mi_.cls := hown
  refine lv_iconst (v := 0) hx hb dX2_sum_0 (by decide) ?_
  refine lv_istore_n (lv' := [(2, .int 0), (0, .ref e0), (1, .ref (Γ.2.2 15))]) hx hb dX2_sum_1 rfl hl (by decide) rfl (fun ls hl => ?_)
  refine lv_aload_n hx hb dX2_sum_2 rfl (lv_at hl 1 rfl) ?_
  refine b_get (C := RX2) (T := TX2) (N := 8) (v := .ref e1) hx hb hts in_X2 hown hK (b_at (k := 0) hP rfl) rfl 0 (by decide) q163 (fun _ h9 => h9) rfl dX2_sum_3 ?_
  refine b_callq (br := [[(e0, .inr (1, [.ref e1, .ref e2, .ref e3, .ref e4, .ref e5, .int td, .int pk, .int pd]))], (alA Γ x0), (cowsB n ca cv)]) (b_runV ⟨hx, hb, hml, hown, hts⟩ (mt_AL_iterator l Γ _ e1 m0 x0.1 n) (lw_V q296 q297 q298 q66 q299) rfl rfl 0 (by decide +kernel) ⟨(Nat.le_of_ble_eq_true rfl), (Nat.le_of_ble_eq_true rfl)⟩ (c_pre hP hD hS hA hK hE [1] rfl rfl ro_nil) (recv_at (q := (RJ2, TJ2, 3)) hK (b_at (k := 1) hP rfl) rfl) rfl hl.1 rfl (Nat.le_of_ble_eq_true rfl) dX2_sum_6 ⟨(Nat.le_of_ble_eq_true rfl), (Nat.le_of_ble_eq_true rfl)⟩) hP hD hS hA [1] [0, 2, 3] rfl rfl rfl (fun r_1 u_1 H locs hw_1 hP hD hS _ => ?_)
  obtain ⟨t_1, rfl, rfl⟩ := hw_1
  have hP : WP Γ [[(t_1, .inr (15, [.int (nI 0), .int (-1), .int m0, .ref e1]))], [(e1, .inr (11, [.int m0, .ref x0.1, .int (nI n)]))], [(e0, .inr (1, [.ref e1, .ref e2, .ref e3, .ref e4, .ref e5, .int td, .int pk, .int pd]))], (alA Γ x0), (cowsB n ca cv)] H := hP
  have hD : WD A [[(t_1, .inr (15, [.int (nI 0), .int (-1), .int m0, .ref e1]))], [(e1, .inr (11, [.int m0, .ref x0.1, .int (nI n)]))], [(e0, .inr (1, [.ref e1, .ref e2, .ref e3, .ref e4, .ref e5, .int td, .int pk, .int pd]))], (alA Γ x0), (cowsB n ca cv)] := hD
  refine W.eq (g2 := F0 mi_ 9 ls ([.ref t_1])) rfl ?_
  refine lv_astore_n (lv' := [(3, .ref t_1), (2, .int 0), (0, .ref e0), (1, .ref (Γ.2.2 15))]) hx hb dX2_sum_9 rfl hl (by decide) rfl (fun ls hl => ?_)
  have hl : lv_has ls 5 [(3, .ref t_1), (2, .int (smS laV5 cv 0)), (0, .ref e0), (1, .ref (Γ.2.2 15))] := hl
  have loop_2 : ∀ (fuel : Nat) (j : Nat) (lr : Int32), n - j < fuel → (j ≤ n) → ∀ (H : Heap) (locs : List Loc) (ls : Array Slot), WP Γ [[(t_1, .inr (15, [.int (nI j), .int lr, .int m0, .ref e1]))], [(e1, .inr (11, [.int m0, .ref x0.1, .int (nI n)]))], [(e0, .inr (1, [.ref e1, .ref e2, .ref e3, .ref e4, .ref e5, .int td, .int pk, .int pd]))], (alA Γ x0), (cowsB n ca cv)] H → WD A [[(t_1, .inr (15, [.int (nI j), .int lr, .int m0, .ref e1]))], [(e1, .inr (11, [.int m0, .ref x0.1, .int (nI n)]))], [(e0, .inr (1, [.ref e1, .ref e2, .ref e3, .ref e4, .ref e5, .int td, .int pk, .int pd]))], (alA Γ x0), (cowsB n ca cv)] → va_S A s.heap H locs → lv_has ls 5 [(3, .ref t_1), (2, .int (smS laV5 cv j)), (0, .ref e0), (1, .ref (Γ.2.2 15))] → W pr_ l ev_ { frames := 3, cells := 1, slots := 4, locals := 71 } s mi_ ([.ref e0, .ref (Γ.2.2 15)] : List Value).toArray below meth cd_ H locs 1 4 (MQ below (Qi Γ (fun r_ u_ => r_ = (smS laV5 cv n) ∧ u_ = [[(e0, .inr (1, [.ref e1, .ref e2, .ref e3, .ref e4, .ref e5, .int td, .int pk, .int pd]))], [(e1, .inr (11, [.int m0, .ref x0.1, .int (nI n)]))], (alA Γ x0), (cowsB n ca cv)]) A) ([.ref e0, .ref (Γ.2.2 15)] : List Value).toArray s 1 4 A) (F0 mi_ 10 ls ([])) := by
    intro fuel
    induction fuel with
    | zero => intro j lr hfuel; exact absurd hfuel (Nat.not_lt_zero _)
    | succ fuel ih =>
      intro j lr hfuel hj H locs ls hP hD hS hl
      refine lv_aload_n hx hb dX2_sum_10 rfl (lv_at hl 0 rfl) ?_
      by_cases hjn : j < n
      ·
        refine b_call5i (br := [[(e0, .inr (1, [.ref e1, .ref e2, .ref e3, .ref e4, .ref e5, .int td, .int pk, .int pd]))], (alA Γ x0), (cowsB n ca cv)]) (b_runF (x := ⟨"java/util/Iterator", "hasNext", "()Z"⟩) (hK.1 15 _ rfl).2 ⟨hx, hb, hml, hown, hts⟩ (mt_Itr_hasNext_yes l Γ _ t_1 e1 m0 x0.1 n j lr (by omega) (by omega)) (hE.1.2.1.1 (fwL[1]'(by decide)) (List.getElem_mem _)) q320 q324 q326 q79 q328 rfl rfl 0 ⟨by decide, by decide, by decide +kernel⟩ ⟨(Nat.le_of_ble_eq_true rfl), (Nat.le_of_ble_eq_true rfl)⟩ (c_pre hP hD hS hA hK hE [0, 1] rfl rfl ro_nil) (recv_at (q := (RJ13, TJ13, 4)) hK (b_at (k := 0) hP rfl) rfl) rfl hl.1 rfl (Nat.le_of_ble_eq_true rfl) dX2_sum_11 ⟨(Nat.le_of_ble_eq_true rfl), (Nat.le_of_ble_eq_true rfl)⟩) hP hD hS hA [0, 1] [2, 3, 4] rfl rfl rfl (fun r_3 u_3 H locs hw_3 hP hD hS _ => ?_)
        obtain ⟨rfl, rfl⟩ := hw_3
        have hP : WP Γ [[(t_1, .inr (15, [.int (nI j), .int lr, .int m0, .ref e1]))], [(e1, .inr (11, [.int m0, .ref x0.1, .int (nI n)]))], [(e0, .inr (1, [.ref e1, .ref e2, .ref e3, .ref e4, .ref e5, .int td, .int pk, .int pd]))], (alA Γ x0), (cowsB n ca cv)] H := hP
        have hD : WD A [[(t_1, .inr (15, [.int (nI j), .int lr, .int m0, .ref e1]))], [(e1, .inr (11, [.int m0, .ref x0.1, .int (nI n)]))], [(e0, .inr (1, [.ref e1, .ref e2, .ref e3, .ref e4, .ref e5, .int td, .int pk, .int pd]))], (alA Γ x0), (cowsB n ca cv)] := hD
        refine lv_if_eq (tgt := 44) hx hb dX2_sum_16 (by decide) (fun c_4 => ?_) (fun c_4 => ?_)
        · -- 16 taken
          have n_4 : 1 = 0 := (nI_eq (by omega) (by omega)).mp (show nI 1 = nI 0 from c_4)
          exact absurd n_4 (by omega)
        · -- 16 not taken
          have n_4 : ¬ (1 = 0) := fun hh7 => c_4 ((nI_eq (a := 1) (b := 0) (by omega) (by omega)).mpr hh7)
          refine lv_aload_n hx hb dX2_sum_19 rfl (lv_at hl 0 rfl) ?_
          refine b_call5q (br := [[(e0, .inr (1, [.ref e1, .ref e2, .ref e3, .ref e4, .ref e5, .int td, .int pk, .int pd]))], (cowsB n ca cv)]) (b_runF (x := ⟨"java/util/Iterator", "next", "()Ljava/lang/Object;"⟩) (hK.1 15 _ rfl).2 ⟨hx, hb, hml, hown, hts⟩ (mt_Itr_next l Γ _ t_1 e1 m0 x0 n j lr ca hal0 (by omega)) (hE.1.2.1.1 (fwL[2]'(by decide)) (List.getElem_mem _)) q330 q333 q335 q79 q337 rfl rfl 0 ⟨by decide, by decide, by decide +kernel⟩ ⟨(Nat.le_of_ble_eq_true rfl), (Nat.le_of_ble_eq_true rfl)⟩ (c_pre hP hD hS hA hK hE [0, 1, 3] rfl rfl ro_nil) (recv_at (q := (RJ13, TJ13, 4)) hK (b_at (k := 0) hP rfl) rfl) rfl hl.1 rfl (Nat.le_of_ble_eq_true rfl) dX2_sum_20 ⟨(Nat.le_of_ble_eq_true rfl), (Nat.le_of_ble_eq_true rfl)⟩) hP hD hS hA [0, 1, 3] [2, 4] rfl rfl rfl (fun r_5 u_5 H locs hw_5 hP hD hS _ => ?_)
          obtain ⟨rfl, rfl⟩ := hw_5
          have hP : WP Γ [[(t_1, .inr (15, [.int (nI (j + 1)), .int (nI j), .int m0, .ref e1]))], [(e1, .inr (11, [.int m0, .ref x0.1, .int (nI n)]))], (alA Γ x0), [(e0, .inr (1, [.ref e1, .ref e2, .ref e3, .ref e4, .ref e5, .int td, .int pk, .int pd]))], (cowsB n ca cv)] H := hP
          have hD : WD A [[(t_1, .inr (15, [.int (nI (j + 1)), .int (nI j), .int m0, .ref e1]))], [(e1, .inr (11, [.int m0, .ref x0.1, .int (nI n)]))], (alA Γ x0), [(e0, .inr (1, [.ref e1, .ref e2, .ref e3, .ref e4, .ref e5, .int td, .int pk, .int pd]))], (cowsB n ca cv)] := hD
          refine W.eq (g2 := F0 mi_ 25 ls ([.ref (ca j)])) rfl ?_
          have hP : WP Γ [(cowsB n ca cv), [(t_1, .inr (15, [.int (nI (j + 1)), .int (nI j), .int m0, .ref e1]))], [(e1, .inr (11, [.int m0, .ref x0.1, .int (nI n)]))], (alA Γ x0), [(e0, .inr (1, [.ref e1, .ref e2, .ref e3, .ref e4, .ref e5, .int td, .int pk, .int pd]))]] H := bP_sel hP [4, 0, 1, 2, 3] rfl
          have hD : WD A [(cowsB n ca cv), [(t_1, .inr (15, [.int (nI (j + 1)), .int (nI j), .int m0, .ref e1]))], [(e1, .inr (11, [.int m0, .ref x0.1, .int (nI n)]))], (alA Γ x0), [(e0, .inr (1, [.ref e1, .ref e2, .ref e3, .ref e4, .ref e5, .int td, .int pk, .int pd]))]] := bD_sel hD [4, 0, 1, 2, 3] rfl rfl
          have hP : WP Γ [[((ca j), cowE (cv j))], (cowsX n j ca cv), [(t_1, .inr (15, [.int (nI (j + 1)), .int (nI j), .int m0, .ref e1]))], [(e1, .inr (11, [.int m0, .ref x0.1, .int (nI n)]))], (alA Γ x0), [(e0, .inr (1, [.ref e1, .ref e2, .ref e3, .ref e4, .ref e5, .int td, .int pk, .int pd]))]] H := cowP_focus hjn hP
          have hD : WD A [[((ca j), cowE (cv j))], (cowsX n j ca cv), [(t_1, .inr (15, [.int (nI (j + 1)), .int (nI j), .int m0, .ref e1]))], [(e1, .inr (11, [.int m0, .ref x0.1, .int (nI n)]))], (alA Γ x0), [(e0, .inr (1, [.ref e1, .ref e2, .ref e3, .ref e4, .ref e5, .int td, .int pk, .int pd]))]] := cowD_focus hjn hD
          refine va_castS hx hb hown (hts _ q412) (hK.1 4 _ rfl).2 (recv_at (q := (RX5, TX5, 12)) hK (b_at (k := 0) hP rfl) rfl) dX2_sum_25 ?_
          refine lv_astore (lv' := [(4, .ref (ca j)), (3, .ref t_1), (2, .int (smS laV5 cv j)), (0, .ref e0), (1, .ref (Γ.2.2 15))]) hx hb dX2_sum_28 hl (by decide) rfl (fun ls hl => ?_)
          refine lv_iload_n hx hb dX2_sum_30 rfl (lv_at hl 2 rfl) ?_
          refine lv_aload_n hx hb dX2_sum_31 rfl (lv_at hl 4 rfl) ?_
          refine lv_aload hx hb dX2_sum_32 (lv_at hl 0 rfl) ?_
          refine b_call5i (br := [(cowsX n j ca cv), [(t_1, .inr (15, [.int (nI (j + 1)), .int (nI j), .int m0, .ref e1]))], [(e1, .inr (11, [.int m0, .ref x0.1, .int (nI n)]))], (alA Γ x0), [(e0, .inr (1, [.ref e1, .ref e2, .ref e3, .ref e4, .ref e5, .int td, .int pk, .int pd]))]]) (b_runLam (x := laX) (xi := ⟨"DairyBook$Measure", "of", "(LDairyBook$Cow;)I"⟩) (y := yX2_lambda_account_5) (σ := laS5) (rt := .int) (Nat.le_of_ble_eq_true rfl) ⟨hx, hb, hml, hown, hts⟩ (va_La.at hE (by decide) la_5) rfl hS rfl lamC_5 ⟨rfl, rfl, by decide +kernel⟩ ⟨by decide, by decide⟩ q1088 (hE.1.1 _ q1090 rfl) (by decide +kernel) (by decide +kernel) (by decide +kernel) q1093 q1094 q63 (mt_La_5 l Γ _ (ca j) (cv j)) rfl rfl (fun st9 v9 t9 h9 => by obtain ⟨⟨r9, u9, e9, ⟨rfl, -⟩, -⟩, -⟩ := h9; cases e9; exact ⟨_, rfl, rfl⟩) (c_pre hP hD hS hA hK hE [0] rfl rfl ro_nil) hl.1 dX2_sum_34 (Nat.le_of_ble_eq_true rfl) (Nat.le_of_ble_eq_true rfl) ⟨(Nat.le_of_ble_eq_true rfl), (Nat.le_of_ble_eq_true rfl)⟩) hP hD hS hA [0] [1, 2, 3, 4, 5] rfl rfl rfl (fun r_6 u_6 H locs hw_6 hP hD hS _ => ?_)
          obtain ⟨rfl, rfl⟩ := hw_6
          have hP : WP Γ [[((ca j), cowE (cv j))], (cowsX n j ca cv), [(t_1, .inr (15, [.int (nI (j + 1)), .int (nI j), .int m0, .ref e1]))], [(e1, .inr (11, [.int m0, .ref x0.1, .int (nI n)]))], (alA Γ x0), [(e0, .inr (1, [.ref e1, .ref e2, .ref e3, .ref e4, .ref e5, .int td, .int pk, .int pd]))]] H := hP
          have hD : WD A [[((ca j), cowE (cv j))], (cowsX n j ca cv), [(t_1, .inr (15, [.int (nI (j + 1)), .int (nI j), .int m0, .ref e1]))], [(e1, .inr (11, [.int m0, .ref x0.1, .int (nI n)]))], (alA Γ x0), [(e0, .inr (1, [.ref e1, .ref e2, .ref e3, .ref e4, .ref e5, .int td, .int pk, .int pd]))]] := hD
          refine lv_iadd hx hb dX2_sum_39 ?_
          refine lv_istore_n (lv' := [(2, .int ((smS laV5 cv j) + (laV5 (cv j)))), (4, .ref (ca j)), (3, .ref t_1), (0, .ref e0), (1, .ref (Γ.2.2 15))]) hx hb dX2_sum_40 rfl hl (by decide) rfl (fun ls hl => ?_)
          have hP : WP Γ [(cowsB n ca (va_up cv j (cv j))), [(t_1, .inr (15, [.int (nI (j + 1)), .int (nI j), .int m0, .ref e1]))], [(e1, .inr (11, [.int m0, .ref x0.1, .int (nI n)]))], (alA Γ x0), [(e0, .inr (1, [.ref e1, .ref e2, .ref e3, .ref e4, .ref e5, .int td, .int pk, .int pd]))]] H := cowP_un hjn hP
          have hD : WD A [(cowsB n ca (va_up cv j (cv j))), [(t_1, .inr (15, [.int (nI (j + 1)), .int (nI j), .int m0, .ref e1]))], [(e1, .inr (11, [.int m0, .ref x0.1, .int (nI n)]))], (alA Γ x0), [(e0, .inr (1, [.ref e1, .ref e2, .ref e3, .ref e4, .ref e5, .int td, .int pk, .int pd]))]] := cowD_un hjn hD
          rw [up_same] at hP hD
          have hl : lv_has ls 5 [(2, .int (smS laV5 cv (j + 1))), (4, .ref (ca j)), (3, .ref t_1), (0, .ref e0), (1, .ref (Γ.2.2 15))] := by rw [← show ((smS laV5 cv j) + (laV5 (cv j))) = smS laV5 cv (j + 1) from rfl]; exact hl
          refine lv_goto (tgt := 10) hx hb dX2_sum_41 (by decide) ?_
          have hP : WP Γ [[(t_1, .inr (15, [.int (nI (j + 1)), .int (nI j), .int m0, .ref e1]))], [(e1, .inr (11, [.int m0, .ref x0.1, .int (nI n)]))], [(e0, .inr (1, [.ref e1, .ref e2, .ref e3, .ref e4, .ref e5, .int td, .int pk, .int pd]))], (alA Γ x0), (cowsB n ca cv)] H := bP_sel hP [1, 2, 4, 3, 0] rfl
          have hD : WD A [[(t_1, .inr (15, [.int (nI (j + 1)), .int (nI j), .int m0, .ref e1]))], [(e1, .inr (11, [.int m0, .ref x0.1, .int (nI n)]))], [(e0, .inr (1, [.ref e1, .ref e2, .ref e3, .ref e4, .ref e5, .int td, .int pk, .int pd]))], (alA Γ x0), (cowsB n ca cv)] := bD_sel hD [1, 2, 4, 3, 0] rfl rfl
          exact ih (j + 1) (nI j) (by omega) (by omega) _ _ _ hP hD hS (lv_sub hl [2, 0, 3, 4] rfl)
      ·
        refine b_call5i (br := [[(e0, .inr (1, [.ref e1, .ref e2, .ref e3, .ref e4, .ref e5, .int td, .int pk, .int pd]))], (alA Γ x0), (cowsB n ca cv)]) (b_runF (x := ⟨"java/util/Iterator", "hasNext", "()Z"⟩) (hK.1 15 _ rfl).2 ⟨hx, hb, hml, hown, hts⟩ (mt_Itr_hasNext_no l Γ _ t_1 e1 m0 x0.1 n j lr (by omega) (by omega)) (hE.1.2.1.1 (fwL[1]'(by decide)) (List.getElem_mem _)) q320 q324 q326 q79 q328 rfl rfl 0 ⟨by decide, by decide, by decide +kernel⟩ ⟨(Nat.le_of_ble_eq_true rfl), (Nat.le_of_ble_eq_true rfl)⟩ (c_pre hP hD hS hA hK hE [0, 1] rfl rfl ro_nil) (recv_at (q := (RJ13, TJ13, 4)) hK (b_at (k := 0) hP rfl) rfl) rfl hl.1 rfl (Nat.le_of_ble_eq_true rfl) dX2_sum_11 ⟨(Nat.le_of_ble_eq_true rfl), (Nat.le_of_ble_eq_true rfl)⟩) hP hD hS hA [0, 1] [2, 3, 4] rfl rfl rfl (fun r_7 u_7 H locs hw_7 hP hD hS _ => ?_)
        obtain ⟨rfl, rfl⟩ := hw_7
        have hP : WP Γ [[(t_1, .inr (15, [.int (nI j), .int lr, .int m0, .ref e1]))], [(e1, .inr (11, [.int m0, .ref x0.1, .int (nI n)]))], [(e0, .inr (1, [.ref e1, .ref e2, .ref e3, .ref e4, .ref e5, .int td, .int pk, .int pd]))], (alA Γ x0), (cowsB n ca cv)] H := hP
        have hD : WD A [[(t_1, .inr (15, [.int (nI j), .int lr, .int m0, .ref e1]))], [(e1, .inr (11, [.int m0, .ref x0.1, .int (nI n)]))], [(e0, .inr (1, [.ref e1, .ref e2, .ref e3, .ref e4, .ref e5, .int td, .int pk, .int pd]))], (alA Γ x0), (cowsB n ca cv)] := hD
        refine lv_if_eq (tgt := 44) hx hb dX2_sum_16 (by decide) (fun c_8 => ?_) (fun c_8 => ?_)
        · -- 16 taken
          have n_8 : 0 = 0 := (nI_eq (by omega) (by omega)).mp (show nI 0 = nI 0 from c_8)
          refine lv_iload_n hx hb dX2_sum_44 rfl (lv_at hl 1 rfl) ?_
          have hP : WP Γ [[(e0, .inr (1, [.ref e1, .ref e2, .ref e3, .ref e4, .ref e5, .int td, .int pk, .int pd]))], [(e1, .inr (11, [.int m0, .ref x0.1, .int (nI n)]))], (alA Γ x0), (cowsB n ca cv)] H := bP_sel hP [2, 1, 3, 4] rfl
          have hD : WD A [[(e0, .inr (1, [.ref e1, .ref e2, .ref e3, .ref e4, .ref e5, .int td, .int pk, .int pd]))], [(e1, .inr (11, [.int m0, .ref x0.1, .int (nI n)]))], (alA Γ x0), (cowsB n ca cv)] := bD_sel hD [2, 1, 3, 4] rfl rfl
          exact b_iret hx hb hr hlocks hP hD hS (Nat.le_of_ble_eq_true rfl) (Nat.le_of_ble_eq_true rfl) ⟨(by rw [show n = j by omega]), (by first | with_reducible rfl | (simp [hjn, n_8]; done) | rfl)⟩ dX2_sum_45
        · -- 16 not taken
          have n_8 : ¬ (0 = 0) := fun hh7 => c_8 ((nI_eq (a := 0) (b := 0) (by omega) (by omega)).mpr hh7)
          exact absurd n_8 (by omega)
  exact loop_2 ((n - 0) + 1) 0 (-1) (Nat.lt_succ_self _) (Nat.zero_le _) _ _ _ hP hD hS (lv_sub hl [0, 1, 2, 3] rfl)
