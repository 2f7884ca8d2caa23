/-! EXC2: exceptions over blocks -/
/-- never comes back -/
abbrev QN : Array Value → State → Outcome → State → Prop := va_Qv (S := BW) (fun _ => False) (fun _ _ => True) (fun _ => False)
/-- throws an E; the thrown object's address and the blocks -/
abbrev XB (Γ : GE) (E : String) (post : Nat → BW → Prop) (A : Nat → Prop) : String → Addr → State → State → Prop := vx_X (S := BW) (fun _ => True) (fun E' q u t => E' = E ∧ post q u ∧ BB Γ A u t) A
abbrev KMX (l : Launch) (y : MethodName) (cc : ByteArray) (L : Nat) (ret : Option FieldType) (Γ : GE) (fr lo mc ms : Nat) (av : List Value) (bs ro : BW) (sz : Nat) (E : String) (post : Nat → BW → Prop) : Prop :=
  vx_Met l y (ws_ y cc L ret) { frames := fr, cells := mc, slots := ms, locals := lo } (va_Pc av (Cpre Γ bs ro sz)) QN (XB Γ E post (va_A bs.flatten sz)) mc ms (va_A bs.flatten sz)
/-- .. of a method with handlers -/
abbrev KMXH (l : Launch) (y : MethodName) (cc : ByteArray) (L : Nat) (ret : Option FieldType) (hh : List (Nat × Nat × Nat × Nat)) (Γ : GE) (fr lo mc ms : Nat) (av : List Value) (bs ro : BW) (sz : Nat) (E : String) (post : Nat → BW → Prop) : Prop :=
  vx_Met l y (wsW_ y cc L ret hh) { frames := fr, cells := mc, slots := ms, locals := lo } (va_Pc av (Cpre Γ bs ro sz)) QN (XB Γ E post (va_A bs.flatten sz)) mc ms (va_A bs.flatten sz)
abbrev KMH (l : Launch) (y : MethodName) (cc : ByteArray) (L : Nat) (ret : Option FieldType) (hh : List (Nat × Nat × Nat × Nat)) (Γ : GE) (fr lo mc ms : Nat) (av : List Value) (bs ro : BW) (sz : Nat) (Qc : (Nat → Prop) → Array Value → State → Outcome → State → Prop) : Prop :=
  Met l y (wsW_ y cc L ret hh) { frames := fr, cells := mc, slots := ms, locals := lo } (va_Pc av (Cpre Γ bs ro sz)) (Qc (va_A bs.flatten sz)) mc ms (va_A bs.flatten sz)
theorem K_introX {l : Launch} {y : MethodName} {cc : ByteArray} {L : Nat} {ret : Option FieldType} {Γ : GE} {fr lo mc ms : Nat} {av : List Value} {bs ro : BW} {sz : Nat} {E : String} {post : Nat → BW → Prop} (hy : plainName y.cls = true) (hLn : (lg_sl av).length ≤ L)
    (body : ∀ (p : Program) (e : Env) (s : State) (m : MethodId) (below : List Frame) (meth : Method) (c : Code) (A : Nat → Prop) (ls : Array Slot), p.tables.exec = Jvm.exec → c.code = cc → meth.sig.returnType = ret → c.maxLocals = L → s.vm.findClass y.cls = some m.cls → (∀ w ∈ lw_all, w.before av.toArray s = true) → meth.locks = false → meth.name = y.name →
      va_K Γ.1 cls (tysG Γ) s → EN Γ A s → (∀ q ∈ ro.flatten, Rc Γ A s s.heap q) → va_P Γ.1 cls bs.flatten s.heap → va_D A bs.flatten → (∀ q : Nat, s.heap.size ≤ q → A q) → va_S A s.heap s.heap [] → s.heap.size = sz → lv_has ls L (lv_args 0 av) → (∀ x ∈ c.exceptionTable.toList, False) →
      W p l e { frames := fr, cells := mc, slots := ms, locals := lo } s m av.toArray below meth c s.heap [] 0 0 (vx_MQ below QN (XB Γ E post A) av.toArray s mc ms A) (F0 m 0 ls [])) : KMX l y cc L ret Γ fr lo mc ms av bs ro sz E post := by
  refine vx_ofW (cc := cc) (maxL := L) (ret := ret) hy rfl ?_
  intro p e s m args below meth c s₁ B hml ht hv
  obtain ⟨rfl, hsz, hP, hK, hD, hE, hR⟩ := hv
  have hts := atoms_spec (ws := ws_ y cc L ret) B.pre
  have hts : ∀ w ∈ lw_all, w.before _ s = true := fun w h => hts w (List.mem_cons_of_mem _ h)
  have hl := lv_entry av (n := L) hLn
  rw [lg_entry_eq]
  exact body p e s m below meth c _ _ B.exec B.bytes B.returns hml (findClass_of_methodNamed B.named) hts B.notSynchronized (name_of_methodNamed B.named B.method).1 hK hE hR hP hD.self (fun q h => Or.inr (by rw [← hsz]; exact h)) va_S.rf hsz hl ht
theorem K_introXH {l : Launch} {y : MethodName} {cc : ByteArray} {L : Nat} {ret : Option FieldType} {hh : List (Nat × Nat × Nat × Nat)} {Γ : GE} {fr lo mc ms : Nat} {av : List Value} {bs ro : BW} {sz : Nat} {E : String} {post : Nat → BW → Prop} (hy : plainName y.cls = true) (hLn : (lg_sl av).length ≤ L)
    (body : ∀ (p : Program) (e : Env) (s : State) (m : MethodId) (below : List Frame) (meth : Method) (c : Code) (A : Nat → Prop) (ls : Array Slot), p.tables.exec = Jvm.exec → c.code = cc → meth.sig.returnType = ret → c.maxLocals = L → s.vm.findClass y.cls = some m.cls → (∀ w ∈ lw_all, w.before av.toArray s = true) → meth.locks = false → meth.name = y.name →
      va_K Γ.1 cls (tysG Γ) s → EN Γ A s → (∀ q ∈ ro.flatten, Rc Γ A s s.heap q) → va_P Γ.1 cls bs.flatten s.heap → va_D A bs.flatten → (∀ q : Nat, s.heap.size ≤ q → A q) → va_S A s.heap s.heap [] → s.heap.size = sz → lv_has ls L (lv_args 0 av) → c.exceptionTable.toList = tableOf hh →
      W p l e { frames := fr, cells := mc, slots := ms, locals := lo } s m av.toArray below meth c s.heap [] 0 0 (vx_MQ below QN (XB Γ E post A) av.toArray s mc ms A) (F0 m 0 ls [])) : KMXH l y cc L ret hh Γ fr lo mc ms av bs ro sz E post := by
  refine vx_ofWH (cc := cc) (maxL := L) (ret := ret) (hh := hh) hy rfl ?_
  intro p e s m args below meth c s₁ B hml hv
  obtain ⟨rfl, hsz, hP, hK, hD, hE, hR⟩ := hv
  have hts := atoms_spec (ws := wsW_ y cc L ret hh) B.pre
  have htb := vx_table (x := y) B (hts _ List.mem_cons_self)
  have hts : ∀ w ∈ lw_all, w.before _ s = true := fun w h => hts w (List.mem_cons_of_mem _ h)
  have hl := lv_entry av (n := L) hLn
  rw [lg_entry_eq]
  exact body p e s m below meth c _ _ B.exec B.bytes B.returns hml (findClass_of_methodNamed B.named) hts B.notSynchronized (name_of_methodNamed B.named B.method).1 hK hE hR hP hD.self (fun q h => Or.inr (by rw [← hsz]; exact h)) va_S.rf hsz hl htb
theorem K_introH {l : Launch} {y : MethodName} {cc : ByteArray} {L : Nat} {ret : Option FieldType} {hh : List (Nat × Nat × Nat × Nat)} {Γ : GE} {fr lo mc ms : Nat} {av : List Value} {bs ro : BW} {sz : Nat} {Qc : (Nat → Prop) → Array Value → State → Outcome → State → Prop} (hy : plainName y.cls = true) (hLn : (lg_sl av).length ≤ L)
    (body : ∀ (p : Program) (e : Env) (s : State) (m : MethodId) (below : List Frame) (meth : Method) (c : Code) (A : Nat → Prop) (ls : Array Slot), p.tables.exec = Jvm.exec → c.code = cc → meth.sig.returnType = ret → c.maxLocals = L → s.vm.findClass y.cls = some m.cls → (∀ w ∈ lw_all, w.before av.toArray s = true) → meth.locks = false → meth.name = y.name →
      va_K Γ.1 cls (tysG Γ) s → EN Γ A s → (∀ q ∈ ro.flatten, Rc Γ A s s.heap q) → va_P Γ.1 cls bs.flatten s.heap → va_D A bs.flatten → (∀ q : Nat, s.heap.size ≤ q → A q) → va_S A s.heap s.heap [] → s.heap.size = sz → lv_has ls L (lv_args 0 av) → c.exceptionTable.toList = tableOf hh →
      W p l e { frames := fr, cells := mc, slots := ms, locals := lo } s m av.toArray below meth c s.heap [] 0 0 (MQ below (Qc A) av.toArray s mc ms A) (F0 m 0 ls [])) : KMH l y cc L ret hh Γ fr lo mc ms av bs ro sz Qc := by
  refine MetFree.of_bodyS (code := cc) (maxLocals := L) (ret := ret) hy ?_ ?_
  · intro args s m h hn
    obtain ⟨m9, meth, c, hn9, h1, h2, h3, h4, -, h5, h6, -⟩ := Cond.codeWith_spec (atoms_spec (ws := wsW_ y cc L ret hh) h _ List.mem_cons_self)
    cases hn.symm.trans hn9
    exact ⟨meth, c, h1, h2, h3, h4, h5, h6⟩
  · intro p e s m args below meth c s₁ B hml hv _
    have hh0 : s₁.heap = s.heap := by rw [B.state]; rfl
    obtain ⟨rfl, hsz, hP, hK, hD, hE, hR⟩ := hv
    have hts := atoms_spec (ws := wsW_ y cc L ret hh) B.pre
    have htb := vx_table (x := y) B (hts _ List.mem_cons_self)
    have hts : ∀ w ∈ lw_all, w.before _ s = true := fun w h => hts w (List.mem_cons_of_mem _ h)
    have hl := lv_entry av (n := L) hLn
    have k := body p e s m below meth c _ _ B.exec B.bytes B.returns hml (findClass_of_methodNamed B.named) hts B.notSynchronized (name_of_methodNamed B.named B.method).1 hK hE hR hP hD.self (fun q h => Or.inr (by rw [← hsz]; exact h)) va_S.rf hsz hl htb
    rw [← lg_entry_eq] at k
    obtain ⟨t, a1, o, b1, b2, b3⟩ := k s₁ hh0 (Stand.of_body B)
    exact ⟨t, o, a1, b1, b2, b3⟩
section BXC
variable {p : Program} {l : Launch} {e : Env} {R : Room} {s : State} {m : MethodId} {args : Array Value} {below : List Frame} {meth : Method} {c : Code} {H : Heap} {locs : List Loc} {cells slots mc ms : Nat} {Q : State → Prop} {cc : ByteArray} {pc : Nat} {ls : Array Slot} {Γ : GE} {A : Nat → Prop} {bs bc br ro : BW} {st0 rest : List Value} {a : Array Value} {post : Nat → BW → Prop} {E : String} {q : Addr} {ce : Cell}
/-- new E(); athrow -/
theorem b_throw0 {own cls0 : String} {names : List String} {ik ic : Nat} (hx : p.tables.exec = Jvm.exec) (hb : c.code = cc) (hst : l.stackTraces = false) (hts : ∀ w ∈ lw_all, w.before args s = true) (hE : EN Γ A s) (hown : s.vm.findClass own = some m.cls) (hcls : Bundle.fit cls0 = true) (hnames : ∀ n ∈ names, Bundle.fit n = true) (hk : Cond.classLink own ik cls0 ∈ lw_all) (hini : Cond.initialized cls0 ∈ lw_all)
    (hat : ∀ w ∈ vx_at0 own ic cls0 names, w ∈ lw_tbl) (hat2 : ∀ w ∈ vx_at0 own ic cls0 names, (goodWord w || nwOk w) = true)
    (hP : va_P Γ.1 cls bs.flatten H) (hD : va_D A bs.flatten) (hS : va_S A s.heap H locs) (hml : c.maxLocals = ls.size) (d0 : decode cc pc = .ok (.new ik, 3)) (d3 : decode cc (pc + 3) = .ok (.dup, 1)) (d4 : decode cc (pc + 4) = .ok (.invokespecial ic, 3)) (d7 : decode cc (pc + 7) = .ok (.athrow, 1)) (ht : ∀ x ∈ c.exceptionTable.toList, False)
    (hRframes : names.length + 3 < R.frames) (hRlocals : (rest.map fun v => v.category).sum + (13 * (names.length + 1) + 42) ≤ R.locals) (hRcells : cells + 1 ≤ R.cells) (hRslots : slots + 6 ≤ R.slots) (hlocks : meth.locks = false) (hpost : ∀ q, post q bs) (hc : cells + 1 ≤ mc) (hs : slots + 6 ≤ ms) :
    W p l e R s m args below meth c H locs cells slots (vx_MQ below QN (XB Γ cls0 post A) args s mc ms A) (F0 m pc ls rest) := by
  have hw : ∀ w ∈ vx_at0 own ic cls0 names, w.before args s = true := by
    intro w hw
    have h2 := hat2 w hw
    rw [Bool.or_eq_true] at h2
    rcases h2 with h | h
    · exact hts _ (lw_g (hat w hw) h)
    · exact va_Nw.use (nwOk_tbl w h) (hE.1.1 w (hat w hw) h)
  refine vx_throw0 hx hb hst hown hcls hnames (hts _ hk) (hts _ hini) hw (fun w hw => ?_) hE.2.1.2.1.1 hE.2.1.2.1.2 hS hml.symm d0 d3 d4 d7 (fun x hx => (ht x hx).elim) hRframes hRlocals hRcells hRslots hlocks (fun q9 t hal hz hk9 => ?_) hS.2.2 hc hs
  · rcases List.mem_cons.mp hw with rfl | hw
    · rfl
    rcases List.mem_cons.mp hw with rfl | hw
    · rfl
    · have h2 := hat2 w hw
      rw [Bool.or_eq_true] at h2
      unfold vx_ot
      rw [Bool.or_eq_true]
      exact h2.symm.imp (nwOk_tbl w) id
  · exact ⟨bs, trivial, ⟨rfl, hpost q9, hP.kept (fun k x hx => hk9 _ (hP k x hx).lt), hD⟩, Nat.le_trans hS.1 hz, fun q h1 h2 => (hk9 q (Nat.lt_of_lt_of_le h1 hS.1)).trans (hS.2.1 q h1 h2)⟩
/-- no handler here -/
theorem b_outx (hlocks : meth.locks = false) (ht : ∀ x ∈ c.exceptionTable.toList, covers x pc = false) (hP : va_P Γ.1 cls bs.flatten H) (hD : va_D A bs.flatten) (hS : va_S A s.heap H locs) (hce : H[q]? = some ce) (hcv : ce.vm = .none) (hcl : s.vm.findClass E = some ce.cls) (hp : post q bs) (hc : cells ≤ mc) (hs : slots ≤ ms) :
    vx_W p l e R s m args below meth c H locs cells slots (vx_MQ below QN (XB Γ E post A) args s mc ms A) (F0 m pc ls rest) q :=
  vx_out ht hlocks hce hcv hcl (fun t ht9 _ => ⟨bs, trivial, ⟨rfl, hp, by rw [ht9]; exact hP, hD⟩, hS.F ht9⟩) hS.2.2 hc hs
/-- a call that throws -/
theorem b_callx {postc : Nat → BW → Prop} (hr : vx_Run p l e R s m args below meth c H locs cells slots mc ms (F0 m pc ls st0) rest (QN a) (XB Γ E postc (va_A bc.flatten H.size)) (va_A bc.flatten H.size)) (hP : va_P Γ.1 cls bs.flatten H) (hD : va_D A bs.flatten) (hS : va_S A s.heap H locs) (hA : ∀ q, s.heap.size ≤ q → A q) (isC isR : List Nat) (hC : isC.map (fun i => bs[i]?) = bc.map some) (hR : isR.map (fun i => bs[i]?) = br.map some) (hn : va_nd (isR ++ isC) = true)
    (kx : ∀ (q9 : Addr) (ce : Cell) (u : BW) (H1 : Heap) (locs1 : List Loc), postc q9 u → va_P Γ.1 cls (u ++ br).flatten H1 → va_D A (u ++ br).flatten → va_S A s.heap H1 locs1 → H.size ≤ H1.size → H1[q9]? = some ce → ce.vm = .none → s.vm.findClass E = some ce.cls → vx_W p l e R s m args below meth c H1 locs1 (cells + mc) (slots + ms) Q (F0 m pc ls rest) q9) : W p l e R s m args below meth c H locs cells slots Q (F0 m pc ls st0) := by
  have hF := bFree (bc := bc) hD hS hA isC hC
  refine vx_callv hr hS (fun q _ h => h.elim) hF (fun q _ h => hF q h) (fun E' ce q9 u t H1 locs1 ht _ _ hB hz hk hS1 hce hcv hcl => ?_) (fun u t H1 locs1 _ _ hp => hp.elim)
  obtain ⟨rfl, hp, hB⟩ := hB
  rw [BB, ht] at hB
  obtain ⟨h1, h2⟩ := bJoin hP hD isC isR hC hR hn hk hF hB.1 hB.2
  exact kx q9 ce u H1 locs1 hp h1 h2 hS1 hz hce hcv hcl
theorem b_runVx {own : String} {y : MethodName} {bytes : ByteArray} {L nL idx : Nat} {ret : Option FieldType} {rm : Room} {b : Addr} {As : List Value} {Qc : Array Value → State → Outcome → State → Prop} {XC : String → Addr → State → State → Prop} {free : Addr → Prop} {sz : Nat} (S : CallFix p m c cc nL s args lw_all own) (hM : vx_Met l y (ws_ y bytes L ret) rm (va_Pc (.ref b :: As) (Cpre Γ bc ro sz)) Qc XC mc ms free) (hT : GoodIn lw_all (wsV own idx y.cls y (ws_ y bytes L ret))) (hrc : rm.cells = mc) (hrs : rm.slots = ms) (n : Nat) (hd : y.cls ≠ "java/lang/invoke/MethodHandle" ∧ y.cls ≠ "java/lang/invoke/VarHandle" ∧ (parseMethodDescriptor y.desc).map (fun d => d.parameters.length) = some n) (hR : rm.frames + 1 ≤ R.frames ∧ 8 + (L + 11) + rm.locals ≤ R.locals)
    (hpre : ∀ U : State, U.heap = H → s.WarmedH U.vm → Cpre Γ bc ro sz U) (hrec : ∃ cell : Cell, H[b]? = some cell ∧ cell.vm.isStatics = false ∧ s.vm.findClass y.cls = some cell.cls) (hn : As.length = n) (hsize : ls.size = nL) (hstack : st0 = As.reverse ++ .ref b :: rest) (hW : (rest.map fun v => v.category).sum ≤ 8) (hdg : decode cc pc = .ok (.invokevirtual idx, 3)) (hf : cells + mc ≤ R.cells ∧ slots + ms ≤ R.slots) :
    vx_Run p l e R s m args below meth c H locs cells slots mc ms (F0 m pc ls st0) rest (Qc (Value.ref b :: As).toArray) XC free :=
  vx_runV S hM (cwV n S.2.2.2.2 hT rfl hrc hrs ⟨rfl, hd⟩ hR) ⟨cblind, hrec, fun U hU hW => ⟨rfl, hpre U hU hW⟩⟩ rfl hn hsize hstack (lv_room hW) hdg hf
theorem b_runSx {own : String} {y : MethodName} {bytes : ByteArray} {L nL idx : Nat} {ret : Option FieldType} {rm : Room} {As : List Value} {Qc : Array Value → State → Outcome → State → Prop} {XC : String → Addr → State → State → Prop} {free : Addr → Prop} {sz : Nat} (S : CallFix p m c cc nL s args lw_all own) (hM : vx_Met l y (ws_ y bytes L ret) rm (va_Pc As (Cpre Γ bc ro sz)) Qc XC mc ms free) (hT : GoodIn lw_all (va_wsS own idx y (ws_ y bytes L ret))) (hrc : rm.cells = mc) (hrs : rm.slots = ms) (n : Nat) (hd : y.cls ≠ "java/lang/invoke/MethodHandle" ∧ y.cls ≠ "java/lang/invoke/VarHandle" ∧ (parseMethodDescriptor y.desc).map (fun d => d.parameters.length) = some n) (hR : rm.frames + 1 ≤ R.frames ∧ 8 + (L + 11) + rm.locals ≤ R.locals)
    (hpre : ∀ U : State, U.heap = H → s.WarmedH U.vm → Cpre Γ bc ro sz U) (hn : As.length = n) (hsize : ls.size = nL) (hstack : st0 = As.reverse ++ rest) (hW : (rest.map fun v => v.category).sum ≤ 8) (hdg : decode cc pc = .ok (.invokestatic idx, 3)) (hf : cells + mc ≤ R.cells ∧ slots + ms ≤ R.slots) :
    vx_Run p l e R s m args below meth c H locs cells slots mc ms (F0 m pc ls st0) rest (Qc As.toArray) XC free :=
  vx_runS S hM (va_cwS n S.2.2.2.2 hT rfl hrc hrs hd hR) ⟨cblind, fun U hU hW => ⟨rfl, hpre U hU hW⟩⟩ rfl hn hsize hstack (lv_room hW) hdg hf
/-- methods with handlers of their own -/
theorem b_runVW {own : String} {y : MethodName} {bytes : ByteArray} {L nL idx : Nat} {ret : Option FieldType} {hh : List (Nat × Nat × Nat × Nat)} {rm : Room} {b : Addr} {As : List Value} {Qc : Array Value → State → Outcome → State → Prop} {free : Addr → Prop} {sz : Nat} (S : CallFix p m c cc nL s args lw_all own) (hM : Met l y (wsW_ y bytes L ret hh) rm (va_Pc (.ref b :: As) (Cpre Γ bc ro sz)) Qc mc ms free) (hT : GoodIn lw_all (wsV own idx y.cls y (wsW_ y bytes L ret hh))) (hrc : rm.cells = mc) (hrs : rm.slots = ms) (n : Nat) (hd : y.cls ≠ "java/lang/invoke/MethodHandle" ∧ y.cls ≠ "java/lang/invoke/VarHandle" ∧ (parseMethodDescriptor y.desc).map (fun d => d.parameters.length) = some n) (hR : rm.frames + 1 ≤ R.frames ∧ 8 + (L + 11) + rm.locals ≤ R.locals)
    (hpre : ∀ U : State, U.heap = H → s.WarmedH U.vm → Cpre Γ bc ro sz U) (hrec : ∃ cell : Cell, H[b]? = some cell ∧ cell.vm.isStatics = false ∧ s.vm.findClass y.cls = some cell.cls) (hn : As.length = n) (hsize : ls.size = nL) (hstack : st0 = As.reverse ++ .ref b :: rest) (hW : (rest.map fun v => v.category).sum ≤ 8) (hdg : decode cc pc = .ok (.invokevirtual idx, 3)) (hf : cells + mc ≤ R.cells ∧ slots + ms ≤ R.slots) :
    va_Run p l e R s m args below meth c H locs cells slots mc ms (F0 m pc ls st0) rest (Qc (Value.ref b :: As).toArray) free :=
  vx_runVW S hM (vx_cwVW n S.2.2.2.2 hT rfl hrc hrs ⟨rfl, hd⟩ hR) ⟨cblind, hrec, fun U hU hW => ⟨rfl, hpre U hU hW⟩⟩ rfl hn hsize hstack (lv_room hW) hdg hf
theorem b_runVXW {own : String} {y : MethodName} {bytes : ByteArray} {L nL idx : Nat} {ret : Option FieldType} {hh : List (Nat × Nat × Nat × Nat)} {rm : Room} {b : Addr} {As : List Value} {Qc : Array Value → State → Outcome → State → Prop} {XC : String → Addr → State → State → Prop} {free : Addr → Prop} {sz : Nat} (S : CallFix p m c cc nL s args lw_all own) (hM : vx_Met l y (wsW_ y bytes L ret hh) rm (va_Pc (.ref b :: As) (Cpre Γ bc ro sz)) Qc XC mc ms free) (hT : GoodIn lw_all (wsV own idx y.cls y (wsW_ y bytes L ret hh))) (hrc : rm.cells = mc) (hrs : rm.slots = ms) (n : Nat) (hd : y.cls ≠ "java/lang/invoke/MethodHandle" ∧ y.cls ≠ "java/lang/invoke/VarHandle" ∧ (parseMethodDescriptor y.desc).map (fun d => d.parameters.length) = some n) (hR : rm.frames + 1 ≤ R.frames ∧ 8 + (L + 11) + rm.locals ≤ R.locals)
    (hpre : ∀ U : State, U.heap = H → s.WarmedH U.vm → Cpre Γ bc ro sz U) (hrec : ∃ cell : Cell, H[b]? = some cell ∧ cell.vm.isStatics = false ∧ s.vm.findClass y.cls = some cell.cls) (hn : As.length = n) (hsize : ls.size = nL) (hstack : st0 = As.reverse ++ .ref b :: rest) (hW : (rest.map fun v => v.category).sum ≤ 8) (hdg : decode cc pc = .ok (.invokevirtual idx, 3)) (hf : cells + mc ≤ R.cells ∧ slots + ms ≤ R.slots) :
    vx_Run p l e R s m args below meth c H locs cells slots mc ms (F0 m pc ls st0) rest (Qc (Value.ref b :: As).toArray) XC free :=
  vx_runVX S hM (vx_cwVW n S.2.2.2.2 hT rfl hrc hrs ⟨rfl, hd⟩ hR) ⟨cblind, hrec, fun U hU hW => ⟨rfl, hpre U hU hW⟩⟩ rfl hn hsize hstack (lv_room hW) hdg hf
theorem b_runSW {own : String} {y : MethodName} {bytes : ByteArray} {L nL idx : Nat} {ret : Option FieldType} {hh : List (Nat × Nat × Nat × Nat)} {rm : Room} {As : List Value} {Qc : Array Value → State → Outcome → State → Prop} {free : Addr → Prop} {sz : Nat} (S : CallFix p m c cc nL s args lw_all own) (hM : Met l y (wsW_ y bytes L ret hh) rm (va_Pc As (Cpre Γ bc ro sz)) Qc mc ms free) (hT : GoodIn lw_all (va_wsS own idx y (wsW_ y bytes L ret hh))) (hrc : rm.cells = mc) (hrs : rm.slots = ms) (n : Nat) (hd : y.cls ≠ "java/lang/invoke/MethodHandle" ∧ y.cls ≠ "java/lang/invoke/VarHandle" ∧ (parseMethodDescriptor y.desc).map (fun d => d.parameters.length) = some n) (hR : rm.frames + 1 ≤ R.frames ∧ 8 + (L + 11) + rm.locals ≤ R.locals)
    (hpre : ∀ U : State, U.heap = H → s.WarmedH U.vm → Cpre Γ bc ro sz U) (hn : As.length = n) (hsize : ls.size = nL) (hstack : st0 = As.reverse ++ rest) (hW : (rest.map fun v => v.category).sum ≤ 8) (hdg : decode cc pc = .ok (.invokestatic idx, 3)) (hf : cells + mc ≤ R.cells ∧ slots + ms ≤ R.slots) :
    va_Run p l e R s m args below meth c H locs cells slots mc ms (F0 m pc ls st0) rest (Qc As.toArray) free :=
  vx_runSW S hM (vx_cwSW n S.2.2.2.2 hT rfl hrc hrs hd hR) ⟨cblind, fun U hU hW => ⟨rfl, hpre U hU hW⟩⟩ rfl hn hsize hstack (lv_room hW) hdg hf
end BXC
section BLD
variable {p : Program} {l : Launch} {e : Env} {R : Room} {s : State} {m : MethodId} {args : Array Value} {below : List Frame} {meth : Method} {c : Code} {H H0 : Heap} {locs : List Loc} {cells slots : Nat} {Q : State → Prop} {cc : ByteArray} {pc : Nat} {ls : Array Slot} {Γ : GE} {A : Nat → Prop} {bs : BW} {rest : List Value} {a : Nat}
theorem b_lald (hx : p.tables.exec = Jvm.exec) (hb : c.code = cc) (hK : va_K Γ.1 cls (tysG Γ) s) {n : Nat} {f : Nat → Int64} (hat : va_at Γ.1 cls (a, .inl (Γ.2.1 3, n, .inr (.inl f))) H) {i : Int32} (j : Nat) (hi : i = nI j) (hj : j < n) (hn : n < 2 ^ 31) (hdg : decode cc pc = .ok (.laload, 1))
    (kk : W p l e R s m args below meth c H locs cells slots Q (F0 m (pc + 1) ls (.long (f j) :: rest))) : W p l e R s m args below meth c H locs cells slots Q (F0 m pc ls (.int i :: .ref a :: rest)) := by
  obtain ⟨h1, h2⟩ := ix_in hi hj hn
  exact va_lald hx hb hK (P1 hat) 0 3 rfl rfl h1 hdg (by rw [h2]; exact kk)
theorem b_dald (hx : p.tables.exec = Jvm.exec) (hb : c.code = cc) (hK : va_K Γ.1 cls (tysG Γ) s) {n : Nat} {f : Nat → UInt64} (hat : va_at Γ.1 cls (a, .inl (Γ.2.1 4, n, .inr (.inr (.inr (.inl f))))) H) {i : Int32} (j : Nat) (hi : i = nI j) (hj : j < n) (hn : n < 2 ^ 31) (hdg : decode cc pc = .ok (.daload, 1))
    (kk : W p l e R s m args below meth c H locs cells slots Q (F0 m (pc + 1) ls (.double (f j) :: rest))) : W p l e R s m args below meth c H locs cells slots Q (F0 m pc ls (.int i :: .ref a :: rest)) := by
  obtain ⟨h1, h2⟩ := ix_in hi hj hn
  exact va_dald hx hb hK (P1 hat) 0 4 rfl rfl h1 hdg (by rw [h2]; exact kk)
theorem b_last (hx : p.tables.exec = Jvm.exec) (hb : c.code = cc) (hK : va_K Γ.1 cls (tysG Γ) s) (hP : WP Γ bs H) (hD : WD A bs) (hS : va_S A H0 H locs) (kb : Nat) {n : Nat} {f : Nat → Int64} (he : bs[kb]? = some [(a, .inl (Γ.2.1 3, n, .inr (.inl f)))]) {i : Int32} {x : Int64} (j : Nat) (hi : i = nI j) (hj : j < n) (hn : n < 2 ^ 31) (hdg : decode cc pc = .ok (.lastore, 1))
    (kk : ∀ (H1 : Heap) (locs1 : List Loc), WP Γ (bs.set kb [(a, .inl (Γ.2.1 3, n, .inr (.inl (vp_updL f j x))))]) H1 → WD A (bs.set kb [(a, .inl (Γ.2.1 3, n, .inr (.inl (vp_updL f j x))))]) → va_S A H0 H1 locs1 → W p l e R s m args below meth c H1 locs1 cells slots Q (F0 m (pc + 1) ls rest)) : W p l e R s m args below meth c H locs cells slots Q (F0 m pc ls (.long x :: .int i :: .ref a :: rest)) := by
  obtain ⟨h1, h2⟩ := ix_in hi hj hn
  refine va_last hx hb hK hP hD hS (bpos bs kb) 3 (fl_get he) rfl h1 hdg (fun H1 locs1 h3 h4 h5 => ?_)
  rw [fl_set he, h2] at h3 h4
  exact kk H1 locs1 h3 h4 h5
theorem b_dast (hx : p.tables.exec = Jvm.exec) (hb : c.code = cc) (hK : va_K Γ.1 cls (tysG Γ) s) (hP : WP Γ bs H) (hD : WD A bs) (hS : va_S A H0 H locs) (kb : Nat) {n : Nat} {f : Nat → UInt64} (he : bs[kb]? = some [(a, .inl (Γ.2.1 4, n, .inr (.inr (.inr (.inl f)))))]) {i : Int32} {x : UInt64} (j : Nat) (hi : i = nI j) (hj : j < n) (hn : n < 2 ^ 31) (hdg : decode cc pc = .ok (.dastore, 1))
    (kk : ∀ (H1 : Heap) (locs1 : List Loc), WP Γ (bs.set kb [(a, .inl (Γ.2.1 4, n, .inr (.inr (.inr (.inl (vf_upd f j x))))))]) H1 → WD A (bs.set kb [(a, .inl (Γ.2.1 4, n, .inr (.inr (.inr (.inl (vf_upd f j x))))))]) → va_S A H0 H1 locs1 → W p l e R s m args below meth c H1 locs1 cells slots Q (F0 m (pc + 1) ls rest)) : W p l e R s m args below meth c H locs cells slots Q (F0 m pc ls (.double x :: .int i :: .ref a :: rest)) := by
  obtain ⟨h1, h2⟩ := ix_in hi hj hn
  refine va_dast hx hb hK hP hD hS (bpos bs kb) 4 (fl_get he) rfl h1 hdg (fun H1 locs1 h3 h4 h5 => ?_)
  rw [fl_set he, h2] at h3 h4
  exact kk H1 locs1 h3 h4 h5
end BLD
theorem tb_in (ws : List Cond) (ps : List Nat) (hp : ws = ps.filterMap (fun i => lw_tbl[i]?)) : ∀ w ∈ ws, w ∈ lw_tbl := by
  intro w h
  rw [hp] at h
  obtain ⟨i, -, hi⟩ := List.mem_filterMap.mp h
  exact List.mem_of_getElem? hi
theorem all_in {ws : List Cond} (h : ws.all (fun w => goodWord w || nwOk w) = true) : ∀ w ∈ ws, (goodWord w || nwOk w) = true := List.all_eq_true.mp h
abbrev exN : List String := ["java/lang/RuntimeException", "java/lang/Exception"]
theorem exN_fit : ∀ n ∈ exN, Bundle.fit n = true := by decide +kernel
theorem at_IAE : ∀ w ∈ vx_at0 "DairyBook" 48 "java/lang/IllegalArgumentException" exN, w ∈ lw_tbl := tb_in _ [74, 364, 373, 383, 386, 388, 365, 366, 109, 110, 367, 372, 384, 401, 354, 402, 356, 403, 358, 368, 370, 360, 814, 815, 816, 393, 345, 393, 394, 395, 396, 347, 396, 397, 398, 365, 349, 813, 567, 568, 569, 378, 570, 571, 572, 573, 399, 362, 574] (by decide +kernel)
theorem ag_IAE : ∀ w ∈ vx_at0 "DairyBook" 48 "java/lang/IllegalArgumentException" exN, (goodWord w || nwOk w) = true := all_in (by decide +kernel)
theorem at_IOE : ∀ w ∈ vx_at0 "DairyBook" 51 "java/lang/IndexOutOfBoundsException" exN, w ∈ lw_tbl := tb_in _ [74, 364, 373, 383, 386, 388, 365, 366, 109, 110, 367, 372, 384, 401, 354, 402, 356, 403, 358, 368, 370, 360, 927, 928, 929, 393, 345, 393, 394, 395, 396, 347, 396, 397, 398, 365, 349, 926, 918, 919, 920, 380, 921, 922, 923, 924, 399, 362, 925] (by decide +kernel)
theorem ag_IOE : ∀ w ∈ vx_at0 "DairyBook" 51 "java/lang/IndexOutOfBoundsException" exN, (goodWord w || nwOk w) = true := all_in (by decide +kernel)
theorem at_NSE : ∀ w ∈ vx_at0 "DairyBook" 54 "java/util/NoSuchElementException" exN, w ∈ lw_tbl := tb_in _ [74, 364, 373, 383, 386, 388, 365, 366, 109, 110, 367, 372, 384, 401, 354, 402, 356, 403, 358, 368, 370, 360, 390, 391, 392, 393, 345, 393, 394, 395, 396, 347, 396, 397, 398, 365, 349, 1176, 343, 344, 351, 352, 353, 355, 357, 359, 399, 362, 361] (by decide +kernel)
theorem ag_NSE : ∀ w ∈ vx_at0 "DairyBook" 54 "java/util/NoSuchElementException" exN, (goodWord w || nwOk w) = true := all_in (by decide +kernel)
theorem at_ISE : ∀ w ∈ vx_at0 "DairyBook" 57 "java/lang/IllegalStateException" exN, w ∈ lw_tbl := tb_in _ [74, 364, 373, 383, 386, 388, 365, 366, 109, 110, 367, 372, 384, 401, 354, 402, 356, 403, 358, 368, 370, 360, 834, 835, 836, 393, 345, 393, 394, 395, 396, 347, 396, 397, 398, 365, 349, 833, 825, 826, 827, 379, 828, 829, 830, 831, 399, 362, 832] (by decide +kernel)
theorem ag_ISE : ∀ w ∈ vx_at0 "DairyBook" 57 "java/lang/IllegalStateException" exN, (goodWord w || nwOk w) = true := all_in (by decide +kernel)
theorem at_UOE : ∀ w ∈ vx_at0 "DairyBook" 63 "java/lang/UnsupportedOperationException" exN, w ∈ lw_tbl := tb_in _ [74, 364, 373, 383, 386, 388, 365, 366, 109, 110, 367, 372, 384, 401, 354, 402, 356, 403, 358, 368, 370, 360, 991, 992, 993, 393, 345, 393, 394, 395, 396, 347, 396, 397, 398, 365, 349, 990, 982, 983, 984, 382, 985, 986, 987, 988, 399, 362, 989] (by decide +kernel)
theorem ag_UOE : ∀ w ∈ vx_at0 "DairyBook" 63 "java/lang/UnsupportedOperationException" exN, (goodWord w || nwOk w) = true := all_in (by decide +kernel)
theorem at_ARE : ∀ w ∈ vx_at0 "DairyBook" 327 "java/lang/ArithmeticException" exN, w ∈ lw_tbl := tb_in _ [74, 364, 373, 383, 386, 388, 365, 366, 109, 110, 367, 372, 384, 401, 354, 402, 356, 403, 358, 368, 370, 360, 1764, 1765, 1766, 393, 345, 393, 394, 395, 396, 347, 396, 397, 398, 365, 349, 1763, 1745, 1756, 1757, 376, 1751, 1752, 1754, 1750, 399, 362, 1749] (by decide +kernel)
theorem ag_ARE : ∀ w ∈ vx_at0 "DairyBook" 327 "java/lang/ArithmeticException" exN, (goodWord w || nwOk w) = true := all_in (by decide +kernel)
