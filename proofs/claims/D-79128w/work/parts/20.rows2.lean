/-! ROWS over blocks, 2: inherited and private calls, super, interfaces, casts, arraycopy, clone, arrays of references, class objects -/
theorem sel_priv {y y0 x0 : MethodName} {s : State} {args : Array Value} {C C0 : String} {n : Nat} (hy0 : y0.cls = y.cls) (hsel0 : (Cond.selects C0 x0 y0).before args s = true) (hy : y.cls ≠ "java/lang/invoke/MethodHandle" ∧ y.cls ≠ "java/lang/invoke/VarHandle")
    (hins : (Cond.instantiable C n).before args s = true) (hpriv : (Cond.privateMethod y).before args s = true) (hinst : (Cond.instanceMethod y).before args s = true) : (Cond.selects C y y).before args s = true := by
  obtain ⟨c, k, hc, hk, -, hniab, -, -⟩ := Cond.instantiable_spec hins
  have hni : k.isInterface = false := (Bool.or_eq_false_iff.mp hniab).1
  obtain ⟨mk, methM, hnamed, hmethM, -, -⟩ := Cond.instanceMethod_spec hinst
  have hfound : s.methodFound? y.cls y.name y.desc = some mk := State.methodFound?_of_named hnamed hy
  have hsel : selectMethod {} s.vm c mk = .method mk := selectMethod_private hmethM (Cond.privateMethod_at hpriv mk methM hnamed hmethM)
  obtain ⟨c2, r2, m2, -, -, q3, -, kP, hkP, hkPi⟩ := Cond.selects_spec hsel0
  have hcl : m2.cls = mk.cls := by
    have h1 := findClass_of_methodNamed q3
    rw [hy0, findClass_of_methodNamed hnamed] at h1
    exact (Option.some.inj h1).symm
  rw [hcl] at hkP
  simp only [Cond.before, Cond.holds, Cond.value, hc, hfound, hnamed, hsel, hkP, hk]
  simp; exact hkPi
section BR2
variable {p : Program} {l : Launch} {e : Env} {R : Room} {s : State} {m : MethodId} {args : Array Value} {below : List Frame} {meth : Method} {c : Code} {H : Heap} {locs : List Loc} {cells slots mc ms : Nat} {Q : State → Prop} {cc : ByteArray} {pc : Nat} {ls : Array Slot} {Γ : GE} {A : Nat → Prop} {bs bc br ro : BW} {st0 rest : List Value} {a : Array Value}
/-- an inherited, private or overridden method: the receiver is of class C, x is named, y runs -/
theorem b_runU {own C owner : String} {x y : MethodName} {bytes : ByteArray} {L nL idx : Nat} {ret : Option FieldType} {rm : Room} {b : Addr} {As : List Value} {Qc : Array Value → State → Outcome → State → Prop} {free : Addr → Prop} {sz : Nat} (S : CallFix p m c cc nL s args lw_all own) (hM : Met l y (ws_ y bytes L ret) rm (va_Pc (.ref b :: As) (Cpre Γ bc ro sz)) Qc mc ms free)
    (hlink : Cond.methodLink own idx x ∈ lw_all) (hsame : Cond.sameMethod x.cls owner x.name x.desc ∈ lw_all) (hdecl : va_Decl s ⟨owner, x.name, x.desc⟩) (hsel : (Cond.selects C x y).before args s = true) (hinst : Cond.instanceMethod y ∈ lw_all) (hini : Cond.initialized y.cls ∈ lw_all) (hcode : Cond.code y bytes L ret ∈ lw_all)
    (hrc : rm.cells = mc) (hrs : rm.slots = ms) (n : Nat) (hd : owner ≠ "java/lang/invoke/MethodHandle" ∧ owner ≠ "java/lang/invoke/VarHandle" ∧ (parseMethodDescriptor x.desc).map (fun d => d.parameters.length) = some n) (hR : rm.frames + 1 ≤ R.frames ∧ 8 + (L + 11) + rm.locals ≤ R.locals)
    (hpre : ∀ U : State, U.heap = H → s.WarmedH U.vm → Cpre Γ bc ro sz U) (hrec : ∃ cell : Cell, H[b]? = some cell ∧ cell.vm.isStatics = false ∧ s.vm.findClass C = some cell.cls) (hn : As.length = n) (hsize : ls.size = nL) (hstack : st0 = As.reverse ++ .ref b :: rest) (hW : (rest.map fun v => v.category).sum ≤ 8) (hdg : decode cc pc = .ok (.invokevirtual idx, 3)) (hf : cells + mc ≤ R.cells ∧ slots + ms ≤ R.slots) :
    va_Run p l e R s m args below meth c H locs cells slots mc ms (F0 m pc ls st0) rest (Qc (Value.ref b :: As).toArray) free := by
  have hts := S.2.2.2.2
  refine va_runU S hM (x := x) (owner := owner) (C := C) (n := n) ⟨⟨hrc, hrs, hR.1, hR.2, pay_in hts (lw_meth hcode), List.mem_cons_self⟩, hts _ hcode, hts _ hini, ⟨hd.1, hd.2.1⟩, fun sig h => ?_, hts _ hlink, hts _ hsame, hdecl, hsel, hts _ hinst⟩ ⟨cblind, hrec, fun U hU hW => ⟨rfl, hpre U hU hW⟩⟩ rfl hn hsize hstack (lv_room hW) hdg hf
  have h2 := hd.2.2
  rw [h] at h2
  exact (Option.some.inj h2).symm
/-- super.m(..) -/
theorem b_runSU {own C : String} {cC : ClassId} {y : MethodName} {bytes : ByteArray} {L nL idx : Nat} {ret : Option FieldType} {rm : Room} {b : Addr} {As : List Value} {Qc : Array Value → State → Outcome → State → Prop} {free : Addr → Prop} {sz : Nat} (hat : ClassAt s C cC) (S : CallFix p m c cc nL s args lw_all own) (hM : Met l y (ws_ y bytes L ret) rm (va_Pc (.ref b :: As) (Cpre Γ bc ro sz)) Qc mc ms free)
    (h1 : Cond.methodLink own idx y ∈ lw_all) (h2 : Cond.sameMethod y.cls y.cls y.name y.desc ∈ lw_all) (h3 : Cond.superclass own y.cls ∈ lw_all) (h4 : Cond.instanceMethod y ∈ lw_all) (h5 : Cond.initialized y.cls ∈ lw_all) (h6 : Cond.code y bytes L ret ∈ lw_all)
    (hrc : rm.cells = mc) (hrs : rm.slots = ms) (n : Nat) (hd : y.name ≠ "<init>" ∧ (parseMethodDescriptor y.desc).map (fun d => d.parameters.length) = some n) (hR : rm.frames + 1 ≤ R.frames ∧ 8 + (L + 11) + rm.locals ≤ R.locals)
    (hpre : ∀ U : State, U.heap = H → s.WarmedH U.vm → Cpre Γ bc ro sz U) (hrec : ∃ cell : Cell, H[b]? = some cell ∧ cell.vm.isStatics = false ∧ s.vm.findClass C = some cell.cls) (hn : As.length = n) (hsize : ls.size = nL) (hstack : st0 = As.reverse ++ .ref b :: rest) (hW : (rest.map fun v => v.category).sum ≤ 8) (hdg : decode cc pc = .ok (.invokespecial idx, 3)) (hf : cells + mc ≤ R.cells ∧ slots + ms ≤ R.slots) :
    va_Run p l e R s m args below meth c H locs cells slots mc ms (F0 m pc ls st0) rest (Qc (Value.ref b :: As).toArray) free := by
  have hts := S.2.2.2.2
  refine va_runSU hat S hM (n := n) ⟨⟨hrc, hrs, hR.1, hR.2, pay_in hts (lw_meth h6), List.mem_cons_self⟩, hts _ h1, hts _ h2, hts _ h3, hts _ h4, hts _ h5, hts _ h6, hd.1, fun sig h => ?_⟩ ⟨cblind, hrec, fun U hU hW => ⟨rfl, hpre U hU hW⟩⟩ rfl hn hsize hstack (lv_room hW) hdg hf
  have h9 := hd.2
  rw [h] at h9
  exact (Option.some.inj h9).symm
/-- through an interface -/
theorem b_runF {own C : String} {x y : MethodName} {bytes : ByteArray} {L nL idx count : Nat} {ret : Option FieldType} {rm : Room} {b : Addr} {cC : ClassId} {As : List Value} {Qc : Array Value → State → Outcome → State → Prop} {free : Addr → Prop} {sz : Nat} (hat : ClassAt s C cC) (S : CallFix p m c cc nL s args lw_all own) (hM : Met l y (ws_ y bytes L ret) rm (va_Pc (.ref b :: As) (Cpre Γ bc ro sz)) Qc mc ms free)
    (hF : va_Fw C x y s) (h1 : Cond.methodLink own idx x ∈ lw_all) (h2 : Cond.selects C x y ∈ lw_all) (h3 : Cond.instanceMethod y ∈ lw_all) (h4 : Cond.initialized y.cls ∈ lw_all) (h5 : Cond.code y bytes L ret ∈ lw_all)
    (hrc : rm.cells = mc) (hrs : rm.slots = ms) (n : Nat) (hd : x.cls ≠ "java/lang/invoke/MethodHandle" ∧ x.cls ≠ "java/lang/invoke/VarHandle" ∧ (parseMethodDescriptor x.desc).map (fun d => d.parameters.length) = some n) (hR : rm.frames + 1 ≤ R.frames ∧ 8 + (L + 11) + rm.locals ≤ R.locals)
    (hpre : ∀ U : State, U.heap = H → s.WarmedH U.vm → Cpre Γ bc ro sz U) (hrec : ∃ cell : Cell, H[b]? = some cell ∧ cell.vm.isStatics = false ∧ s.vm.findClass C = some cell.cls) (hn : As.length = n) (hsize : ls.size = nL) (hstack : st0 = As.reverse ++ .ref b :: rest) (hW : (rest.map fun v => v.category).sum ≤ 8) (hdg : decode cc pc = .ok (.invokeinterface idx count, 5)) (hf : cells + mc ≤ R.cells ∧ slots + ms ≤ R.slots) :
    va_Run5 p l e R s m args below meth c H locs cells slots mc ms (F0 m pc ls st0) rest (Qc (Value.ref b :: As).toArray) free := by
  have hts := S.2.2.2.2
  refine va_runF hat S hM (n := n) (va_cwF (C := C) (x := x) n hts (lw_app ?_ (lw_meth h5)) rfl hrc hrs hF hd hR) ⟨cblind, hrec, fun U hU hW => ⟨rfl, hpre U hU hW⟩⟩ rfl hn hsize hstack (lv_room hW) hdg hf
  intro w hw
  simp only [List.mem_cons, List.not_mem_nil, or_false] at hw
  rcases hw with e | e | e | e
  · rw [e]; exact h1
  · rw [e]; exact h2
  · rw [e]; exact h3
  · rw [e]; exact h4
theorem b_call5i {post : Int32 → BW → Prop} (hr : va_Run5 p l e R s m args below meth c H locs cells slots mc ms (F0 m pc ls st0) rest (Qi Γ post (va_A bc.flatten H.size) a) (va_A bc.flatten H.size)) (hP : va_P Γ.1 cls bs.flatten H) (hD : va_D A bs.flatten) (hS : va_S A s.heap H locs) (hA : ∀ q, s.heap.size ≤ q → A q) (isC isR : List Nat) (hC : isC.map (fun i => bs[i]?) = bc.map some) (hR : isR.map (fun i => bs[i]?) = br.map some) (hn : va_nd (isR ++ isC) = true)
    (kk : ∀ (r : Int32) (u : BW) (H1 : Heap) (locs1 : List Loc), post r u → va_P Γ.1 cls (u ++ br).flatten H1 → va_D A (u ++ br).flatten → va_S A s.heap H1 locs1 → H.size ≤ H1.size → W p l e R s m args below meth c H1 locs1 (cells + mc) (slots + ms) Q (F0 m (pc + 5) ls (.int r :: rest))) : W p l e R s m args below meth c H locs cells slots Q (F0 m pc ls st0) := by
  have hF := bFree (bc := bc) hD hS hA isC hC
  refine va_callFi hr hS (fun q _ h => hF q h) hF (fun r u t H1 locs1 ht _ hp hB hz hk hS1 => ?_)
  rw [BB, ht] at hB
  obtain ⟨h1, h2⟩ := bJoin hP hD isC isR hC hR hn hk hF hB.1 hB.2
  exact kk r u H1 locs1 hp h1 h2 hS1 hz
theorem b_call5v {post : BW → Prop} (hr : va_Run5 p l e R s m args below meth c H locs cells slots mc ms (F0 m pc ls st0) rest (Qv Γ post (va_A bc.flatten H.size) a) (va_A bc.flatten H.size)) (hP : va_P Γ.1 cls bs.flatten H) (hD : va_D A bs.flatten) (hS : va_S A s.heap H locs) (hA : ∀ q, s.heap.size ≤ q → A q) (isC isR : List Nat) (hC : isC.map (fun i => bs[i]?) = bc.map some) (hR : isR.map (fun i => bs[i]?) = br.map some) (hn : va_nd (isR ++ isC) = true)
    (kk : ∀ (u : BW) (H1 : Heap) (locs1 : List Loc), post u → va_P Γ.1 cls (u ++ br).flatten H1 → va_D A (u ++ br).flatten → va_S A s.heap H1 locs1 → H.size ≤ H1.size → W p l e R s m args below meth c H1 locs1 (cells + mc) (slots + ms) Q (F0 m (pc + 5) ls rest)) : W p l e R s m args below meth c H locs cells slots Q (F0 m pc ls st0) := by
  have hF := bFree (bc := bc) hD hS hA isC hC
  refine va_callFv hr hS (fun q _ h => hF q h) hF (fun u t H1 locs1 ht _ hp hB hz hk hS1 => ?_)
  rw [BB, ht] at hB
  obtain ⟨h1, h2⟩ := bJoin hP hD isC isR hC hR hn hk hF hB.1 hB.2
  exact kk u H1 locs1 hp h1 h2 hS1 hz
theorem b_call5q {post : Option Nat → BW → Prop} (hr : va_Run5 p l e R s m args below meth c H locs cells slots mc ms (F0 m pc ls st0) rest (Qq Γ post (va_A bc.flatten H.size) a) (va_A bc.flatten H.size)) (hP : va_P Γ.1 cls bs.flatten H) (hD : va_D A bs.flatten) (hS : va_S A s.heap H locs) (hA : ∀ q, s.heap.size ≤ q → A q) (isC isR : List Nat) (hC : isC.map (fun i => bs[i]?) = bc.map some) (hR : isR.map (fun i => bs[i]?) = br.map some) (hn : va_nd (isR ++ isC) = true)
    (kk : ∀ (r : Option Nat) (u : BW) (H1 : Heap) (locs1 : List Loc), post r u → va_P Γ.1 cls (u ++ br).flatten H1 → va_D A (u ++ br).flatten → va_S A s.heap H1 locs1 → H.size ≤ H1.size → W p l e R s m args below meth c H1 locs1 (cells + mc) (slots + ms) Q (F0 m (pc + 5) ls (va_rf r :: rest))) : W p l e R s m args below meth c H locs cells slots Q (F0 m pc ls st0) := by
  have hF := bFree (bc := bc) hD hS hA isC hC
  refine va_callFq hr hS (fun q _ h => hF q h) hF (fun r u t H1 locs1 ht _ hp hB hz hk hS1 => ?_)
  rw [BB, ht] at hB
  obtain ⟨h1, h2⟩ := bJoin hP hD isC isR hC hR hn hk hF hB.1 hB.2
  exact kk r u H1 locs1 hp h1 h2 hS1 hz
theorem nfw_copy : nativeFrameWords "java/lang/System" "arraycopy" 5 + 11 ≤ 40 := by decide
theorem ix_pos {x : Int32} {n : Nat} (h : x = nI n) (hn : n < 2 ^ 31) : ¬ x < 0 ∧ x.toNatClampNeg = n := by
  subst h
  exact ⟨nI_pos hn, nI_clamp hn⟩
end BR2
section BR3
variable {p : Program} {l : Launch} {e : Env} {R : Room} {s : State} {m : MethodId} {args : Array Value} {below : List Frame} {meth : Method} {c : Code} {H H0 : Heap} {locs : List Loc} {cells slots : Nat} {Q : State → Prop} {cc : ByteArray} {pc : Nat} {ls : Array Slot} {Γ : GE} {A : Nat → Prop} {bs : BW} {rest : List Value} {a : Nat}
/-- arraycopy between own arrays of bytes (t = 1) or ints (t = 0) -/
theorem b_copyi (hx : p.tables.exec = Jvm.exec) (hb : c.code = cc) (hts : ∀ w ∈ lw_all, w.before args s = true) (hml : c.maxLocals = ls.size) {own : String} {index : Nat} (hown : s.vm.findClass own = some m.cls) (hlink : Cond.methodLink own index arraycopyName ∈ lw_all) (hnat : Cond.native arraycopyName ∈ lw_all) (hstat : Cond.static arraycopyName ∈ lw_all) (hini : Cond.initialized "java/lang/System" ∈ lw_all)
    (hK : va_K Γ.1 cls (tysG Γ) s) (hP : WP Γ bs H) (hD : WD A bs) (hS : va_S A H0 H locs) (k0 k1 t : Nat) {ty : FieldType} (ht : (tysG Γ)[t]? = some (Γ.2.1 t, ty)) (hty : refKind ty = false) {a0 n0 n1 : Nat} {f g : Nat → Int32} (ha0 : bs[k0]? = some [(a0, .inl (Γ.2.1 t, n0, .inl f))]) (ha1 : bs[k1]? = some [(a, .inl (Γ.2.1 t, n1, .inl g))])
    {x y z : Int32} (sp dp n : Nat) (ex : x = nI sp) (ey : y = nI dp) (ez : z = nI n) (h1 : sp + n ≤ n0) (h2 : dp + n ≤ n1) (hn0 : n0 < 2 ^ 31) (hn1 : n1 < 2 ^ 31) (hfit : ∀ i, i < n → fits ty (.int (f (sp + i))) = true) (hframes : 1 ≤ R.frames) (hlocals : (rest.map fun v => v.category).sum + 40 ≤ R.locals) (hdg : decode cc pc = .ok (.invokestatic index, 3))
    (kk : ∀ (H1 : Heap) (locs1 : List Loc), WP Γ (bs.set k1 [(a, .inl (Γ.2.1 t, n1, .inl (va_cpy f g sp dp n)))]) H1 → WD A (bs.set k1 [(a, .inl (Γ.2.1 t, n1, .inl (va_cpy f g sp dp n)))]) → va_S A H0 H1 locs1 → W p l e R s m args below meth c H1 locs1 cells slots Q (F0 m (pc + 3) ls rest)) : W p l e R s m args below meth c H locs cells slots Q (F0 m pc ls (.int z :: .int y :: .ref a :: .int x :: .ref a0 :: rest)) := by
  obtain ⟨x1, x2⟩ := ix_pos ex (by omega)
  obtain ⟨y1, y2⟩ := ix_pos ey (by omega)
  obtain ⟨z1, z2⟩ := ix_pos ez (by omega)
  refine va_copyi hx hb hml hown (hts _ hlink) (hts _ hnat) (hts _ hstat) (hts _ hini) hK hP hD hS (bpos bs k0) (bpos bs k1) t t (fl_get ha0) (fl_get ha1) ht ht hty x1 y1 z1 (by rw [x2, z2]; exact h1) (by rw [y2, z2]; exact h2) (by rw [x2, z2]; exact hfit) hframes (Nat.le_trans (Nat.add_le_add_left nfw_copy _) hlocals) hdg (fun H1 locs1 h3 h4 h5 => ?_)
  rw [x2, y2, z2, fl_set ha1] at h3 h4
  exact kk H1 locs1 h3 h4 h5
/-- arraycopy out of a constant's bytes -/
theorem b_copyt (hx : p.tables.exec = Jvm.exec) (hb : c.code = cc) (hts : ∀ w ∈ lw_all, w.before args s = true) (hml : c.maxLocals = ls.size) {own : String} {index : Nat} (hown : s.vm.findClass own = some m.cls) (hlink : Cond.methodLink own index arraycopyName ∈ lw_all) (hnat : Cond.native arraycopyName ∈ lw_all) (hstat : Cond.static arraycopyName ∈ lw_all) (hini : Cond.initialized "java/lang/System" ∈ lw_all)
    (hK : va_K Γ.1 cls (tysG Γ) s) (hP : WP Γ bs H) (hD : WD A bs) (hS : va_S A s.heap H locs) (k1 : Nat) {a0 n0 n1 : Nat} {f g : Nat → Int32} (hX : va_T .byte a0 n0 (fun j => .int (f j)) A s s.heap) (ha1 : bs[k1]? = some [(a, .inl (Γ.2.1 1, n1, .inl g))])
    {x y z : Int32} (sp dp n : Nat) (ex : x = nI sp) (ey : y = nI dp) (ez : z = nI n) (h1 : sp + n ≤ n0) (h2 : dp + n ≤ n1) (hn0 : n0 < 2 ^ 31) (hn1 : n1 < 2 ^ 31) (hfit : ∀ i, i < n → fits .byte (.int (f (sp + i))) = true) (hframes : 1 ≤ R.frames) (hlocals : (rest.map fun v => v.category).sum + 40 ≤ R.locals) (hdg : decode cc pc = .ok (.invokestatic index, 3))
    (kk : ∀ (H1 : Heap) (locs1 : List Loc), WP Γ (bs.set k1 [(a, .inl (Γ.2.1 1, n1, .inl (va_cpy f g sp dp n)))]) H1 → WD A (bs.set k1 [(a, .inl (Γ.2.1 1, n1, .inl (va_cpy f g sp dp n)))]) → va_S A s.heap H1 locs1 → W p l e R s m args below meth c H1 locs1 cells slots Q (F0 m (pc + 3) ls rest)) : W p l e R s m args below meth c H locs cells slots Q (F0 m pc ls (.int z :: .int y :: .ref a :: .int x :: .ref a0 :: rest)) := by
  obtain ⟨x1, x2⟩ := ix_pos ex (by omega)
  obtain ⟨y1, y2⟩ := ix_pos ey (by omega)
  obtain ⟨z1, z2⟩ := ix_pos ez (by omega)
  refine vk_copyt hx hb hml hown (hts _ hlink) (hts _ hnat) (hts _ hstat) (hts _ hini) hK hP hD hS hX (bpos bs k1) 1 (fl_get ha1) rfl x1 y1 z1 (by rw [x2, z2]; exact h1) (by rw [y2, z2]; exact h2) (by rw [x2, z2]; exact hfit) hframes (Nat.le_trans (Nat.add_le_add_left nfw_copy _) hlocals) hdg (fun H1 locs1 h3 h4 h5 => ?_)
  rw [x2, y2, z2, fl_set ha1] at h3 h4
  exact kk H1 locs1 h3 h4 h5
/-- arraycopy of references between arrays of Object -/
theorem b_copyq (hx : p.tables.exec = Jvm.exec) (hb : c.code = cc) (hts : ∀ w ∈ lw_all, w.before args s = true) (hml : c.maxLocals = ls.size) {own : String} {index : Nat} (hown : s.vm.findClass own = some m.cls) (hlink : Cond.methodLink own index arraycopyName ∈ lw_all) (hnat : Cond.native arraycopyName ∈ lw_all) (hstat : Cond.static arraycopyName ∈ lw_all) (hini : Cond.initialized "java/lang/System" ∈ lw_all)
    (hK : va_K Γ.1 cls (tysG Γ) s) (hP : WP Γ bs H) (hD : WD A bs) (hS : va_S A H0 H locs) (k0 k1 : Nat) {a0 n0 n1 : Nat} {f g : Nat → Option Nat} (ha0 : bs[k0]? = some [(a0, .inl (Γ.2.1 2, n0, .inr (.inr (.inr (.inr f)))))]) (ha1 : bs[k1]? = some [(a, .inl (Γ.2.1 2, n1, .inr (.inr (.inr (.inr g)))))])
    {x y z : Int32} (sp dp n : Nat) (ex : x = nI sp) (ey : y = nI dp) (ez : z = nI n) (h1 : sp + n ≤ n0) (h2 : dp + n ≤ n1) (hn0 : n0 < 2 ^ 31) (hn1 : n1 < 2 ^ 31) (hel : ∀ i, i < n → ∀ y : Nat, f (sp + i) = some y → va_Any "java/lang/Object" s H y) (hframes : 1 ≤ R.frames) (hlocals : (rest.map fun v => v.category).sum + 40 ≤ R.locals) (hdg : decode cc pc = .ok (.invokestatic index, 3))
    (kk : ∀ (H1 : Heap) (locs1 : List Loc), WP Γ (bs.set k1 [(a, .inl (Γ.2.1 2, n1, .inr (.inr (.inr (.inr (va_cpy f g sp dp n))))))]) H1 → WD A (bs.set k1 [(a, .inl (Γ.2.1 2, n1, .inr (.inr (.inr (.inr (va_cpy f g sp dp n))))))]) → va_S A H0 H1 locs1 → W p l e R s m args below meth c H1 locs1 cells slots Q (F0 m (pc + 3) ls rest)) : W p l e R s m args below meth c H locs cells slots Q (F0 m pc ls (.int z :: .int y :: .ref a :: .int x :: .ref a0 :: rest)) := by
  obtain ⟨x1, x2⟩ := ix_pos ex (by omega)
  obtain ⟨y1, y2⟩ := ix_pos ey (by omega)
  obtain ⟨z1, z2⟩ := ix_pos ez (by omega)
  refine va_copyM hx hb hml hown (hts _ hlink) (hts _ hnat) (hts _ hstat) (hts _ hini) hK hP hD hS (bpos bs k0) (bpos bs k1) 2 2 (fl_get ha0) (fl_get ha1) rfl rfl x1 y1 z1 (by rw [x2, z2]; exact h1) (by rw [y2, z2]; exact h2) (by rw [x2, z2]; exact hel) hframes (Nat.le_trans (Nat.add_le_add_left nfw_copy _) hlocals) hdg (fun H1 locs1 h3 h4 h5 => ?_)
  rw [x2, y2, z2, fl_set ha1] at h3 h4
  exact kk H1 locs1 h3 h4 h5
/-- .. of none, out of the empty constant array -/
theorem b_copyg (hx : p.tables.exec = Jvm.exec) (hb : c.code = cc) (hts : ∀ w ∈ lw_all, w.before args s = true) (hml : c.maxLocals = ls.size) {own : String} {index : Nat} (hown : s.vm.findClass own = some m.cls) (hlink : Cond.methodLink own index arraycopyName ∈ lw_all) (hnat : Cond.native arraycopyName ∈ lw_all) (hstat : Cond.static arraycopyName ∈ lw_all) (hini : Cond.initialized "java/lang/System" ∈ lw_all)
    (hK : va_K Γ.1 cls (tysG Γ) s) (hE : EN Γ A s) (hP : WP Γ bs H) (hD : WD A bs) (hS : va_S A s.heap H locs) (k1 : Nat) {n1 : Nat} {g : Nat → Option Nat} (ha1 : bs[k1]? = some [(a, .inl (Γ.2.1 2, n1, .inr (.inr (.inr (.inr g)))))])
    {x y z : Int32} (ex : x = 0) (ey : y = 0) (ez : z = 0) (hframes : 1 ≤ R.frames) (hlocals : (rest.map fun v => v.category).sum + 40 ≤ R.locals) (hdg : decode cc pc = .ok (.invokestatic index, 3))
    (kk : ∀ (H1 : Heap) (locs1 : List Loc), WP Γ bs H1 → WD A bs → va_S A s.heap H1 locs1 → W p l e R s m args below meth c H1 locs1 cells slots Q (F0 m (pc + 3) ls rest)) : W p l e R s m args below meth c H locs cells slots Q (F0 m pc ls (.int z :: .int y :: .ref a :: .int x :: .ref (Γ.2.2 0) :: rest)) := by
  subst ex; subst ey; subst ez
  refine va_copyg hx hb hml hown (hts _ hlink) (hts _ hnat) (hts _ hstat) (hts _ hini) hK hP hD hS (bpos bs k1) 2 (E0 := "java/lang/Object") hE.2.1.1.2.1 (fl_get ha1) rfl (sp := 0) (dp := 0) (n := 0) (by decide) (by decide) (by decide) (by decide) (Nat.zero_le _) hframes (Nat.le_trans (Nat.add_le_add_left nfw_copy _) hlocals) hdg (fun H1 locs1 h3 h4 h5 => ?_)
  have e9 : va_cpy (fun _ => none) g (0 : Int32).toNatClampNeg (0 : Int32).toNatClampNeg (0 : Int32).toNatClampNeg = g := by
    funext q
    show (if _ then _ else _) = _
    rw [if_neg (by show ¬ (0 ≤ q ∧ q < 0 + 0); omega)]
  have e8 : bs.set k1 [(a, .inl (Γ.2.1 2, n1, .inr (.inr (.inr (.inr g)))))] = bs := by
    apply List.ext_getElem?
    intro i
    rw [List.getElem?_set]
    split
    · rename_i h; subst h; rw [ha1]; rw [if_pos (List.getElem?_eq_some_iff.mp ha1).1]
    · rfl
  rw [e9, fl_set ha1, e8] at h3 h4
  exact kk H1 locs1 h3 h4 h5
/-- a new array of Object -/
theorem b_newq (hx : p.tables.exec = Jvm.exec) (hb : c.code = cc) (hts : ∀ w ∈ lw_all, w.before args s = true) (hE : EN Γ A s) {own : String} {index : Nat} (hown : s.vm.findClass own = some m.cls) (hclink : Cond.classLink own index "java/lang/Object" ∈ lw_all) (hK : va_K Γ.1 cls (tysG Γ) s) (hP : WP Γ bs H) (hD : WD A bs) (hS : va_S A s.heap H locs) (hA : ∀ q, s.heap.size ≤ q → A q) {i : Int32} (n : Nat) (hi : i = nI n) (hn : n < 2 ^ 26) (hcells : cells + 1 ≤ R.cells) (hslots : slots + n ≤ R.slots) (hdg : decode cc pc = .ok (.anewarray index, 3))
    (kk : ∀ (q : Nat) (H1 : Heap), WP Γ (bs ++ [[(q, .inl (Γ.2.1 2, n, .inr (.inr (.inr (.inr (fun _ => none))))))]]) H1 → WD A (bs ++ [[(q, .inl (Γ.2.1 2, n, .inr (.inr (.inr (.inr (fun _ => none))))))]]) → va_S A s.heap H1 locs → W p l e R s m args below meth c H1 locs (cells + 1) (slots + n) Q (F0 m (pc + 3) ls (.ref q :: rest))) : W p l e R s m args below meth c H locs cells slots Q (F0 m pc ls (.int i :: rest)) := by
  subst hi
  refine va_newq (N' := n) hx hb hown (hts _ hclink) hE.1.2.1.2.2.2 hK hP hD hS hA (nI_pos (by omega)) (nI_clamp (by omega)) (by omega) hcells hslots hdg (fun q cA H1 h0 h1 h2 h3 => ?_)
  obtain rfl := tys_last (t := 2) h0 rfl
  rw [fl_push] at h1 h2
  exact kk q H1 h1 h2 h3
/-- the bytes' own copy -/
theorem b_cloneb (hx : p.tables.exec = Jvm.exec) (hb : c.code = cc) (hts : ∀ w ∈ lw_all, w.before args s = true) (hE : EN Γ A s) (hml : c.maxLocals = ls.size) {own : String} {index : Nat} (hown : s.vm.findClass own = some m.cls)
    (hlink : Cond.methodLink own index ⟨"[B", "clone", "()Ljava/lang/Object;"⟩ ∈ lw_all) (hsame : Cond.sameMethod "[B" "java/lang/Object" "clone" "()Ljava/lang/Object;" ∈ lw_all)
    (hnat : Cond.native ⟨"java/lang/Object", "clone", "()Ljava/lang/Object;"⟩ ∈ lw_all) (hinst : Cond.instanceMethod ⟨"java/lang/Object", "clone", "()Ljava/lang/Object;"⟩ ∈ lw_all)
    (hsel : Cond.selects "[B" ⟨"[B", "clone", "()Ljava/lang/Object;"⟩ ⟨"java/lang/Object", "clone", "()Ljava/lang/Object;"⟩ ∈ lw_all) (hcl : Cond.castable "[B" "java/lang/Cloneable" ∈ lw_tbl)
    (hK : va_K Γ.1 cls (tysG Γ) s) (hP : WP Γ bs H) (hD : WD A bs) (hS : va_S A s.heap H locs) (hA : ∀ q, s.heap.size ≤ q → A q) (k : Nat) {n : Nat} {f : Nat → Int32} (ha : bs[k]? = some [(a, .inl (Γ.2.1 1, n, .inl f))]) (hfit : ∀ j, j < n → fits .byte (.int (f j)) = true)
    (hframes : 1 ≤ R.frames) (hlocals : (rest.map fun v => v.category).sum + 14 ≤ R.locals) (hcells : cells + 1 ≤ R.cells) (hslots : slots + n ≤ R.slots) (hdg : decode cc pc = .ok (.invokevirtual index, 3))
    (kk : ∀ (q : Nat) (H1 : Heap), WP Γ (bs ++ [[(q, .inl (Γ.2.1 1, n, .inl f))]]) H1 → WD A (bs ++ [[(q, .inl (Γ.2.1 1, n, .inl f))]]) → va_S A s.heap H1 locs → W p l e R s m args below meth c H1 locs (cells + 1) (slots + n) Q (F0 m (pc + 3) ls (.ref q :: rest))) : W p l e R s m args below meth c H locs cells slots Q (F0 m pc ls (.ref a :: rest)) := by
  have hnm : s.vm.findClass "[B" = some (Γ.2.1 1) := (hK.2 1 _ rfl).2
  refine va_clone hx hb hml hown (hts _ hlink) (hts _ hsame) (hts _ hnat) (hts _ hinst) (hts _ hsel) (hE.1.1 _ hcl rfl) hK hP hD hS hA (bpos bs k) 1 (fl_get ha) rfl hnm (fun i v h => ?_) hframes hlocals hcells hslots hdg (fun q H1 _ h1 h2 h3 => ?_)
  · have hlt : i < n := by
      have := (Array.getElem?_eq_some_iff.mp h).1
      rw [show (vp_cell (Γ.2.1 1) (n, .inl f)).slots.size = n from arrV_size _ _ _] at this
      exact this
    have e9 : (vp_cell (Γ.2.1 1) (n, .inl f)).slots[i]? = some (.int (f i)) := arrV_read _ _ hlt
    rw [e9] at h
    cases h
    exact hfit i hlt
  · rw [fl_push] at h1 h2
    exact kk q H1 h1 h2 h3
theorem any_of {b ci : Nat} {fs : List Value} {r : vw_C} (hK : va_K Γ.1 cls (tysG Γ) s) (hE : EN Γ A s) (h : va_at Γ.1 cls (b, .inr (ci, fs)) H) (hc : cls[ci]? = some r) (hca : Cond.castable r.1 "java/lang/Object" ∈ lw_tbl) : va_Any "java/lang/Object" s H b := by
  refine va_rAny hK (P1 h) (q0 := 0) rfl hc (fun comp c0 h1 h2 => ?_)
  obtain ⟨c3, t3, w1, w2, w3⟩ := Cond.castable_spec (show (Cond.castable r.1 "java/lang/Object").before #[] s = true from hE.1.1 _ hca rfl)
  cases h1.symm.trans w2
  cases h2.symm.trans w1
  exact w3
end BR3
