/-! A default method of an interface -/
section BDFLT
variable {p : Program} {l : Launch} {e : Env} {R : Room} {s : State} {m : MethodId} {args : Array Value} {below : List Frame} {meth : Method} {c : Code} {H : Heap} {locs : List Loc} {cells slots mc ms : Nat} {cc : ByteArray} {pc : Nat} {ls : Array Slot} {Γ : GE} {bc ro : BW} {st0 rest : List Value}
theorem b_runFD {own C : String} {x y : MethodName} {bytes : ByteArray} {L nL idx count : Nat} {ret : Option FieldType} {rm : Room} {b : Addr} {cC : ClassId} {As : List Value} {Qc : Array Value → State → Outcome → State → Prop} {free : Addr → Prop} {sz : Nat} (hat : ClassAt s C cC) (S : CallFix p m c cc nL s args lw_all own) (hM : Met l y (ws_ y bytes L ret) rm (va_Pc (.ref b :: As) (Cpre Γ bc ro sz)) Qc mc ms free)
    (hF : va_Ld C x y s) (h1 : Cond.methodLink own idx x ∈ lw_all) (h3 : Cond.instanceMethod y ∈ lw_all) (h4 : Cond.initialized y.cls ∈ lw_all) (h5 : Cond.code y bytes L ret ∈ lw_all)
    (hrc : rm.cells = mc) (hrs : rm.slots = ms) (n : Nat) (hd : x.cls ≠ "java/lang/invoke/MethodHandle" ∧ x.cls ≠ "java/lang/invoke/VarHandle" ∧ (parseMethodDescriptor x.desc).map (fun d => d.parameters.length) = some n) (hR : rm.frames + 1 ≤ R.frames ∧ 8 + (L + 11) + rm.locals ≤ R.locals)
    (hpre : ∀ U : State, U.heap = H → s.WarmedH U.vm → Cpre Γ bc ro sz U) (hrec : ∃ cell : Cell, H[b]? = some cell ∧ cell.vm.isStatics = false ∧ s.vm.findClass C = some cell.cls) (hn : As.length = n) (hsize : ls.size = nL) (hstack : st0 = As.reverse ++ .ref b :: rest) (hW : (rest.map fun v => v.category).sum ≤ 8) (hdg : decode cc pc = .ok (.invokeinterface idx count, 5)) (hf : cells + mc ≤ R.cells ∧ slots + ms ≤ R.slots) :
    va_Run5 p l e R s m args below meth c H locs cells slots mc ms (F0 m pc ls st0) rest (Qc (Value.ref b :: As).toArray) free := by
  have hts := S.2.2.2.2
  obtain ⟨hx, hb, hml, ho, -⟩ := S
  have hK : Back l R p e below s args y 5 8 (PreOf R mc ms (va_Pc (.ref b :: As) (Cpre Γ bc ro sz))) (PostOf Qc mc ms free) := back_of (bytes := bytes) (maxL := L) (ret := ret) hM cblind hrc hrs hR.1 hR.2 (pay_in hts (lw_meth h5)) List.mem_cons_self (fun a' U hW => word_at hW (Or.inl (by first | rfl | simp [Cond.onTables, Cond.keeps, Cond.steady])) (hts _ h4))
  obtain ⟨cellB, hcB, hoB, hclB⟩ := hrec
  obtain ⟨hfc, kB, hkB, -⟩ := hat
  intro T hT X
  obtain ⟨v, vm₁, ⟨U', l2, c2, s2⟩, hW₁, X', ⟨g', mk, t, L9, e1, e2, hq, k1, hL, k2, k3⟩, st⟩ := X.interfaceBackD hx (C := C) (xi := x) (y := y) (index := idx) (count := count) ho (hts _ h1) (va_any rfl hF.1) (va_any rfl hF.2.1) hF.2.2.2.1 (hts _ h3) (va_any rfl hF.2.2.1) (va_any rfl hF.2.2.2.2) ⟨hd.1, hd.2.1⟩ hK hfc hkB (b := b) ⟨cellB, by rw [hT]; exact hcB, (Option.some.inj (hfc.symm.trans hclB)).symm, hoB⟩ (g := F0 m pc ls st0) rfl (hsize.trans hml.symm) (Steps.refl _) (argsL := As) (rest := rest)
    (fun sig h => by have h2 := hd.2.2; rw [h] at h2; exact hn.trans (Option.some.inj h2).symm) hstack (lv_room hW) (by rw [hb]; exact hdg) (fun vm₁ hW₁ => ⟨hf.1, hf.2, rfl, hpre (T.setVm vm₁) hT hW₁⟩)
  dsimp only [Pt.U, Pt.locs, Pt.cells, Pt.slots] at X' e1 e2 k1 k2 k3 st
  subst k1; subst k2; subst k3
  exact ⟨v, (T.setVm vm₁).calling g' mk (Value.ref b :: As).toArray, t, U', L9, hT, X', hL, e1, e2, hq, fun target h => st.trans h⟩
end BDFLT
