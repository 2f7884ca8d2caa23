/-! CTX: the classes, what every state knows, contracts -/
abbrev GE : Type := va_G × (Nat → ClassId) × (Nat → Nat)
/-- classes by their places: 0 X1, 1 X2, 2 X3, 3 X4, 4 X5, 5 X6, 6 X7, 7 X9, 8 X10, 9 XF, 10 X12, 11 J2, 12 J3, 13 J5, 14 J6, 15 J13, 16 J11, 17 J12, 18 J21, 19 J14, 20 J24, 21 J26 -/
abbrev RXF : String := RX11
/-- of Fault the field position alone -/
def TXF : u_T := fun _ => ("DairyBook$Fault", "position", "I", true)
def tyXF : Nat → FieldType := fun _ => .int
theorem tyXF_ok : ∀ k, k < 1 → parseFieldDescriptor (TXF k).2.2.1 = some (tyXF k) := by decide +kernel
theorem nmXF : ∀ a, a < 1 → ∀ b, b < 1 → a ≠ b → (TXF a).2.1 ≠ (TXF b).2.1 := by intros; omega
theorem in_XF : ∀ w ∈ u_ws RXF TXF 1, w ∈ lw_all := lw_in (u_ws RXF TXF 1) [1661] (by decide +kernel) (by decide +kernel)
abbrev cls : List vw_C := [(RX1, TX1, 9), (RX2, TX2, 8), (RX3, TX3, 2), (RX4, TX4, 16), (RX5, TX5, 12), (RX6, TX6, 2), (RX7, TX7, 6), (RX9, TX9, 1), (RX10, TX10, 2), (RXF, TXF, 1), (RX12, TX12, 3), (RJ2, TJ2, 3), (RJ3, TJ3, 3), (RJ5, TJ5, 4), (RJ6, TJ6, 4), (RJ13, TJ13, 4), (RJ11, TJ11, 0), (RJ12, TJ12, 0), (RJ21, TJ21, 0), (RJ14, TJ14, 0), (RJ24, TJ24, 0), (RJ26, TJ26, 0)]
/-- array classes: 0 int, 1 byte, 2 Object, 3 long, 4 double -/
abbrev tysG (Γ : GE) : List (ClassId × FieldType) := [(Γ.2.1 0, .int), (Γ.2.1 1, .byte), (Γ.2.1 2, .object "java/lang/Object"), (Γ.2.1 3, .long), (Γ.2.1 4, .double)]
def nwOk : Cond → Bool
  | .fieldLinkNest _ _ _ _ _ _ => true
  | .methodLinkNest _ _ _ _ => true
  | .castable _ _ => true
  | .declares _ => true
  | .privateMethod _ => true
  | _ => false
def nwOk_tbl (w : Cond) (h : nwOk w = true) : w.onTables = true := by
  cases w <;> first | rfl | cases h
theorem nw_warm {w : Cond} (h : nwOk w = true) {s U : State} (hW : s.WarmedH U.vm) (hZ : va_Nw w s) : va_Nw w U := by
  cases w with
  | fieldLinkNest a i b n d x => exact va_Nw.warmF hW hZ
  | methodLinkNest a i x y => exact va_Nw.warmM hW hZ
  | castable a b => exact va_Nw.warmC hW hZ
  | declares x => exact va_Nw.warmD hW hZ
  | privateMethod x => exact Cond.privateMethod_warm hW hZ
  | _ => cases h
/-- the string constants that are used: owner, entry, text, its letters -/
def strL : List (String × Nat × String × List Int32) := [
  ("DairyBook", 36, "", []),
  ("DairyBook$Cow", 88, ":", [58]),
  ("DairyBook$Cow", 93, "x", [120]),
  ("DairyBook$Cow", 95, "/", [47]),
  ("DairyBook$Cow", 97, "-", [45]),
  ("DairyBook$Cow", 99, " ", [32]),
  ("DairyBook$Cow", 101, "c", [99]),
  ("DairyBook$Cow", 103, " h", [32, 104]),
  ("DairyBook$Cow", 105, " >", [32, 62]),
  ("DairyBook$Pickup", 32, "d", [100]),
  ("DairyBook$Pickup", 43, " ", [32]),
  ("DairyBook$Pickup", 45, "l ", [108, 32]),
  ("DairyBook$Pickup", 47, "c ", [99, 32]),
  ("DairyBook$Pickup", 49, "m +", [109, 32, 43]),
  ("DairyBook$Reader", 48, "hold", [104, 111, 108, 100]),
  ("DairyBook$Reader", 54, "cells", [99, 101, 108, 108, 115]),
  ("DairyBook$Reader", 56, "bonus", [98, 111, 110, 117, 115]),
  ("DairyBook$Reader", 58, "serve", [115, 101, 114, 118, 101]),
  ("DairyBook$Reader", 60, "dry", [100, 114, 121]),
  ("DairyBook$Reader", 62, "sell", [115, 101, 108, 108]),
  ("DairyBook$Command", 26, "hold", [104, 111, 108, 100]),
  ("DairyBook$Command", 32, "serve", [115, 101, 114, 118, 101]),
  ("DairyBook$Command", 34, "dry", [100, 114, 121]),
  ("DairyBook$Command", 36, "bonus", [98, 111, 110, 117, 115]),
  ("DairyBook$Command", 57, "cells", [99, 101, 108, 108, 115]),
  ("DairyBook$Command", 59, "sell", [115, 101, 108, 108]),
  ("DairyBookModel", 147, "l ", [108, 32]),
  ("DairyBookModel", 152, "c ", [99, 32]),
  ("DairyBookModel", 154, "m +", [109, 32, 43]),
  ("DairyBookModel", 159, " h", [32, 104]),
  ("DairyBookModel", 161, " >", [32, 62]),
  ("DairyBookModel", 175, "hold", [104, 111, 108, 100]),
  ("DairyBookModel", 177, "cells", [99, 101, 108, 108, 115]),
  ("DairyBookModel", 179, "serve", [115, 101, 114, 118, 101]),
  ("DairyBookModel", 181, "dry", [100, 114, 121]),
  ("DairyBookModel", 183, "sell", [115, 101, 108, 108]),
  ("DairyBookModel", 185, "bonus", [98, 111, 110, 117, 115])]
def str_own (i : Nat) : String := (strL.getD i ("", 0, "", [])).1
def str_ix (i : Nat) : Nat := (strL.getD i ("", 0, "", [])).2.1
def str_tx (i : Nat) : String := (strL.getD i ("", 0, "", [])).2.2.1
def str_by (i : Nat) : List Int32 := (strL.getD i ("", 0, "", [])).2.2.2
abbrev nStr : Nat := 37
abbrev adK (Γ : GE) (i : Nat) : Nat := Γ.2.2 (100 + 2 * i)
abbrev adV (Γ : GE) (i : Nat) : Nat := Γ.2.2 (101 + 2 * i)
/-- the string constant i: an object of class String, coder 0, its bytes -/
def strF (Γ : GE) (A : Nat → Prop) (U : State) (H : Heap) (i : Nat) : Prop :=
  va_O "java/lang/String" (adK Γ i) A U H ∧ va_OF "java/lang/String" "coder" "B" (.int 0) (adK Γ i) A U H ∧ va_OF "java/lang/String" "value" "[B" (.ref (adV Γ i)) (adK Γ i) A U H ∧ va_T .byte (adV Γ i) (str_by i).length (fun j => .int ((str_by i).getD j 0)) A U H
/-- statics and constants: 0 the empty array of ArrayList, 1 Integer.DigitOnes, 2 Integer.DigitTens -/
def EN2 (Γ : GE) (A : Nat → Prop) (U : State) (H : Heap) : Prop :=
  (va_Z "java/util/ArrayList" "DEFAULTCAPACITY_EMPTY_ELEMENTDATA" "[Ljava/lang/Object;" (.ref (Γ.2.2 0)) A U H ∧ va_T (.object "java/lang/Object") (Γ.2.2 0) 0 (fun _ => .null) A U H ∧ va_O "[Ljava/lang/Object;" (Γ.2.2 0) A U H) ∧
  (vx_Zq Bundle.tN "UNASSIGNED_STACK" Bundle.steD A U H ∧ vx_Zq Bundle.tN "SUPPRESSED_SENTINEL" Bundle.listD A U H) ∧
  (va_Z "java/lang/String" "COMPACT_STRINGS" "Z" (.int 1) A U H ∧ va_Z "java/lang/StringUTF16" "HI_BYTE_SHIFT" "I" (.int 0) A U H ∧ va_Z "java/lang/StringUTF16" "LO_BYTE_SHIFT" "I" (.int 8) A U H ∧ va_Z "java/lang/StringUTF16" "$assertionsDisabled" "Z" (.int 1) A U H) ∧
  (∀ i : Nat, i < nStr → strF Γ A U H i) ∧
  ((va_Z "java/lang/Integer" "DigitOnes" "[B" (.ref (Γ.2.2 1)) A U H ∧ va_T .byte (Γ.2.2 1) 100 (fun j => .int (nI (48 + j % 10))) A U H) ∧ (va_Z "java/lang/Integer" "DigitTens" "[B" (.ref (Γ.2.2 2)) A U H ∧ va_T .byte (Γ.2.2 2) 100 (fun j => .int (nI (48 + j / 10))) A U H)) ∧
  va_Zq "jdk/internal/util/Preconditions" "SIOOBE_FORMATTER" "Ljava/util/function/BiFunction;" A U H
theorem EN2.moved {Γ : GE} {A : Nat → Prop} {u U : State} {H : Heap} (hvm : u.vm.Alike U.vm) (h : EN2 Γ A u H) : EN2 Γ A U H := by
  obtain ⟨⟨a1, a2, a3⟩, ⟨b1, b2⟩, ⟨c1, c2, c3, c4⟩, d, ⟨⟨e1, e2⟩, ⟨e3, e4⟩⟩, f1⟩ := h
  exact ⟨⟨a1.moved hvm, a2.moved hvm, a3.moved hvm⟩, ⟨b1.moved hvm, b2.moved hvm⟩, ⟨c1.moved hvm, c2.moved hvm, c3.moved hvm, c4.moved hvm⟩, fun i hi => ⟨va_O.moved hvm (d i hi).1, va_OF.moved hvm (d i hi).2.1, va_OF.moved hvm (d i hi).2.2.1, va_T.moved hvm (d i hi).2.2.2⟩, ⟨⟨e1.moved hvm, e2.moved hvm⟩, ⟨e3.moved hvm, e4.moved hvm⟩⟩, f1.moved hvm⟩
theorem EN2.kept {Γ : GE} {A : Nat → Prop} {U : State} {H H1 : Heap} (h : EN2 Γ A U H) (hq : ∀ a : Nat, a < H.size → ¬ A a → H1[a]? = H[a]?) : EN2 Γ A U H1 := by
  obtain ⟨⟨a1, a2, a3⟩, ⟨b1, b2⟩, ⟨c1, c2, c3, c4⟩, d, ⟨⟨e1, e2⟩, ⟨e3, e4⟩⟩, f1⟩ := h
  exact ⟨⟨a1.kept hq, a2.kept hq, a3.kept hq⟩, ⟨b1.kept hq, b2.kept hq⟩, ⟨c1.kept hq, c2.kept hq, c3.kept hq, c4.kept hq⟩, fun i hi => ⟨(d i hi).1.kept hq, (d i hi).2.1.kept hq, (d i hi).2.2.1.kept hq, (d i hi).2.2.2.kept hq⟩, ⟨⟨e1.kept hq, e2.kept hq⟩, ⟨e3.kept hq, e4.kept hq⟩⟩, f1.kept hq⟩
theorem EN2.narrow {Γ : GE} {A B : Nat → Prop} {U : State} {H : Heap} (h : EN2 Γ A U H) (hAB : ∀ q, B q → A q) : EN2 Γ B U H := by
  obtain ⟨⟨a1, a2, a3⟩, ⟨b1, b2⟩, ⟨c1, c2, c3, c4⟩, d, ⟨⟨e1, e2⟩, ⟨e3, e4⟩⟩, f1⟩ := h
  exact ⟨⟨a1.narrow hAB, a2.narrow hAB, a3.narrow hAB⟩, ⟨b1.narrow hAB, b2.narrow hAB⟩, ⟨c1.narrow hAB, c2.narrow hAB, c3.narrow hAB, c4.narrow hAB⟩, fun i hi => ⟨(d i hi).1.narrow hAB, (d i hi).2.1.narrow hAB, (d i hi).2.2.1.narrow hAB, (d i hi).2.2.2.narrow hAB⟩, ⟨⟨e1.narrow hAB, e2.narrow hAB⟩, ⟨e3.narrow hAB, e4.narrow hAB⟩⟩, f1.narrow hAB⟩
/-- calls through interfaces: the receiver's class, what is named, what runs -/
def fwL : List (String × MethodName × MethodName) := [
  ("java/util/ArrayList", ⟨"java/util/Collection", "toArray", "()[Ljava/lang/Object;"⟩, ⟨"java/util/ArrayList", "toArray", "()[Ljava/lang/Object;"⟩),
  ("java/util/ArrayList$Itr", ⟨"java/util/Iterator", "hasNext", "()Z"⟩, ⟨"java/util/ArrayList$Itr", "hasNext", "()Z"⟩),
  ("java/util/ArrayList$Itr", ⟨"java/util/Iterator", "next", "()Ljava/lang/Object;"⟩, ⟨"java/util/ArrayList$Itr", "next", "()Ljava/lang/Object;"⟩),
  ("DairyBook$Cow", ⟨"DairyBook$Stated", "state", "(LDairyBook$Statement;I)V"⟩, ⟨"DairyBook$Cow", "state", "(LDairyBook$Statement;I)V"⟩),
  ("DairyBook$Pickup", ⟨"DairyBook$Stated", "state", "(LDairyBook$Statement;I)V"⟩, ⟨"DairyBook$Pickup", "state", "(LDairyBook$Statement;I)V"⟩)]
theorem fwL_ok : ∀ q ∈ fwL, q.2.1.cls ≠ "java/lang/invoke/MethodHandle" ∧ q.2.1.cls ≠ "java/lang/invoke/VarHandle" := by
  intro q hq
  simp only [fwL, List.mem_cons, List.not_mem_nil, or_false] at hq
  rcases hq with rfl | rfl | rfl | rfl | rfl <;> exact ⟨by decide, by decide⟩
/-- a call through an interface that lands in a default method -/
def va_Ld (C : String) (x y : MethodName) (U : State) : Prop := (Cond.declares x).before #[] U = true ∧ (Cond.interfaceMethod x.cls x.cls x.name x.desc).before #[] U = true ∧ (Cond.publicMethod y).before #[] U = true ∧ (Cond.landsInDefault C x y).before #[] U = true ∧ (Cond.castable C x.cls).before #[] U = true
theorem va_Ld.moved {C : String} {x y : MethodName} (hx : x.cls ≠ "java/lang/invoke/MethodHandle" ∧ x.cls ≠ "java/lang/invoke/VarHandle") {u U : State} (hvm : u.vm.Alike U.vm) (h : va_Ld C x y u) : va_Ld C x y U := by
  obtain ⟨h1, h2, h3, h4, h5⟩ := h
  obtain ⟨r, meth, hn, -⟩ := Cond.declares_spec h1
  have tr : ∀ {c : Cond}, c.onTables = true → c.before #[] (u.setVm U.vm) = true → c.before #[] U = true := by
    intro c hc h
    have e := Cond.onTables_vm (A := #[]) (A' := #[]) (U := u) (U' := U) U.vm c hc
    have hU : U.setVm U.vm = U := rfl
    rw [hU] at e
    rw [← e]
    exact h
  have hf : (u.setVm U.vm).methodFound? x.cls x.name x.desc = u.methodFound? x.cls x.name x.desc := State.methodFound?_setVm_of_named hvm hn hx
  have e9 : (Cond.landsInDefault C x y).before #[] U = (Cond.landsInDefault C x y).before #[] (u.setVm U.vm) := by
    simp only [Cond.before, Cond.holds, Cond.value]
    rfl
  exact ⟨tr rfl (by rw [Cond.declares_setVm hvm]; exact h1), tr rfl (by rw [Cond.interfaceMethod_setVm hvm (r := r) hn hx]; exact h2), tr rfl (by rw [Cond.publicMethod_setVm hvm]; exact h3), e9.trans ((Cond.landsInDefault_setVm hvm hf).trans h4), tr rfl (by rw [Cond.castable_setVm hvm]; exact h5)⟩
abbrev stN : MethodName := ⟨"DairyBook$Stated", "statement", "(I)Ljava/lang/String;"⟩
def E5 (Γ : GE) (U : State) : Prop :=
  (∀ q ∈ fwL, va_Fw q.1 q.2.1 q.2.2 U) ∧ (va_Ld "DairyBook$Cow" stN stN U ∧ va_Ld "DairyBook$Pickup" stN stN U) ∧ va_Mi "[Ljava/lang/Object;" (Γ.2.2 3) U ∧ va_AO "java/lang/Object" U
theorem E5.moved {Γ : GE} {u U : State} (hvm : u.vm.Alike U.vm) (h : E5 Γ u) : E5 Γ U := by
  obtain ⟨h1, ⟨h2, h3⟩, h4, h5⟩ := h
  exact ⟨fun q hq => (h1 q hq).moved (fwL_ok q hq) hvm, ⟨h2.moved ⟨by decide, by decide⟩ hvm, h3.moved ⟨by decide, by decide⟩ hvm⟩, h4.moved hvm, h5.moved hvm⟩
/-- the lambda's object at a, of the site at pc of x -/
def va_La (x : MethodName) (pc : Nat) (σ : Jvm.Lambda.Shape) (a : Nat) (A : Nat → Prop) (U : State) (H : Heap) : Prop :=
  ∃ (m : MethodId) (k : Jvm.Class) (cf : ClassFile) (i0 p0 : Nat) (cell : Cell), U.methodNamed? x = some m ∧ U.vm.classes[m.cls]? = some k ∧ k.cf = some cf ∧ (k.callSites.find? fun y => y.1 == m.idx && y.2.1 == pc) = some (i0, p0, .constant a) ∧
    Jvm.Lambda.isMade { classPath := fun _ => none } U.vm m.cls σ cell.cls = true ∧ U.lambdaCallable σ cell.cls = true ∧ H[a]? = some cell ∧ cell.vm = .none ∧ ¬ A a
theorem va_La.ride {x : MethodName} {pc : Nat} {σ : Jvm.Lambda.Shape} {a : Nat} {A A1 : Nat → Prop} {s U : State} {H : Heap} {locs : List Loc} (hS : va_S A s.heap H locs) (hF : ∀ q, A1 q → A q) (hW : s.WarmedH U.vm) (h : va_La x pc σ a A s s.heap) : va_La x pc σ a A1 U H := by
  obtain ⟨m, k, cf, i0, p0, cell, hm, hk, hcf, hfind, hmade, hcan, hcell, hvm, hA⟩ := h
  obtain ⟨k', hk', he⟩ := hW.alike.2.2 _ _ hk
  have hcan' : U.lambdaCallable σ cell.cls = true := by
    have hA := hW.alike
    simp only [State.lambdaCallable, hA.findClass, hA.assignable, hA.superclasses, hA.declaredIn] at hcan ⊢
    exact hcan
  have hm' : U.methodNamed? x = some m := by
    have := State.methodNamed?_setVm (s := s) hW.alike x
    rw [hm] at this
    exact this
  exact ⟨m, k', cf, i0, p0, cell, hm', hk', by rw [he]; exact hcf, by rw [he]; exact hfind, Jvm.Lambda.isMade_warmer hW hmade, hcan', by rw [hS.2.1 a (Array.getElem?_eq_some_iff.mp hcell).1 hA]; exact hcell, hvm, fun z => hA (hF _ z)⟩
theorem va_La.blind {x : MethodName} {pc : Nat} {σ : Jvm.Lambda.Shape} {a : Nat} {A : Nat → Prop} {U V : State} {H : Heap} (hv : V.vm = U.vm) (h : va_La x pc σ a A U H) : va_La x pc σ a A V H := by
  obtain ⟨m, k, cf, i0, p0, cell, hm, hk, hcf, hfind, hmade, hcan, hcell, hvm, hA⟩ := h
  refine ⟨m, k, cf, i0, p0, cell, by rw [State.methodNamed?_of_vm hv]; exact hm, by rw [hv]; exact hk, hcf, hfind, by rw [hv]; exact hmade, ?_, hcell, hvm, hA⟩
  simp only [State.lambdaCallable, hv] at hcan ⊢
  exact hcan
def laPart : Cond → Option (MethodName × Nat × Nat × Jvm.Lambda.Shape)
  | .lambdaSite x pc ix sh => some (x, pc, ix, sh)
  | _ => none
def laW : Nat → Cond
  | 0 => siteWord_1_1
  | 1 => siteWord_1_2
  | 2 => siteWord_1_3
  | 3 => siteWord_1_4
  | 4 => siteWord_1_5
  | _ => siteWord_1_6
def E6 (Γ : GE) (A : Nat → Prop) (U : State) (H : Heap) : Prop := ∀ (i : Nat) (x : MethodName) (pc ix : Nat) (σ : Jvm.Lambda.Shape), i < 6 → laPart (laW i) = some (x, pc, ix, σ) → va_La x pc σ (Γ.2.2 (10 + i)) A U H
/-- classes of exceptions that aren't another's -/
def ncL : List (String × String) := [("java/lang/IllegalStateException", "java/lang/IllegalArgumentException"), ("java/lang/IllegalArgumentException", "java/lang/IndexOutOfBoundsException"), ("java/lang/IllegalArgumentException", "java/lang/UnsupportedOperationException"), ("java/lang/IllegalStateException", "java/lang/IndexOutOfBoundsException"), ("java/util/NoSuchElementException", "java/lang/IllegalArgumentException"), ("java/lang/UnsupportedOperationException", "java/lang/IllegalArgumentException")]
def NC (U : State) : Prop := ∀ q ∈ ncL, va_Nc q.1 q.2 U
theorem NC.moved {u U : State} (hvm : u.vm.Alike U.vm) (h : NC u) : NC U := fun q hq => (h q hq).moved hvm
/-- what every state knows, apart from the cells in A -/
def EN (Γ : GE) (A : Nat → Prop) (U : State) : Prop :=
  ((∀ w ∈ lw_tbl, nwOk w = true → va_Nw w U) ∧ E5 Γ U ∧ E6 Γ A U U.heap ∧ NC U) ∧ EN2 Γ A U U.heap ∧ ∀ i : Nat, i < nStr → vk_R (str_own i) (str_ix i) (str_tx i) (adK Γ i) U
theorem EN.call {Γ : GE} {A A1 : Nat → Prop} {s U : State} {H : Heap} {locs : List Loc} (h : EN Γ A s) (hS : va_S A s.heap H locs) (hF : ∀ q, A1 q → A q) (hU : U.heap = H) (hW : s.WarmedH U.vm) : EN Γ A1 U := by
  obtain ⟨⟨h1, h5, h6, h7⟩, h2, h3⟩ := h
  refine ⟨⟨fun w hw hk => nw_warm hk hW (h1 w hw hk), h5.moved hW.alike, fun i x pc ix σ hi hl => ?_, h7.moved hW.alike⟩, ?_, fun i hi => vk_R.warm hW (h3 i hi)⟩
  · rw [hU]
    exact (h6 i x pc ix σ hi hl).ride hS hF hW
  rw [hU]
  exact ((h2.moved hW.alike).kept hS.2.1).narrow hF
theorem EN.blind {Γ : GE} {A : Nat → Prop} {U V : State} (hv : V.vm = U.vm) (hh : V.heap = U.heap) (h : EN Γ A U) : EN Γ A V := by
  obtain ⟨⟨h1, h5, h6, h7⟩, h2, h3⟩ := h
  refine ⟨⟨fun w hw hk => va_Nw.same (nwOk_tbl w hk) hv.symm (h1 w hw hk), h5.moved (by rw [hv]; exact Vm.Alike.refl U.vm), fun i x pc ix σ hi hl => ?_, h7.moved (by rw [hv]; exact Vm.Alike.refl U.vm)⟩, ?_, fun i hi => vk_R.same hv (h3 i hi)⟩
  · rw [hh]
    exact (h6 i x pc ix σ hi hl).blind hv
  rw [hh]
  exact h2.moved (by rw [hv]; exact Vm.Alike.refl U.vm)
/-- a constant: a byte array, or a String (its hash is not told) -/
def Kst (Γ : GE) (A : Nat → Prop) (U : State) (H : Heap) (q : Nat × va_E) : Prop :=
  (∃ (n : Nat) (f : Nat → Int32), q.2 = .inl (Γ.2.1 1, n, .inl f) ∧ va_T .byte q.1 n (fun j => .int (f j)) A U H) ∨
  (∃ (d : Nat) (k h z : Int32), q.2 = .inr (14, [.ref d, .int k, .int h, .int z]) ∧ va_O "java/lang/String" q.1 A U H ∧ va_OF "java/lang/String" "coder" "B" (.int k) q.1 A U H ∧ va_OF "java/lang/String" "value" "[B" (.ref d) q.1 A U H)
theorem Kst.moved {Γ : GE} {A : Nat → Prop} {u U : State} {H : Heap} {q : Nat × va_E} (hvm : u.vm.Alike U.vm) (h : Kst Γ A u H q) : Kst Γ A U H q := by
  rcases h with ⟨n, f, e, h⟩ | ⟨d, k, x, z, e, h1, h2, h3⟩
  · exact Or.inl ⟨n, f, e, h.moved hvm⟩
  · exact Or.inr ⟨d, k, x, z, e, h1.moved hvm, h2.moved hvm, h3.moved hvm⟩
theorem Kst.keep {Γ : GE} {A A1 : Nat → Prop} {U : State} {H0 H : Heap} {locs : List Loc} {q : Nat × va_E} (h : Kst Γ A U H0 q) (hS : va_S A H0 H locs) (hF : ∀ q, A1 q → A q) : Kst Γ A1 U H q := by
  rcases h with ⟨n, f, e, h⟩ | ⟨d, k, x, z, e, h1, h2, h3⟩
  · exact Or.inl ⟨n, f, e, (h.kept hS.2.1).narrow hF⟩
  · exact Or.inr ⟨d, k, x, z, e, (h1.kept hS.2.1).narrow hF, (h2.kept hS.2.1).narrow hF, (h3.kept hS.2.1).narrow hF⟩
/-- a cell that is only read -/
def Rc (Γ : GE) (A : Nat → Prop) (U : State) (H : Heap) (q : Nat × va_E) : Prop := (va_at Γ.1 cls q H ∧ ¬ A q.1) ∨ Kst Γ A U H q
theorem Rc.moved {Γ : GE} {A : Nat → Prop} {u U : State} {H : Heap} {q : Nat × va_E} (hvm : u.vm.Alike U.vm) (h : Rc Γ A u H q) : Rc Γ A U H q := h.imp id (fun z => z.moved hvm)
theorem Rc.keep {Γ : GE} {A A1 : Nat → Prop} {U : State} {H0 H : Heap} {locs : List Loc} {q : Nat × va_E} (h : Rc Γ A U H0 q) (hS : va_S A H0 H locs) (hF : ∀ q, A1 q → A q) : Rc Γ A1 U H q :=
  h.imp (fun h => ⟨h.1.kept (hS.2.1 q.1 h.1.lt h.2), fun z => h.2 (hF _ z)⟩) (fun h => h.keep hS hF)
theorem Rc.obj {Γ : GE} {A : Nat → Prop} {U : State} {H : Heap} {a ci : Nat} {fs : List Value} (hc : ci ≠ 14) (h : Rc Γ A U H (a, .inr (ci, fs))) : va_at Γ.1 cls (a, .inr (ci, fs)) H := by
  rcases h with h | ⟨n, f, e, -⟩ | ⟨d, k, x, z, e, -⟩
  · exact h.1
  · cases e
  · cases e
    exact absurd rfl hc
theorem Rc.apart {Γ : GE} {A : Nat → Prop} {U : State} {H : Heap} {q : Nat × va_E} (h : Rc Γ A U H q) : ¬ A q.1 := by
  rcases h with h | ⟨n, f, -, cell, h⟩ | ⟨d, k, x, z, -, ⟨cell, h⟩, -⟩
  · exact h.2
  · exact h.2.2.2.2.2.2
  · exact h.2.2.2
theorem EN.compact {Γ : GE} {A : Nat → Prop} {s : State} (h : EN Γ A s) : va_Z "java/lang/String" "COMPACT_STRINGS" "Z" (.int 1) A s s.heap := h.2.1.2.2.1.1
theorem EN.hi {Γ : GE} {A : Nat → Prop} {s : State} (h : EN Γ A s) : va_Z "java/lang/StringUTF16" "HI_BYTE_SHIFT" "I" (.int 0) A s s.heap := h.2.1.2.2.1.2.1
theorem EN.lo {Γ : GE} {A : Nat → Prop} {s : State} (h : EN Γ A s) : va_Z "java/lang/StringUTF16" "LO_BYTE_SHIFT" "I" (.int 8) A s s.heap := h.2.1.2.2.1.2.2.1
theorem EN.asrt {Γ : GE} {A : Nat → Prop} {s : State} (h : EN Γ A s) : va_Z "java/lang/StringUTF16" "$assertionsDisabled" "Z" (.int 1) A s s.heap := h.2.1.2.2.1.2.2.2
theorem EN.deft {Γ : GE} {A : Nat → Prop} {s : State} (h : EN Γ A s) : va_Z "java/util/ArrayList" "DEFAULTCAPACITY_EMPTY_ELEMENTDATA" "[Ljava/lang/Object;" (.ref (Γ.2.2 0)) A s s.heap := h.2.1.1.1
theorem EN.ones {Γ : GE} {A : Nat → Prop} {s : State} (h : EN Γ A s) : va_Z "java/lang/Integer" "DigitOnes" "[B" (.ref (Γ.2.2 1)) A s s.heap := h.2.1.2.2.2.2.1.1.1
theorem EN.tens {Γ : GE} {A : Nat → Prop} {s : State} (h : EN Γ A s) : va_Z "java/lang/Integer" "DigitTens" "[B" (.ref (Γ.2.2 2)) A s s.heap := h.2.1.2.2.2.2.1.2.1
theorem EN.onesR {Γ : GE} {A : Nat → Prop} {s : State} (h : EN Γ A s) : Rc Γ A s s.heap (Γ.2.2 1, .inl (Γ.2.1 1, 100, .inl (fun j => nI (48 + j % 10)))) := Or.inr (Or.inl ⟨_, _, rfl, h.2.1.2.2.2.2.1.1.2⟩)
theorem EN.tensR {Γ : GE} {A : Nat → Prop} {s : State} (h : EN Γ A s) : Rc Γ A s s.heap (Γ.2.2 2, .inl (Γ.2.1 1, 100, .inl (fun j => nI (48 + j / 10)))) := Or.inr (Or.inl ⟨_, _, rfl, h.2.1.2.2.2.2.1.2.2⟩)
theorem EN.fmt {Γ : GE} {A : Nat → Prop} {s : State} (h : EN Γ A s) : va_Zq "jdk/internal/util/Preconditions" "SIOOBE_FORMATTER" "Ljava/util/function/BiFunction;" A s s.heap := h.2.1.2.2.2.2.2
/-- the string constant i as cells -/
abbrev strO (Γ : GE) (i : Nat) : Nat × va_E := (adK Γ i, .inr (14, [.ref (adV Γ i), .int 0, .int 0, .int 0]))
abbrev strV (Γ : GE) (i : Nat) : Nat × va_E := (adV Γ i, .inl (Γ.2.1 1, (str_by i).length, .inl (fun j => (str_by i).getD j 0)))
theorem EN.str {Γ : GE} {A A1 : Nat → Prop} {s : State} {H : Heap} {locs : List Loc} (h : EN Γ A s) (hS : va_S A s.heap H locs) (hF : ∀ q, A1 q → A q) (i : Nat) (hi : i < nStr) : ∀ q ∈ ([[strO Γ i], [strV Γ i]] : BW).flatten, Rc Γ A1 s H q := by
  obtain ⟨h1, h2, h3, h4⟩ := h.2.1.2.2.2.1 i hi
  intro q hq
  simp only [List.flatten_cons, List.flatten_nil, List.append_nil, List.cons_append, List.nil_append, List.mem_cons, List.not_mem_nil, or_false] at hq
  rcases hq with rfl | rfl
  · exact Or.inr (Kst.keep (Or.inr ⟨_, _, _, _, rfl, h1, h2, h3⟩) hS hF)
  · exact Or.inr (Kst.keep (Or.inl ⟨_, _, rfl, h4⟩) hS hF)
def Cpre (Γ : GE) (bs ro : BW) (sz : Nat) (U : State) : Prop :=
  U.heap.size = sz ∧ va_P Γ.1 cls bs.flatten U.heap ∧ va_K Γ.1 cls (tysG Γ) U ∧ va_D (fun _ => True) bs.flatten ∧ EN Γ (va_A bs.flatten sz) U ∧ ∀ q ∈ ro.flatten, Rc Γ (va_A bs.flatten sz) U U.heap q
theorem cblind {Γ : GE} {bs ro : BW} {sz : Nat} {av : List Value} : FrameBlind (va_Pc av (Cpre Γ bs ro sz)) := by
  rintro a U g mk ⟨q0, q1, q2, q3, q4, q5, q6⟩
  exact ⟨q0, q1, q2, va_K.moved (u := U) (U := U.calling g mk a) (Vm.Alike.refl U.vm) q3, q4, EN.blind (U := U) (V := U.calling g mk a) rfl rfl q5, fun q hq => (q6 q hq).moved (U := U.calling g mk a) (Vm.Alike.refl U.vm)⟩
abbrev BB (Γ : GE) (A : Nat → Prop) (u : BW) (t : State) : Prop := va_P Γ.1 cls u.flatten t.heap ∧ va_D A u.flatten
abbrev KM (l : Launch) (y : MethodName) (cc : ByteArray) (L : Nat) (ret : Option FieldType) (Γ : GE) (fr lo mc ms : Nat) (av : List Value) (bs ro : BW) (sz : Nat) (Qc : (Nat → Prop) → Array Value → State → Outcome → State → Prop) : Prop :=
  Met l y (ws_ y cc L ret) { frames := fr, cells := mc, slots := ms, locals := lo } (va_Pc av (Cpre Γ bs ro sz)) (Qc (va_A bs.flatten sz)) mc ms (va_A bs.flatten sz)
abbrev Qi (Γ : GE) (post : Int32 → BW → Prop) (A : Nat → Prop) : Array Value → State → Outcome → State → Prop := va_Qi post (BB Γ A) A
abbrev Ql (Γ : GE) (post : Int64 → BW → Prop) (A : Nat → Prop) : Array Value → State → Outcome → State → Prop := va_Ql post (BB Γ A) A
abbrev Qd (Γ : GE) (post : UInt64 → BW → Prop) (A : Nat → Prop) : Array Value → State → Outcome → State → Prop := va_Qd post (BB Γ A) A
abbrev Qv (Γ : GE) (post : BW → Prop) (A : Nat → Prop) : Array Value → State → Outcome → State → Prop := va_Qv post (BB Γ A) A
abbrev Qq (Γ : GE) (post : Option Nat → BW → Prop) (A : Nat → Prop) : Array Value → State → Outcome → State → Prop := va_Qq post (BB Γ A) A
theorem K_intro {l : Launch} {y : MethodName} {cc : ByteArray} {L : Nat} {ret : Option FieldType} {Γ : GE} {fr lo mc ms : Nat} {av : List Value} {bs ro : BW} {sz : Nat} {Qc : (Nat → Prop) → Array Value → State → Outcome → State → Prop} (hy : plainName y.cls = true) (hLn : (lg_sl av).length ≤ L)
    (body : ∀ (p : Program) (e : Env) (s : State) (m : MethodId) (below : List Frame) (meth : Method) (c : Code) (A : Nat → Prop) (ls : Array Slot), p.tables.exec = Jvm.exec → c.code = cc → meth.sig.returnType = ret → c.maxLocals = L → s.vm.findClass y.cls = some m.cls → (∀ w ∈ lw_all, w.before av.toArray s = true) → meth.locks = false → meth.name = y.name →
      va_K Γ.1 cls (tysG Γ) s → EN Γ A s → (∀ q ∈ ro.flatten, Rc Γ A s s.heap q) → va_P Γ.1 cls bs.flatten s.heap → va_D A bs.flatten → (∀ q : Nat, s.heap.size ≤ q → A q) → va_S A s.heap s.heap [] → s.heap.size = sz → lv_has ls L (lv_args 0 av) →
      W p l e { frames := fr, cells := mc, slots := ms, locals := lo } s m av.toArray below meth c s.heap [] 0 0 (MQ below (Qc A) av.toArray s mc ms A) (F0 m 0 ls [])) : KM l y cc L ret Γ fr lo mc ms av bs ro sz Qc := by
  refine Met.ofW (cc := cc) (maxL := L) (ret := ret) hy rfl ?_
  intro p e s m args below meth c s₁ B hml hv
  obtain ⟨rfl, hsz, hP, hK, hD, hE, hR⟩ := hv
  have hts := atoms_spec (ws := ws_ y cc L ret) B.pre
  have hts : ∀ w ∈ lw_all, w.before _ s = true := fun w h => hts w (List.mem_cons_of_mem _ h)
  have hl := lv_entry av (n := L) hLn
  rw [lg_entry_eq]
  exact body p e s m below meth c _ _ B.exec B.bytes B.returns hml (findClass_of_methodNamed B.named) hts B.notSynchronized (name_of_methodNamed B.named B.method).1 hK hE hR hP hD.self (fun q h => Or.inr (by rw [← hsz]; exact h)) va_S.rf hsz hl
section BEND
variable {p : Program} {l : Launch} {e : Env} {R : Room} {s : State} {m : MethodId} {args : Array Value} {below : List Frame} {meth : Method} {c : Code} {H : Heap} {locs : List Loc} {cells slots mc ms : Nat} {cc : ByteArray} {pc : Nat} {ls : Array Slot} {Γ : GE} {A : Nat → Prop} {bs : BW}
theorem b_iret {post : Int32 → BW → Prop} {v : Int32} (hx : p.tables.exec = Jvm.exec) (hb : c.code = cc) (hr : meth.sig.returnType = some .int) (hlocks : meth.locks = false) (hP : va_P Γ.1 cls bs.flatten H) (hD : va_D A bs.flatten) (hS : va_S A s.heap H locs) (hc : cells ≤ mc) (hs : slots ≤ ms) (hp : post v bs) (d : decode cc pc = .ok (.ireturn, 1)) :
    W p l e R s m args below meth c H locs cells slots (MQ below (Qi Γ post A) args s mc ms A) (F0 m pc ls [.int v]) :=
  W.widen hc hs (W.iret hx hb hr (fun t ht _ => ⟨⟨v, bs, rfl, hp, by rw [ht]; exact hP, hD⟩, hS.F ht⟩) hS.2.2 d hlocks)
theorem b_zret {post : Int32 → BW → Prop} {v : Int32} {ty : FieldType} (hx : p.tables.exec = Jvm.exec) (hb : c.code = cc) (hr : meth.sig.returnType = some ty) (hlocks : meth.locks = false) (hP : va_P Γ.1 cls bs.flatten H) (hD : va_D A bs.flatten) (hS : va_S A s.heap H locs) (hc : cells ≤ mc) (hs : slots ≤ ms) (hn : narrow ty (.int v) = .int v) (hp : post v bs) (d : decode cc pc = .ok (.ireturn, 1)) :
    W p l e R s m args below meth c H locs cells slots (MQ below (Qi Γ post A) args s mc ms A) (F0 m pc ls [.int v]) :=
  W.widen hc hs (W.zret hx hb hr hn (fun t ht _ => ⟨⟨v, bs, rfl, hp, by rw [ht]; exact hP, hD⟩, hS.F ht⟩) hS.2.2 d hlocks)
theorem b_vret {post : BW → Prop} (hx : p.tables.exec = Jvm.exec) (hb : c.code = cc) (hr : meth.sig.returnType = none) (hlocks : meth.locks = false) (hP : va_P Γ.1 cls bs.flatten H) (hD : va_D A bs.flatten) (hS : va_S A s.heap H locs) (hc : cells ≤ mc) (hs : slots ≤ ms) (hp : post bs) (d : decode cc pc = .ok (.return_, 1)) :
    W p l e R s m args below meth c H locs cells slots (MQ below (Qv Γ post A) args s mc ms A) (F0 m pc ls []) :=
  W.widen hc hs (W.vret hx hb hr (fun t ht _ => ⟨⟨bs, rfl, hp, by rw [ht]; exact hP, hD⟩, hS.F ht⟩) hS.2.2 d hlocks)
theorem b_dret {post : UInt64 → BW → Prop} {v : UInt64} (hx : p.tables.exec = Jvm.exec) (hb : c.code = cc) (hr : meth.sig.returnType = some .double) (hlocks : meth.locks = false) (hP : va_P Γ.1 cls bs.flatten H) (hD : va_D A bs.flatten) (hS : va_S A s.heap H locs) (hc : cells ≤ mc) (hs : slots ≤ ms) (hp : post v bs) (d : decode cc pc = .ok (.dreturn, 1)) :
    W p l e R s m args below meth c H locs cells slots (MQ below (Qd Γ post A) args s mc ms A) (F0 m pc ls [.double v]) :=
  W.widen hc hs (W.dret hx hb hr (fun t ht _ => ⟨⟨v, bs, rfl, hp, by rw [ht]; exact hP, hD⟩, hS.F ht⟩) hS.2.2 d hlocks)
theorem b_aret {post : Option Nat → BW → Prop} {v : Nat} {ty : FieldType} (hx : p.tables.exec = Jvm.exec) (hb : c.code = cc) (hr : meth.sig.returnType = some ty) (hty : (∃ n, ty = .object n) ∨ ∃ t, ty = .array t) (hlocks : meth.locks = false) (hP : va_P Γ.1 cls bs.flatten H) (hD : va_D A bs.flatten) (hS : va_S A s.heap H locs) (hc : cells ≤ mc) (hs : slots ≤ ms) (hp : post (some v) bs) (d : decode cc pc = .ok (.areturn, 1)) :
    W p l e R s m args below meth c H locs cells slots (MQ below (Qq Γ post A) args s mc ms A) (F0 m pc ls [.ref v]) :=
  W.widen hc hs (W.aret hx hb hr hty (Or.inr ⟨v, rfl⟩) (fun t ht _ => ⟨⟨some v, bs, rfl, hp, by rw [ht]; exact hP, hD⟩, hS.F ht⟩) hS.2.2 d hlocks)
theorem b_aretN {post : Option Nat → BW → Prop} {ty : FieldType} (hx : p.tables.exec = Jvm.exec) (hb : c.code = cc) (hr : meth.sig.returnType = some ty) (hty : (∃ n, ty = .object n) ∨ ∃ t, ty = .array t) (hlocks : meth.locks = false) (hP : va_P Γ.1 cls bs.flatten H) (hD : va_D A bs.flatten) (hS : va_S A s.heap H locs) (hc : cells ≤ mc) (hs : slots ≤ ms) (hp : post none bs) (d : decode cc pc = .ok (.areturn, 1)) :
    W p l e R s m args below meth c H locs cells slots (MQ below (Qq Γ post A) args s mc ms A) (F0 m pc ls [.null]) :=
  W.widen hc hs (W.aret hx hb hr hty (Or.inl rfl) (fun t ht _ => ⟨⟨none, bs, rfl, hp, by rw [ht]; exact hP, hD⟩, hS.F ht⟩) hS.2.2 d hlocks)
end BEND
section BCALL
variable {p : Program} {l : Launch} {e : Env} {R : Room} {s : State} {m : MethodId} {args : Array Value} {below : List Frame} {meth : Method} {c : Code} {H : Heap} {locs : List Loc} {cells slots mc ms : Nat} {Q : State → Prop} {cc : ByteArray} {pc : Nat} {ls : Array Slot} {Γ : GE} {A : Nat → Prop} {bs bc br ro : BW} {st0 rest : List Value} {a : Array Value}
/-- the callee's start out of the caller's world -/
theorem c_pre (hP : va_P Γ.1 cls bs.flatten H) (hD : va_D A bs.flatten) (hS : va_S A s.heap H locs) (hA : ∀ q, s.heap.size ≤ q → A q) (hK : va_K Γ.1 cls (tysG Γ) s) (hE : EN Γ A s) (isC : List Nat) (hn : va_nd isC = true) (hC : isC.map (fun i => bs[i]?) = bc.map some) (hro : ∀ q ∈ ro.flatten, Rc Γ (va_A bc.flatten H.size) s H q) :
    ∀ U : State, U.heap = H → s.WarmedH U.vm → Cpre Γ bc ro H.size U := by
  intro U hU hW
  refine ⟨by rw [hU], by rw [hU]; exact bP_sel hP isC hC, va_K.moved hW.alike hK, (bD_sel hD isC hn hC).weaken (fun _ _ _ _ => trivial), hE.call hS (bFree hD hS hA isC hC) hU hW, by rw [hU]; exact fun q hq => (hro q hq).moved hW.alike⟩
theorem ro_nil : ∀ q ∈ ([] : BW).flatten, Rc Γ A s H q := fun q h => by simp at h
/-- read-only cells for a callee: mine, and the blocks that I keep -/
theorem ro_pass {ro0 : BW} (hRo : ∀ q ∈ ro0.flatten, Rc Γ A s s.heap q) (hD : va_D A bs.flatten) (hS : va_S A s.heap H locs) (hA : ∀ q, s.heap.size ≤ q → A q) (isC : List Nat) (hC : isC.map (fun i => bs[i]?) = bc.map some) : ∀ q ∈ ro0.flatten, Rc Γ (va_A bc.flatten H.size) s H q := fun q h => (hRo q h).keep hS (bFree hD hS hA isC hC)
theorem ro_own (hP : va_P Γ.1 cls bs.flatten H) (hD : va_D A bs.flatten) (isC isR : List Nat) (hC : isC.map (fun i => bs[i]?) = bc.map some) (hR : isR.map (fun i => bs[i]?) = br.map some) (hn : va_nd (isR ++ isC) = true) : ∀ q ∈ br.flatten, Rc Γ (va_A bc.flatten H.size) s H q := by
  intro q hq
  have hall : (isR ++ isC).map (fun i => bs[i]?) = (br ++ bc).map some := by rw [List.map_append, List.map_append, hR, hC]
  have hPa := bP_sel hP _ hall
  have hDa := bD_sel hD _ hn hall
  rw [List.flatten_append] at hPa hDa
  rw [bP_iff] at hPa
  rw [bD_iff, List.pairwise_append] at hDa
  obtain ⟨⟨-, -, d3⟩, -⟩ := hDa
  have h1 := hPa q (List.mem_append_left _ hq)
  refine Or.inl ⟨h1, fun h => ?_⟩
  rcases bA_iff.mp h with ⟨e, he⟩ | h
  · exact d3 q hq (q.1, e) he rfl
  · have := h1.lt
    omega
theorem ro_app {r1 r2 : BW} (h1 : ∀ q ∈ r1.flatten, Rc Γ A s H q) (h2 : ∀ q ∈ r2.flatten, Rc Γ A s H q) : ∀ q ∈ (r1 ++ r2).flatten, Rc Γ A s H q := by
  intro q hq
  rw [List.flatten_append] at hq
  rcases List.mem_append.mp hq with h | h
  · exact h1 q h
  · exact h2 q h
theorem recv_at {b ci : Nat} {fs : List Value} {q : vw_C} (hK : va_K Γ.1 cls (tysG Γ) s) (h : va_at Γ.1 cls (b, .inr (ci, fs)) H) (hc : cls[ci]? = some q) : ∃ cell : Cell, H[b]? = some cell ∧ cell.vm.isStatics = false ∧ s.vm.findClass q.1 = some cell.cls :=
  va_recv (ws := [(b, .inr (ci, fs))]) (q0 := 0) hK (fun k x hx => by
    have hk : k < 1 := (List.getElem?_eq_some_iff.mp hx).1
    rw [show k = 0 by omega] at hx
    cases hx
    exact h) hc rfl
theorem recv_ro {b : Nat} {fs : List Value} (hK : va_K Γ.1 cls (tysG Γ) s) (h : Rc Γ A s H (b, .inr (14, fs))) : ∃ cell : Cell, H[b]? = some cell ∧ cell.vm.isStatics = false ∧ s.vm.findClass RJ6 = some cell.cls := by
  rcases h with h | ⟨n, f, e, -⟩ | ⟨d, k, x, z, e, ⟨cell, h1, h2, h3, -⟩, -⟩
  · exact recv_at hK h.1 rfl
  · cases e
  · exact ⟨cell, h1, h2, h3⟩
theorem b_runV {own : String} {y : MethodName} {bytes : ByteArray} {L nL idx : Nat} {ret : Option FieldType} {rm : Room} {b : Addr} {As : List Value} {Qc : Array Value → State → Outcome → State → Prop} {free : Addr → Prop} {sz : Nat} (S : CallFix p m c cc nL s args lw_all own) (hM : Met l y (ws_ y bytes L ret) rm (va_Pc (.ref b :: As) (Cpre Γ bc ro sz)) Qc mc ms free) (hT : GoodIn lw_all (wsV own idx y.cls y (ws_ y bytes L ret))) (hrc : rm.cells = mc) (hrs : rm.slots = ms) (n : Nat) (hd : y.cls ≠ "java/lang/invoke/MethodHandle" ∧ y.cls ≠ "java/lang/invoke/VarHandle" ∧ (parseMethodDescriptor y.desc).map (fun d => d.parameters.length) = some n) (hR : rm.frames + 1 ≤ R.frames ∧ 8 + (L + 11) + rm.locals ≤ R.locals)
    (hpre : ∀ U : State, U.heap = H → s.WarmedH U.vm → Cpre Γ bc ro sz U) (hrec : ∃ cell : Cell, H[b]? = some cell ∧ cell.vm.isStatics = false ∧ s.vm.findClass y.cls = some cell.cls) (hn : As.length = n) (hsize : ls.size = nL) (hstack : st0 = As.reverse ++ .ref b :: rest) (hW : (rest.map fun v => v.category).sum ≤ 8) (hdg : decode cc pc = .ok (.invokevirtual idx, 3)) (hf : cells + mc ≤ R.cells ∧ slots + ms ≤ R.slots) :
    va_Run p l e R s m args below meth c H locs cells slots mc ms (F0 m pc ls st0) rest (Qc (Value.ref b :: As).toArray) free :=
  va_runV S hM (cwV n S.2.2.2.2 hT rfl hrc hrs ⟨rfl, hd⟩ hR) ⟨cblind, hrec, fun U hU hW => ⟨rfl, hpre U hU hW⟩⟩ rfl hn hsize hstack (lv_room hW) hdg hf
theorem b_runS {own : String} {y : MethodName} {bytes : ByteArray} {L nL idx : Nat} {ret : Option FieldType} {rm : Room} {As : List Value} {Qc : Array Value → State → Outcome → State → Prop} {free : Addr → Prop} {sz : Nat} (S : CallFix p m c cc nL s args lw_all own) (hM : Met l y (ws_ y bytes L ret) rm (va_Pc As (Cpre Γ bc ro sz)) Qc mc ms free) (hT : GoodIn lw_all (va_wsS own idx y (ws_ y bytes L ret))) (hrc : rm.cells = mc) (hrs : rm.slots = ms) (n : Nat) (hd : y.cls ≠ "java/lang/invoke/MethodHandle" ∧ y.cls ≠ "java/lang/invoke/VarHandle" ∧ (parseMethodDescriptor y.desc).map (fun d => d.parameters.length) = some n) (hR : rm.frames + 1 ≤ R.frames ∧ 8 + (L + 11) + rm.locals ≤ R.locals)
    (hpre : ∀ U : State, U.heap = H → s.WarmedH U.vm → Cpre Γ bc ro sz U) (hn : As.length = n) (hsize : ls.size = nL) (hstack : st0 = As.reverse ++ rest) (hW : (rest.map fun v => v.category).sum ≤ 8) (hdg : decode cc pc = .ok (.invokestatic idx, 3)) (hf : cells + mc ≤ R.cells ∧ slots + ms ≤ R.slots) :
    va_Run p l e R s m args below meth c H locs cells slots mc ms (F0 m pc ls st0) rest (Qc As.toArray) free :=
  va_runS S hM (va_cwS n S.2.2.2.2 hT rfl hrc hrs hd hR) ⟨cblind, fun U hU hW => ⟨rfl, hpre U hU hW⟩⟩ rfl hn hsize hstack (lv_room hW) hdg hf
theorem b_runI {own : String} {y : MethodName} {bytes : ByteArray} {L nL idx : Nat} {rm : Room} {b : Addr} {As : List Value} {Qc : Array Value → State → Outcome → State → Prop} {free : Addr → Prop} {sz : Nat} (S : CallFix p m c cc nL s args lw_all own) (hM : Met l y (ws_ y bytes L none) rm (va_Pc (.ref b :: As) (Cpre Γ bc ro sz)) Qc mc ms free) (hw : GoodIn lw_all (ws_ y bytes L none)) (h1 : Cond.initialized y.cls ∈ lw_all) (h2 : Cond.methodLink own idx y ∈ lw_all) (h3 : Cond.instanceMethod y ∈ lw_all) (hyn : y.name = "<init>") (hrc : rm.cells = mc) (hrs : rm.slots = ms) (n : Nat) (hd : y.cls ≠ "java/lang/invoke/MethodHandle" ∧ y.cls ≠ "java/lang/invoke/VarHandle" ∧ (parseMethodDescriptor y.desc).map (fun d => d.parameters.length) = some n) (hR : rm.frames + 1 ≤ R.frames ∧ 8 + (L + 11) + rm.locals ≤ R.locals)
    (hpre : ∀ U : State, U.heap = H → s.WarmedH U.vm → Cpre Γ bc ro sz U) (hn : As.length = n) (hsize : ls.size = nL) (hstack : st0 = As.reverse ++ .ref b :: rest) (hW : (rest.map fun v => v.category).sum ≤ 8) (hdg : decode cc pc = .ok (.invokespecial idx, 3)) (hf : cells + mc ≤ R.cells ∧ slots + ms ≤ R.slots) :
    va_Run p l e R s m args below meth c H locs cells slots mc ms (F0 m pc ls st0) rest (Qc (Value.ref b :: As).toArray) free :=
  va_runI S hM (cwI n S.2.2.2.2 hw rfl hrc hrs (S.2.2.2.2 _ h1) (S.2.2.2.2 _ h2) (S.2.2.2.2 _ h3) hyn hd hR) ⟨cblind, fun U hU hW => ⟨rfl, hpre U hU hW⟩⟩ rfl hn hsize hstack (lv_room hW) hdg hf
theorem b_calli {post : Int32 → BW → Prop} (hr : va_Run p l e R s m args below meth c H locs cells slots mc ms (F0 m pc ls st0) rest (Qi Γ post (va_A bc.flatten H.size) a) (va_A bc.flatten H.size)) (hP : va_P Γ.1 cls bs.flatten H) (hD : va_D A bs.flatten) (hS : va_S A s.heap H locs) (hA : ∀ q, s.heap.size ≤ q → A q) (isC isR : List Nat) (hC : isC.map (fun i => bs[i]?) = bc.map some) (hR : isR.map (fun i => bs[i]?) = br.map some) (hn : va_nd (isR ++ isC) = true)
    (kk : ∀ (r : Int32) (u : BW) (H1 : Heap) (locs1 : List Loc), post r u → va_P Γ.1 cls (u ++ br).flatten H1 → va_D A (u ++ br).flatten → va_S A s.heap H1 locs1 → H.size ≤ H1.size → W p l e R s m args below meth c H1 locs1 (cells + mc) (slots + ms) Q (F0 m (pc + 3) ls (.int r :: rest))) : W p l e R s m args below meth c H locs cells slots Q (F0 m pc ls st0) := by
  have hF := bFree (bc := bc) hD hS hA isC hC
  refine va_calli hr hS (fun q _ h => hF q h) hF (fun r u t H1 locs1 ht _ hp hB hz hk hS1 => ?_)
  rw [BB, ht] at hB
  obtain ⟨h1, h2⟩ := bJoin hP hD isC isR hC hR hn hk hF hB.1 hB.2
  exact kk r u H1 locs1 hp h1 h2 hS1 hz
theorem b_calll {post : Int64 → BW → Prop} (hr : va_Run p l e R s m args below meth c H locs cells slots mc ms (F0 m pc ls st0) rest (Ql Γ post (va_A bc.flatten H.size) a) (va_A bc.flatten H.size)) (hP : va_P Γ.1 cls bs.flatten H) (hD : va_D A bs.flatten) (hS : va_S A s.heap H locs) (hA : ∀ q, s.heap.size ≤ q → A q) (isC isR : List Nat) (hC : isC.map (fun i => bs[i]?) = bc.map some) (hR : isR.map (fun i => bs[i]?) = br.map some) (hn : va_nd (isR ++ isC) = true)
    (kk : ∀ (r : Int64) (u : BW) (H1 : Heap) (locs1 : List Loc), post r u → va_P Γ.1 cls (u ++ br).flatten H1 → va_D A (u ++ br).flatten → va_S A s.heap H1 locs1 → H.size ≤ H1.size → W p l e R s m args below meth c H1 locs1 (cells + mc) (slots + ms) Q (F0 m (pc + 3) ls (.long r :: rest))) : W p l e R s m args below meth c H locs cells slots Q (F0 m pc ls st0) := by
  have hF := bFree (bc := bc) hD hS hA isC hC
  refine va_calll hr hS (fun q _ h => hF q h) hF (fun r u t H1 locs1 ht _ hp hB hz hk hS1 => ?_)
  rw [BB, ht] at hB
  obtain ⟨h1, h2⟩ := bJoin hP hD isC isR hC hR hn hk hF hB.1 hB.2
  exact kk r u H1 locs1 hp h1 h2 hS1 hz
theorem b_calld {post : UInt64 → BW → Prop} (hr : va_Run p l e R s m args below meth c H locs cells slots mc ms (F0 m pc ls st0) rest (Qd Γ post (va_A bc.flatten H.size) a) (va_A bc.flatten H.size)) (hP : va_P Γ.1 cls bs.flatten H) (hD : va_D A bs.flatten) (hS : va_S A s.heap H locs) (hA : ∀ q, s.heap.size ≤ q → A q) (isC isR : List Nat) (hC : isC.map (fun i => bs[i]?) = bc.map some) (hR : isR.map (fun i => bs[i]?) = br.map some) (hn : va_nd (isR ++ isC) = true)
    (kk : ∀ (r : UInt64) (u : BW) (H1 : Heap) (locs1 : List Loc), post r u → va_P Γ.1 cls (u ++ br).flatten H1 → va_D A (u ++ br).flatten → va_S A s.heap H1 locs1 → H.size ≤ H1.size → W p l e R s m args below meth c H1 locs1 (cells + mc) (slots + ms) Q (F0 m (pc + 3) ls (.double r :: rest))) : W p l e R s m args below meth c H locs cells slots Q (F0 m pc ls st0) := by
  have hF := bFree (bc := bc) hD hS hA isC hC
  refine va_calld hr hS (fun q _ h => hF q h) hF (fun r u t H1 locs1 ht _ hp hB hz hk hS1 => ?_)
  rw [BB, ht] at hB
  obtain ⟨h1, h2⟩ := bJoin hP hD isC isR hC hR hn hk hF hB.1 hB.2
  exact kk r u H1 locs1 hp h1 h2 hS1 hz
theorem b_callv {post : BW → Prop} (hr : va_Run p l e R s m args below meth c H locs cells slots mc ms (F0 m pc ls st0) rest (Qv Γ post (va_A bc.flatten H.size) a) (va_A bc.flatten H.size)) (hP : va_P Γ.1 cls bs.flatten H) (hD : va_D A bs.flatten) (hS : va_S A s.heap H locs) (hA : ∀ q, s.heap.size ≤ q → A q) (isC isR : List Nat) (hC : isC.map (fun i => bs[i]?) = bc.map some) (hR : isR.map (fun i => bs[i]?) = br.map some) (hn : va_nd (isR ++ isC) = true)
    (kk : ∀ (u : BW) (H1 : Heap) (locs1 : List Loc), post u → va_P Γ.1 cls (u ++ br).flatten H1 → va_D A (u ++ br).flatten → va_S A s.heap H1 locs1 → H.size ≤ H1.size → W p l e R s m args below meth c H1 locs1 (cells + mc) (slots + ms) Q (F0 m (pc + 3) ls rest)) : W p l e R s m args below meth c H locs cells slots Q (F0 m pc ls st0) := by
  have hF := bFree (bc := bc) hD hS hA isC hC
  refine va_callv hr hS (fun q _ h => hF q h) hF (fun u t H1 locs1 ht _ hp hB hz hk hS1 => ?_)
  rw [BB, ht] at hB
  obtain ⟨h1, h2⟩ := bJoin hP hD isC isR hC hR hn hk hF hB.1 hB.2
  exact kk u H1 locs1 hp h1 h2 hS1 hz
theorem b_callq {post : Option Nat → BW → Prop} (hr : va_Run p l e R s m args below meth c H locs cells slots mc ms (F0 m pc ls st0) rest (Qq Γ post (va_A bc.flatten H.size) a) (va_A bc.flatten H.size)) (hP : va_P Γ.1 cls bs.flatten H) (hD : va_D A bs.flatten) (hS : va_S A s.heap H locs) (hA : ∀ q, s.heap.size ≤ q → A q) (isC isR : List Nat) (hC : isC.map (fun i => bs[i]?) = bc.map some) (hR : isR.map (fun i => bs[i]?) = br.map some) (hn : va_nd (isR ++ isC) = true)
    (kk : ∀ (r : Option Nat) (u : BW) (H1 : Heap) (locs1 : List Loc), post r u → va_P Γ.1 cls (u ++ br).flatten H1 → va_D A (u ++ br).flatten → va_S A s.heap H1 locs1 → H.size ≤ H1.size → W p l e R s m args below meth c H1 locs1 (cells + mc) (slots + ms) Q (F0 m (pc + 3) ls (va_rf r :: rest))) : W p l e R s m args below meth c H locs cells slots Q (F0 m pc ls st0) := by
  have hF := bFree (bc := bc) hD hS hA isC hC
  refine va_callq hr hS (fun q _ h => hF q h) hF (fun r u t H1 locs1 ht _ hp hB hz hk hS1 => ?_)
  rw [BB, ht] at hB
  obtain ⟨h1, h2⟩ := bJoin hP hD isC isR hC hR hn hk hF hB.1 hB.2
  exact kk r u H1 locs1 hp h1 h2 hS1 hz
end BCALL
