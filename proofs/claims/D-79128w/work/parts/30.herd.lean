/-! COMPONENT: the herd. ha addresses (0 herd, 1 2 3 lists of cows, rows, pickups, 4 tank, 5 settings); hv numbers (0 today, 1 picked up, 2 paid, 3 litres, 4 cells of the tank, 5 6 7 the lists' counters of changes); se settings; hl the lists' arrays; hc the elements' addresses; hn how many; hx what they hold -/
def inC (v lo hi : Int32) : Int32 := if v < lo then 0 else if hi < v then 0 else 1
theorem inC_nat {v : Int32} {n : Nat} (hn : n < 2 ^ 31) (h : ¬ inC v 0 (nI n - 1) = 0) : ∃ k : Nat, k < n ∧ v = nI k := by
  unfold inC at h
  split at h
  · exact absurd rfl h
  · rename_i h1
    split at h
    · exact absurd rfl h
    · rename_i h2
      obtain ⟨k, hk, rfl⟩ := nI_of h1
      refine ⟨k, ?_, rfl⟩
      cases n with
      | zero => exact absurd (by rw [Int32.lt_iff_toInt_lt, nI_toInt hk]; exact Int.lt_of_lt_of_le (by decide) (Int.natCast_nonneg k)) h2
      | succ n =>
        rw [nI_pred] at h2
        have := (nI_ltI (a := n) (b := k) (by omega) (by omega))
        have h3 : ¬ n < k := fun z => h2 (this.mpr z)
        omega
theorem inC_nar {v lo hi : Int32} : narrow .boolean (.int (inC v lo hi)) = .int (inC v lo hi) := by
  unfold inC
  split
  · rfl
  · split <;> rfl
def cowsB (n : Nat) (ca : Nat → Nat) (cv : Nat → Nat → Int32) : va_W := (List.range n).map fun k => (ca k, cowE (cv k))
def cowsX (n k : Nat) (ca : Nat → Nat) (cv : Nat → Nat → Int32) : va_W := ((List.range n).filter fun j => decide (j ≠ k)).map fun j => (ca j, cowE (cv j))
section BNEST
variable {p : Program} {l : Launch} {e : Env} {R : Room} {s : State} {m : MethodId} {args : Array Value} {below : List Frame} {meth : Method} {c : Code} {H : Heap} {locs : List Loc} {cells slots mc ms : Nat} {cc : ByteArray} {pc : Nat} {ls : Array Slot} {Γ : GE} {bc ro : BW} {st0 rest : List Value}
theorem b_runSN {own host : String} {y : MethodName} {bytes : ByteArray} {L nL idx : Nat} {ret : Option FieldType} {rm : Room} {As : List Value} {Qc : Array Value → State → Outcome → State → Prop} {free : Addr → Prop} {sz : Nat} (S : CallFix p m c cc nL s args lw_all own) (hM : Met l y (ws_ y bytes L ret) rm (va_Pc As (Cpre Γ bc ro sz)) Qc mc ms free)
    (hl : va_Nw (.methodLinkNest own idx y host) s) (h1 : Cond.static y ∈ lw_all) (h2 : Cond.initialized y.cls ∈ lw_all) (h3 : Cond.code y bytes L ret ∈ lw_all) (hrc : rm.cells = mc) (hrs : rm.slots = ms) (n : Nat) (hd : y.cls ≠ "java/lang/invoke/MethodHandle" ∧ y.cls ≠ "java/lang/invoke/VarHandle" ∧ (parseMethodDescriptor y.desc).map (fun d => d.parameters.length) = some n) (hR : rm.frames + 1 ≤ R.frames ∧ 8 + (L + 11) + rm.locals ≤ R.locals)
    (hpre : ∀ U : State, U.heap = H → s.WarmedH U.vm → Cpre Γ bc ro sz U) (hn : As.length = n) (hsize : ls.size = nL) (hstack : st0 = As.reverse ++ rest) (hW : (rest.map fun v => v.category).sum ≤ 8) (hdg : decode cc pc = .ok (.invokestatic idx, 3)) (hf : cells + mc ≤ R.cells ∧ slots + ms ≤ R.slots) :
    va_Run p l e R s m args below meth c H locs cells slots mc ms (F0 m pc ls st0) rest (Qc As.toArray) free :=
  va_runSN S hM ⟨va_cnB n S.2.2.2.2 (lw_meth h3) rfl hrc hrs hl (S.2.2.2.2 _ h2) hd hR, S.2.2.2.2 _ h1, trivial⟩ ⟨cblind, fun U hU hW => ⟨rfl, hpre U hU hW⟩⟩ rfl hn hsize hstack (lv_room hW) hdg hf
theorem b_runIN {own host : String} {y : MethodName} {bytes : ByteArray} {L nL idx : Nat} {rm : Room} {b : Addr} {As : List Value} {Qc : Array Value → State → Outcome → State → Prop} {free : Addr → Prop} {sz : Nat} (S : CallFix p m c cc nL s args lw_all own) (hM : Met l y (ws_ y bytes L none) rm (va_Pc (.ref b :: As) (Cpre Γ bc ro sz)) Qc mc ms free)
    (hl : va_Nw (.methodLinkNest own idx y host) s) (h0 : y.name = "<init>") (h1 : Cond.instanceMethod y ∈ lw_all) (h2 : Cond.initialized y.cls ∈ lw_all) (h3 : Cond.code y bytes L none ∈ lw_all) (hrc : rm.cells = mc) (hrs : rm.slots = ms) (n : Nat) (hd : y.cls ≠ "java/lang/invoke/MethodHandle" ∧ y.cls ≠ "java/lang/invoke/VarHandle" ∧ (parseMethodDescriptor y.desc).map (fun d => d.parameters.length) = some n) (hR : rm.frames + 1 ≤ R.frames ∧ 8 + (L + 11) + rm.locals ≤ R.locals)
    (hpre : ∀ U : State, U.heap = H → s.WarmedH U.vm → Cpre Γ bc ro sz U) (hn : As.length = n) (hsize : ls.size = nL) (hstack : st0 = As.reverse ++ .ref b :: rest) (hW : (rest.map fun v => v.category).sum ≤ 8) (hdg : decode cc pc = .ok (.invokespecial idx, 3)) (hf : cells + mc ≤ R.cells ∧ slots + ms ≤ R.slots) :
    va_Run p l e R s m args below meth c H locs cells slots mc ms (F0 m pc ls st0) rest (Qc (Value.ref b :: As).toArray) free :=
  va_runIN S hM ⟨va_cnB n S.2.2.2.2 (lw_meth h3) rfl hrc hrs hl (S.2.2.2.2 _ h2) hd hR, h0, S.2.2.2.2 _ h1⟩ ⟨cblind, fun U hU hW => ⟨rfl, hpre U hU hW⟩⟩ rfl hn hsize hstack (lv_room hW) hdg hf
end BNEST
theorem cowsX_up (n k : Nat) (ca : Nat → Nat) (cv : Nat → Nat → Int32) (w : Nat → Int32) : cowsX n k ca (va_up cv k w) = cowsX n k ca cv := by
  unfold cowsX
  apply List.map_congr_left
  intro j hj
  have h1 := (List.mem_filter.mp hj).2
  have h2 : j ≠ k := of_decide_eq_true h1
  show (ca j, cowE (if j = k then w else cv j)) = _
  rw [if_neg h2]
theorem range_perm {n k : Nat} (hk : k < n) : List.Perm (List.range n) (k :: (List.range n).filter fun j => decide (j ≠ k)) := by
  have h1 : List.Perm (List.range n) (((List.range n).filter fun j => decide (j = k)) ++ (List.range n).filter fun j => !decide (j = k)) := (List.filter_append_perm (fun j => decide (j = k)) (List.range n)).symm
  have h2 : ((List.range n).filter fun j => decide (j = k)) = [k] := by
    have h3 := List.Pairwise.filter (fun j => decide (j = k)) (List.nodup_range (n := n))
    have h4 : k ∈ (List.range n).filter fun j => decide (j = k) := List.mem_filter.mpr ⟨List.mem_range.mpr hk, by simp⟩
    have h5 : ∀ x ∈ (List.range n).filter (fun j => decide (j = k)), x = k := fun x hx => of_decide_eq_true (List.mem_filter.mp hx).2
    cases h6 : (List.range n).filter (fun j => decide (j = k)) with
    | nil => rw [h6] at h4; cases h4
    | cons a t =>
      rw [h6] at h3 h5
      have ea : a = k := h5 a List.mem_cons_self
      cases t with
      | nil => rw [ea]
      | cons b t =>
        have eb : b = k := h5 b (List.mem_cons_of_mem _ List.mem_cons_self)
        have := (List.nodup_cons.mp h3).1
        exact absurd (by rw [ea, eb]; exact List.mem_cons_self) this
  rw [h2] at h1
  refine h1.trans ?_
  rw [List.singleton_append]
  have : (fun j => !decide (j = k)) = fun j => decide (j ≠ k) := by funext j; by_cases h : j = k <;> simp [h]
  rw [this]
theorem cows_perm {n k : Nat} (hk : k < n) (ca : Nat → Nat) (cv : Nat → Nat → Int32) : List.Perm (cowsB n ca cv) ((ca k, cowE (cv k)) :: cowsX n k ca cv) := by
  have := (range_perm hk).map fun j => (ca j, cowE (cv j))
  exact this
theorem cowP_focus {D : va_G} {cl : List vw_C} {n k : Nat} {ca : Nat → Nat} {cv : Nat → Nat → Int32} {rest : BW} {H : Heap} (hk : k < n) (h : va_P D cl (List.flatten (cowsB n ca cv :: rest)) H) : va_P D cl (List.flatten ([(ca k, cowE (cv k))] :: cowsX n k ca cv :: rest)) H :=
  bP_perm (Bs := [cowsB n ca cv]) (Cs := [[(ca k, cowE (cv k))], cowsX n k ca cv]) h (by simpa using cows_perm hk ca cv)
theorem cowD_focus {A : Nat → Prop} {n k : Nat} {ca : Nat → Nat} {cv : Nat → Nat → Int32} {rest : BW} (hk : k < n) (h : va_D A (List.flatten (cowsB n ca cv :: rest))) : va_D A (List.flatten ([(ca k, cowE (cv k))] :: cowsX n k ca cv :: rest)) :=
  bD_perm (Bs := [cowsB n ca cv]) (Cs := [[(ca k, cowE (cv k))], cowsX n k ca cv]) h (by simpa using cows_perm hk ca cv)
theorem cows_perm2 {n k : Nat} (hk : k < n) (ca : Nat → Nat) (cv : Nat → Nat → Int32) (w : Nat → Int32) : List.Perm ((ca k, cowE w) :: cowsX n k ca cv) (cowsB n ca (va_up cv k w)) := by
  have := (cows_perm hk ca (va_up cv k w)).symm
  rw [cowsX_up] at this
  have e : va_up cv k w k = w := if_pos rfl
  rw [e] at this
  exact this
theorem cowP_un {D : va_G} {cl : List vw_C} {n k : Nat} {ca : Nat → Nat} {cv : Nat → Nat → Int32} {w : Nat → Int32} {rest : BW} {H : Heap} (hk : k < n) (h : va_P D cl (List.flatten ([(ca k, cowE w)] :: cowsX n k ca cv :: rest)) H) : va_P D cl (List.flatten (cowsB n ca (va_up cv k w) :: rest)) H :=
  bP_perm (Bs := [[(ca k, cowE w)], cowsX n k ca cv]) (Cs := [cowsB n ca (va_up cv k w)]) h (by simpa using cows_perm2 hk ca cv w)
theorem cowD_un {A : Nat → Prop} {n k : Nat} {ca : Nat → Nat} {cv : Nat → Nat → Int32} {w : Nat → Int32} {rest : BW} (hk : k < n) (h : va_D A (List.flatten ([(ca k, cowE w)] :: cowsX n k ca cv :: rest))) : va_D A (List.flatten (cowsB n ca (va_up cv k w) :: rest)) :=
  bD_perm (Bs := [[(ca k, cowE w)], cowsX n k ca cv]) (Cs := [cowsB n ca (va_up cv k w)]) h (by simpa using cows_perm2 hk ca cv w)
theorem up_same {α : Type} (f : Nat → α) (k : Nat) : va_up f k (f k) = f := by
  funext q
  show (if q = k then f k else f q) = f q
  split
  · rename_i h; rw [h]
  · rfl
set_option maxHeartbeats 4000000 in
set_option maxRecDepth 100000 in
theorem mt_DB_in (l : Launch) (Γ : GE) (sz : Nat) (v : Int32) (lo : Int32) (hi : Int32)  : KM l yX1_in cX1_in 3 (some FieldType.boolean) Γ 0 0 0 0 [.int v, .int lo, .int hi] [] [] sz (Qi Γ (fun r_ u_ => r_ = (inC v lo hi) ∧ u_ = [])) := by
  refine K_intro (by decide) (Nat.le_of_ble_eq_true rfl) ?_
  intro pr_ ev_ s mi_ below meth cd_ A ls hx hb hr hml hown hts hlocks hname hK hE hRo hP hD hA hS hsz hl
  have hl : lv_has ls 3 [(0, .int v), (1, .int lo), (2, .int hi)] := hl
  have hown : s.vm.findClass RX1 = some mi_.cls := hown
  refine lv_iload_n hx hb dX1_in_0 rfl (lv_at hl 0 rfl) ?_
  refine lv_iload_n hx hb dX1_in_1 rfl (lv_at hl 1 rfl) ?_
  refine lv_icmp_lt (tgt := 14) hx hb dX1_in_2 (by decide) (fun c_1 => ?_) (fun c_1 => ?_)
  · -- 2 taken
    refine lv_iconst (v := 0) hx hb dX1_in_14 (by decide) ?_
    exact b_zret hx hb hr hlocks hP hD hS (Nat.le_of_ble_eq_true rfl) (Nat.le_of_ble_eq_true rfl) rfl ⟨(by first | with_reducible rfl | (simp [inC, c_1]; done) | rfl), (by first | with_reducible rfl | (simp [inC, c_1]; done) | rfl)⟩ dX1_in_15
  · -- 2 not taken
    refine lv_iload_n hx hb dX1_in_5 rfl (lv_at hl 0 rfl) ?_
    refine lv_iload_n hx hb dX1_in_6 rfl (lv_at hl 2 rfl) ?_
    refine lv_icmp_gt (tgt := 14) hx hb dX1_in_7 (by decide) (fun c_2 => ?_) (fun c_2 => ?_)
    · -- 7 taken
      refine lv_iconst (v := 0) hx hb dX1_in_14 (by decide) ?_
      exact b_zret hx hb hr hlocks hP hD hS (Nat.le_of_ble_eq_true rfl) (Nat.le_of_ble_eq_true rfl) rfl ⟨(by first | with_reducible rfl | (simp [inC, c_1, c_2]; done) | rfl), (by first | with_reducible rfl | (simp [inC, c_1, c_2]; done) | rfl)⟩ dX1_in_15
    · -- 7 not taken
      refine lv_iconst (v := 1) hx hb dX1_in_10 (by decide) ?_
      refine lv_goto (tgt := 15) hx hb dX1_in_11 (by decide) ?_
      exact b_zret hx hb hr hlocks hP hD hS (Nat.le_of_ble_eq_true rfl) (Nat.le_of_ble_eq_true rfl) rfl ⟨(by first | with_reducible rfl | (simp [inC, c_1, c_2]; done) | rfl), (by first | with_reducible rfl | (simp [inC, c_1, c_2]; done) | rfl)⟩ dX1_in_15
/-- the cow is there: her number is one, she isn't sold -/
def thC (n : Nat) (cv : Nat → Nat → Int32) (c : Int32) : Int32 := if inC c 0 (nI n - 1) = 0 then 0 else if cv c.toNatClampNeg 6 = 0 then 1 else 0
theorem thC_nat {n : Nat} {cv : Nat → Nat → Int32} {c : Int32} (hn : n < 2 ^ 31) (h : ¬ thC n cv c = 0) : ∃ k : Nat, k < n ∧ c = nI k := by
  unfold thC at h
  split at h
  · exact absurd rfl h
  · rename_i h1
    exact inC_nat hn h1
def rfHold (n : Nat) (cv : Nat → Nat → Int32) (c v : Int32) : Int32 := if thC n cv c = 0 then 1 else if inC v 1 30 = 0 then 2 else 0
def rfCow (n : Nat) (cv : Nat → Nat → Int32) (c : Int32) : Int32 := if thC n cv c = 0 then 1 else 0
def rfServe (n : Nat) (cv : Nat → Nat → Int32) (t c : Int32) : Int32 := if thC n cv c = 0 then 1 else if cowCar (cv c.toNatClampNeg) = 0 then (if cowMil (cv c.toNatClampNeg) = 0 then 0 else if cowDim (cv c.toNatClampNeg) t < 20 then 3 else 0) else 3
def rfDry (n : Nat) (cv : Nat → Nat → Int32) (c : Int32) : Int32 := if thC n cv c = 0 then 1 else if cowMil (cv c.toNatClampNeg) = 0 then 4 else 0
set_option maxHeartbeats 4000000 in
set_option maxRecDepth 100000 in
theorem mt_Hd_isThere (l : Launch) (Γ : GE) (sz : Nat) (e0 : Nat) (e1 : Nat) (e2 : Nat) (e3 : Nat) (e4 : Nat) (e5 : Nat) (td : Int32) (pk : Int32) (pd : Int32) (x0 : LST) (m0 : Int32) (n : Nat) (ca : Nat → Nat) (cv : Nat → Nat → Int32) (c : Int32) (hal0 : alI Γ x0 n ca) (hn8 : n ≤ 8) : KM l yX2_isThere cX2_isThere 2 (some FieldType.boolean) Γ 3 64 0 0 [.ref e0, .int c] [[(e0, .inr (1, [.ref e1, .ref e2, .ref e3, .ref e4, .ref e5, .int td, .int pk, .int pd]))], [(e1, .inr (11, [.int m0, .ref x0.1, .int (nI n)]))], (alA Γ x0), (cowsB n ca cv)] [] sz (Qi Γ (fun r_ u_ => r_ = (thC n cv c) ∧ u_ = [[(e0, .inr (1, [.ref e1, .ref e2, .ref e3, .ref e4, .ref e5, .int td, .int pk, .int pd]))], [(e1, .inr (11, [.int m0, .ref x0.1, .int (nI n)]))], (alA Γ x0), (cowsB n ca cv)])) := by
  refine K_intro (by decide) (Nat.le_of_ble_eq_true rfl) ?_
  intro pr_ ev_ s mi_ below meth cd_ A ls hx hb hr hml hown hts hlocks hname hK hE hRo hP hD hA hS hsz hl
  have hl : lv_has ls 2 [(0, .ref e0), (1, .int c)] := hl
  have hown : s.vm.findClass RX2 = some mi_.cls := hown
  refine lv_iload_n hx hb dX2_isThere_0 rfl (lv_at hl 1 rfl) ?_
  refine lv_iconst (v := 0) hx hb dX2_isThere_1 (by decide) ?_
  refine lv_aload_n hx hb dX2_isThere_2 rfl (lv_at hl 0 rfl) ?_
  refine b_get (C := RX2) (T := TX2) (N := 8) (v := .ref e1) hx hb hts in_X2 hown hK (b_at (k := 0) hP rfl) rfl 0 (by decide) q163 (fun _ h9 => h9) rfl dX2_isThere_3 ?_
  refine b_calli (br := [[(e0, .inr (1, [.ref e1, .ref e2, .ref e3, .ref e4, .ref e5, .int td, .int pk, .int pd]))], (alA Γ x0), (cowsB n ca cv)]) (b_runV ⟨hx, hb, hml, hown, hts⟩ (mt_AL_size l Γ _ e1 m0 x0.1 n) (lw_V q961 q818 q819 q66 q820) rfl rfl 0 (by decide +kernel) ⟨(Nat.le_of_ble_eq_true rfl), (Nat.le_of_ble_eq_true rfl)⟩ (c_pre hP hD hS hA hK hE [1] rfl rfl ro_nil) (recv_at (q := (RJ2, TJ2, 3)) hK (b_at (k := 1) hP rfl) rfl) rfl hl.1 rfl (Nat.le_of_ble_eq_true rfl) dX2_isThere_6 ⟨(Nat.le_of_ble_eq_true rfl), (Nat.le_of_ble_eq_true rfl)⟩) hP hD hS hA [1] [0, 2, 3] rfl rfl rfl (fun r_1 u_1 H locs hw_1 hP hD hS _ => ?_)
  obtain ⟨rfl, rfl⟩ := hw_1
  have hP : WP Γ [[(e1, .inr (11, [.int m0, .ref x0.1, .int (nI n)]))], [(e0, .inr (1, [.ref e1, .ref e2, .ref e3, .ref e4, .ref e5, .int td, .int pk, .int pd]))], (alA Γ x0), (cowsB n ca cv)] H := hP
  have hD : WD A [[(e1, .inr (11, [.int m0, .ref x0.1, .int (nI n)]))], [(e0, .inr (1, [.ref e1, .ref e2, .ref e3, .ref e4, .ref e5, .int td, .int pk, .int pd]))], (alA Γ x0), (cowsB n ca cv)] := hD
  refine lv_iconst (v := 1) hx hb dX2_isThere_9 (by decide) ?_
  refine lv_isub hx hb dX2_isThere_10 ?_
  refine b_calli (br := [[(e1, .inr (11, [.int m0, .ref x0.1, .int (nI n)]))], [(e0, .inr (1, [.ref e1, .ref e2, .ref e3, .ref e4, .ref e5, .int td, .int pk, .int pd]))], (alA Γ x0), (cowsB n ca cv)]) (b_runSN ⟨hx, hb, hml, hown, hts⟩ (mt_DB_in l Γ _ c 0 ((nI n) - 1)) (hE.1.1 _ q962 rfl) q807 q62 q808 rfl rfl 3 ⟨by decide, by decide, by decide +kernel⟩ ⟨(Nat.le_of_ble_eq_true rfl), (Nat.le_of_ble_eq_true rfl)⟩ (c_pre hP hD hS hA hK hE [] rfl rfl ro_nil) rfl hl.1 rfl (Nat.le_of_ble_eq_true rfl) dX2_isThere_11 ⟨(Nat.le_of_ble_eq_true rfl), (Nat.le_of_ble_eq_true rfl)⟩) hP hD hS hA [] [0, 1, 2, 3] rfl rfl rfl (fun r_2 u_2 H locs hw_2 hP hD hS _ => ?_)
  obtain ⟨rfl, rfl⟩ := hw_2
  have hP : WP Γ [[(e1, .inr (11, [.int m0, .ref x0.1, .int (nI n)]))], [(e0, .inr (1, [.ref e1, .ref e2, .ref e3, .ref e4, .ref e5, .int td, .int pk, .int pd]))], (alA Γ x0), (cowsB n ca cv)] H := hP
  have hD : WD A [[(e1, .inr (11, [.int m0, .ref x0.1, .int (nI n)]))], [(e0, .inr (1, [.ref e1, .ref e2, .ref e3, .ref e4, .ref e5, .int td, .int pk, .int pd]))], (alA Γ x0), (cowsB n ca cv)] := hD
  refine lv_if_eq (tgt := 38) hx hb dX2_isThere_14 (by decide) (fun c_3 => ?_) (fun c_3 => ?_)
  · -- 14 taken
    refine lv_iconst (v := 0) hx hb dX2_isThere_38 (by decide) ?_
    have hP : WP Γ [[(e0, .inr (1, [.ref e1, .ref e2, .ref e3, .ref e4, .ref e5, .int td, .int pk, .int pd]))], [(e1, .inr (11, [.int m0, .ref x0.1, .int (nI n)]))], (alA Γ x0), (cowsB n ca cv)] H := bP_sel hP [1, 0, 2, 3] rfl
    have hD : WD A [[(e0, .inr (1, [.ref e1, .ref e2, .ref e3, .ref e4, .ref e5, .int td, .int pk, .int pd]))], [(e1, .inr (11, [.int m0, .ref x0.1, .int (nI n)]))], (alA Γ x0), (cowsB n ca cv)] := bD_sel hD [1, 0, 2, 3] rfl rfl
    exact b_zret hx hb hr hlocks hP hD hS (Nat.le_of_ble_eq_true rfl) (Nat.le_of_ble_eq_true rfl) rfl ⟨(by first | with_reducible rfl | (simp [thC, c_3]; done) | rfl), (by first | with_reducible rfl | (simp [thC, c_3]; done) | rfl)⟩ dX2_isThere_39
  · -- 14 not taken
    obtain ⟨k, hk, rfl⟩ := inC_nat (by omega) c_3
    refine lv_aload_n hx hb dX2_isThere_17 rfl (lv_at hl 0 rfl) ?_
    refine b_get (C := RX2) (T := TX2) (N := 8) (v := .ref e1) hx hb hts in_X2 hown hK (b_at (k := 1) hP rfl) rfl 0 (by decide) q163 (fun _ h9 => h9) rfl dX2_isThere_18 ?_
    refine lv_iload_n hx hb dX2_isThere_21 rfl (lv_at hl 1 rfl) ?_
    refine b_callq (br := [[(e0, .inr (1, [.ref e1, .ref e2, .ref e3, .ref e4, .ref e5, .int td, .int pk, .int pd]))], (cowsB n ca cv)]) (b_runV ⟨hx, hb, hml, hown, hts⟩ (mt_AL_get l Γ _ e1 m0 x0 n ca k hal0 (by omega)) (lw_V q963 q964 q965 q66 q966) rfl rfl 1 (by decide +kernel) ⟨(Nat.le_of_ble_eq_true rfl), (Nat.le_of_ble_eq_true rfl)⟩ (c_pre hP hD hS hA hK hE [0, 2] rfl rfl ro_nil) (recv_at (q := (RJ2, TJ2, 3)) hK (b_at (k := 0) hP rfl) rfl) rfl hl.1 rfl (Nat.le_of_ble_eq_true rfl) dX2_isThere_22 ⟨(Nat.le_of_ble_eq_true rfl), (Nat.le_of_ble_eq_true rfl)⟩) hP hD hS hA [0, 2] [1, 3] rfl rfl rfl (fun r_4 u_4 H locs hw_4 hP hD hS _ => ?_)
    obtain ⟨rfl, rfl⟩ := hw_4
    have hP : WP Γ [[(e1, .inr (11, [.int m0, .ref x0.1, .int (nI n)]))], (alA Γ x0), [(e0, .inr (1, [.ref e1, .ref e2, .ref e3, .ref e4, .ref e5, .int td, .int pk, .int pd]))], (cowsB n ca cv)] H := hP
    have hD : WD A [[(e1, .inr (11, [.int m0, .ref x0.1, .int (nI n)]))], (alA Γ x0), [(e0, .inr (1, [.ref e1, .ref e2, .ref e3, .ref e4, .ref e5, .int td, .int pk, .int pd]))], (cowsB n ca cv)] := hD
    refine W.eq (g2 := F0 mi_ 25 ls ([.ref (ca k)])) rfl ?_
    have hP : WP Γ [(cowsB n ca cv), [(e1, .inr (11, [.int m0, .ref x0.1, .int (nI n)]))], (alA Γ x0), [(e0, .inr (1, [.ref e1, .ref e2, .ref e3, .ref e4, .ref e5, .int td, .int pk, .int pd]))]] H := bP_sel hP [3, 0, 1, 2] rfl
    have hD : WD A [(cowsB n ca cv), [(e1, .inr (11, [.int m0, .ref x0.1, .int (nI n)]))], (alA Γ x0), [(e0, .inr (1, [.ref e1, .ref e2, .ref e3, .ref e4, .ref e5, .int td, .int pk, .int pd]))]] := bD_sel hD [3, 0, 1, 2] rfl rfl
    have hP : WP Γ [[((ca k), cowE (cv k))], (cowsX n k ca cv), [(e1, .inr (11, [.int m0, .ref x0.1, .int (nI n)]))], (alA Γ x0), [(e0, .inr (1, [.ref e1, .ref e2, .ref e3, .ref e4, .ref e5, .int td, .int pk, .int pd]))]] H := cowP_focus hk hP
    have hD : WD A [[((ca k), cowE (cv k))], (cowsX n k ca cv), [(e1, .inr (11, [.int m0, .ref x0.1, .int (nI n)]))], (alA Γ x0), [(e0, .inr (1, [.ref e1, .ref e2, .ref e3, .ref e4, .ref e5, .int td, .int pk, .int pd]))]] := cowD_focus hk hD
    refine va_castS hx hb hown (hts _ q412) (hK.1 4 _ rfl).2 (recv_at (q := (RX5, TX5, 12)) hK (b_at (k := 0) hP rfl) rfl) dX2_isThere_25 ?_
    refine b_getN (C := RX5) (T := TX5) (N := 12) (v := .int (cv k 6)) hx hb hts hE in_X5 hown hK (b_at (k := 0) hP rfl) rfl 6 (by decide) q434 (fun _ h9 => h9) rfl dX2_isThere_28 ?_
    refine lv_if_ne (tgt := 38) hx hb dX2_isThere_31 (by decide) (fun c_5 => ?_) (fun c_5 => ?_)
    · -- 31 taken
      refine lv_iconst (v := 0) hx hb dX2_isThere_38 (by decide) ?_
      have hP : WP Γ [(cowsB n ca (va_up cv k (cv k))), [(e1, .inr (11, [.int m0, .ref x0.1, .int (nI n)]))], (alA Γ x0), [(e0, .inr (1, [.ref e1, .ref e2, .ref e3, .ref e4, .ref e5, .int td, .int pk, .int pd]))]] H := cowP_un hk hP
      have hD : WD A [(cowsB n ca (va_up cv k (cv k))), [(e1, .inr (11, [.int m0, .ref x0.1, .int (nI n)]))], (alA Γ x0), [(e0, .inr (1, [.ref e1, .ref e2, .ref e3, .ref e4, .ref e5, .int td, .int pk, .int pd]))]] := cowD_un hk hD
      rw [up_same] at hP hD
      have hP : WP Γ [[(e0, .inr (1, [.ref e1, .ref e2, .ref e3, .ref e4, .ref e5, .int td, .int pk, .int pd]))], [(e1, .inr (11, [.int m0, .ref x0.1, .int (nI n)]))], (alA Γ x0), (cowsB n ca cv)] H := bP_sel hP [3, 1, 2, 0] rfl
      have hD : WD A [[(e0, .inr (1, [.ref e1, .ref e2, .ref e3, .ref e4, .ref e5, .int td, .int pk, .int pd]))], [(e1, .inr (11, [.int m0, .ref x0.1, .int (nI n)]))], (alA Γ x0), (cowsB n ca cv)] := bD_sel hD [3, 1, 2, 0] rfl rfl
      exact b_zret hx hb hr hlocks hP hD hS (Nat.le_of_ble_eq_true rfl) (Nat.le_of_ble_eq_true rfl) rfl ⟨(by first | with_reducible rfl | (simp [thC, c_3, nI_clamp (show k < 2 ^ 31 by omega), c_5]; done) | rfl), (by first | with_reducible rfl | (simp [thC, c_3, nI_clamp (show k < 2 ^ 31 by omega), c_5]; done) | rfl)⟩ dX2_isThere_39
    · -- 31 not taken
      refine lv_iconst (v := 1) hx hb dX2_isThere_34 (by decide) ?_
      refine lv_goto (tgt := 39) hx hb dX2_isThere_35 (by decide) ?_
      have hP : WP Γ [(cowsB n ca (va_up cv k (cv k))), [(e1, .inr (11, [.int m0, .ref x0.1, .int (nI n)]))], (alA Γ x0), [(e0, .inr (1, [.ref e1, .ref e2, .ref e3, .ref e4, .ref e5, .int td, .int pk, .int pd]))]] H := cowP_un hk hP
      have hD : WD A [(cowsB n ca (va_up cv k (cv k))), [(e1, .inr (11, [.int m0, .ref x0.1, .int (nI n)]))], (alA Γ x0), [(e0, .inr (1, [.ref e1, .ref e2, .ref e3, .ref e4, .ref e5, .int td, .int pk, .int pd]))]] := cowD_un hk hD
      rw [up_same] at hP hD
      have hP : WP Γ [[(e0, .inr (1, [.ref e1, .ref e2, .ref e3, .ref e4, .ref e5, .int td, .int pk, .int pd]))], [(e1, .inr (11, [.int m0, .ref x0.1, .int (nI n)]))], (alA Γ x0), (cowsB n ca cv)] H := bP_sel hP [3, 1, 2, 0] rfl
      have hD : WD A [[(e0, .inr (1, [.ref e1, .ref e2, .ref e3, .ref e4, .ref e5, .int td, .int pk, .int pd]))], [(e1, .inr (11, [.int m0, .ref x0.1, .int (nI n)]))], (alA Γ x0), (cowsB n ca cv)] := bD_sel hD [3, 1, 2, 0] rfl rfl
      exact b_zret hx hb hr hlocks hP hD hS (Nat.le_of_ble_eq_true rfl) (Nat.le_of_ble_eq_true rfl) rfl ⟨(by first | with_reducible rfl | (simp [thC, c_3, nI_clamp (show k < 2 ^ 31 by omega), c_5]; done) | rfl), (by first | with_reducible rfl | (simp [thC, c_3, nI_clamp (show k < 2 ^ 31 by omega), c_5]; done) | rfl)⟩ dX2_isThere_39
set_option maxHeartbeats 4000000 in
set_option maxRecDepth 100000 in
theorem mt_Hd_refusesCow (l : Launch) (Γ : GE) (sz : Nat) (e0 : Nat) (e1 : Nat) (e2 : Nat) (e3 : Nat) (e4 : Nat) (e5 : Nat) (td : Int32) (pk : Int32) (pd : Int32) (x0 : LST) (m0 : Int32) (n : Nat) (ca : Nat → Nat) (cv : Nat → Nat → Int32) (c : Int32) (hal0 : alI Γ x0 n ca) (hn8 : n ≤ 8) : KM l yX2_refusesCow cX2_refusesCow 2 (some FieldType.int) Γ 4 85 0 0 [.ref e0, .int c] [[(e0, .inr (1, [.ref e1, .ref e2, .ref e3, .ref e4, .ref e5, .int td, .int pk, .int pd]))], [(e1, .inr (11, [.int m0, .ref x0.1, .int (nI n)]))], (alA Γ x0), (cowsB n ca cv)] [] sz (Qi Γ (fun r_ u_ => r_ = (rfCow n cv c) ∧ u_ = [[(e0, .inr (1, [.ref e1, .ref e2, .ref e3, .ref e4, .ref e5, .int td, .int pk, .int pd]))], [(e1, .inr (11, [.int m0, .ref x0.1, .int (nI n)]))], (alA Γ x0), (cowsB n ca cv)])) := by
  refine K_intro (by decide) (Nat.le_of_ble_eq_true rfl) ?_
  intro pr_ ev_ s mi_ below meth cd_ A ls hx hb hr hml hown hts hlocks hname hK hE hRo hP hD hA hS hsz hl
  have hl : lv_has ls 2 [(0, .ref e0), (1, .int c)] := hl
  have hown : s.vm.findClass RX2 = some mi_.cls := hown
  refine lv_aload_n hx hb dX2_refusesCow_0 rfl (lv_at hl 0 rfl) ?_
  refine lv_iload_n hx hb dX2_refusesCow_1 rfl (lv_at hl 1 rfl) ?_
  refine b_calli (br := []) (b_runV ⟨hx, hb, hml, hown, hts⟩ (mt_Hd_isThere l Γ _ e0 e1 e2 e3 e4 e5 td pk pd x0 m0 n ca cv c (by assumption) (by first | assumption | omega)) (lw_V q957 q959 qs8 q63 q960) rfl rfl 1 (by decide +kernel) ⟨(Nat.le_of_ble_eq_true rfl), (Nat.le_of_ble_eq_true rfl)⟩ (c_pre hP hD hS hA hK hE [0, 1, 2, 3] rfl rfl ro_nil) (recv_at (q := (RX2, TX2, 8)) hK (b_at (k := 0) hP rfl) rfl) rfl hl.1 rfl (Nat.le_of_ble_eq_true rfl) dX2_refusesCow_2 ⟨(Nat.le_of_ble_eq_true rfl), (Nat.le_of_ble_eq_true rfl)⟩) hP hD hS hA [0, 1, 2, 3] [] rfl rfl rfl (fun r_1 u_1 H locs hw_1 hP hD hS _ => ?_)
  obtain ⟨rfl, rfl⟩ := hw_1
  have hP : WP Γ [[(e0, .inr (1, [.ref e1, .ref e2, .ref e3, .ref e4, .ref e5, .int td, .int pk, .int pd]))], [(e1, .inr (11, [.int m0, .ref x0.1, .int (nI n)]))], (alA Γ x0), (cowsB n ca cv)] H := hP
  have hD : WD A [[(e0, .inr (1, [.ref e1, .ref e2, .ref e3, .ref e4, .ref e5, .int td, .int pk, .int pd]))], [(e1, .inr (11, [.int m0, .ref x0.1, .int (nI n)]))], (alA Γ x0), (cowsB n ca cv)] := hD
  refine lv_if_eq (tgt := 12) hx hb dX2_refusesCow_5 (by decide) (fun c_2 => ?_) (fun c_2 => ?_)
  · -- 5 taken
    refine lv_iconst (v := 1) hx hb dX2_refusesCow_12 (by decide) ?_
    exact b_iret hx hb hr hlocks hP hD hS (Nat.le_of_ble_eq_true rfl) (Nat.le_of_ble_eq_true rfl) ⟨(by first | with_reducible rfl | (simp [rfCow, c_2]; done) | rfl), (by first | with_reducible rfl | (simp [rfCow, c_2]; done) | rfl)⟩ dX2_refusesCow_13
  · -- 5 not taken
    refine lv_iconst (v := 0) hx hb dX2_refusesCow_8 (by decide) ?_
    refine lv_goto (tgt := 13) hx hb dX2_refusesCow_9 (by decide) ?_
    exact b_iret hx hb hr hlocks hP hD hS (Nat.le_of_ble_eq_true rfl) (Nat.le_of_ble_eq_true rfl) ⟨(by first | with_reducible rfl | (simp [rfCow, c_2]; done) | rfl), (by first | with_reducible rfl | (simp [rfCow, c_2]; done) | rfl)⟩ dX2_refusesCow_13
set_option maxHeartbeats 4000000 in
set_option maxRecDepth 100000 in
theorem mt_Hd_refusesHold (l : Launch) (Γ : GE) (sz : Nat) (e0 : Nat) (e1 : Nat) (e2 : Nat) (e3 : Nat) (e4 : Nat) (e5 : Nat) (td : Int32) (pk : Int32) (pd : Int32) (x0 : LST) (m0 : Int32) (n : Nat) (ca : Nat → Nat) (cv : Nat → Nat → Int32) (c : Int32) (v : Int32) (hal0 : alI Γ x0 n ca) (hn8 : n ≤ 8) : KM l yX2_refusesHold cX2_refusesHold 3 (some FieldType.int) Γ 4 85 0 0 [.ref e0, .int c, .int v] [[(e0, .inr (1, [.ref e1, .ref e2, .ref e3, .ref e4, .ref e5, .int td, .int pk, .int pd]))], [(e1, .inr (11, [.int m0, .ref x0.1, .int (nI n)]))], (alA Γ x0), (cowsB n ca cv)] [] sz (Qi Γ (fun r_ u_ => r_ = (rfHold n cv c v) ∧ u_ = [[(e0, .inr (1, [.ref e1, .ref e2, .ref e3, .ref e4, .ref e5, .int td, .int pk, .int pd]))], [(e1, .inr (11, [.int m0, .ref x0.1, .int (nI n)]))], (alA Γ x0), (cowsB n ca cv)])) := by
  refine K_intro (by decide) (Nat.le_of_ble_eq_true rfl) ?_
  intro pr_ ev_ s mi_ below meth cd_ A ls hx hb hr hml hown hts hlocks hname hK hE hRo hP hD hA hS hsz hl
  have hl : lv_has ls 3 [(0, .ref e0), (1, .int c), (2, .int v)] := hl
  have hown : s.vm.findClass RX2 = some mi_.cls := hown
  refine lv_aload_n hx hb dX2_refusesHold_0 rfl (lv_at hl 0 rfl) ?_
  refine lv_iload_n hx hb dX2_refusesHold_1 rfl (lv_at hl 1 rfl) ?_
  refine b_calli (br := []) (b_runV ⟨hx, hb, hml, hown, hts⟩ (mt_Hd_isThere l Γ _ e0 e1 e2 e3 e4 e5 td pk pd x0 m0 n ca cv c (by assumption) (by first | assumption | omega)) (lw_V q957 q959 qs8 q63 q960) rfl rfl 1 (by decide +kernel) ⟨(Nat.le_of_ble_eq_true rfl), (Nat.le_of_ble_eq_true rfl)⟩ (c_pre hP hD hS hA hK hE [0, 1, 2, 3] rfl rfl ro_nil) (recv_at (q := (RX2, TX2, 8)) hK (b_at (k := 0) hP rfl) rfl) rfl hl.1 rfl (Nat.le_of_ble_eq_true rfl) dX2_refusesHold_2 ⟨(Nat.le_of_ble_eq_true rfl), (Nat.le_of_ble_eq_true rfl)⟩) hP hD hS hA [0, 1, 2, 3] [] rfl rfl rfl (fun r_1 u_1 H locs hw_1 hP hD hS _ => ?_)
  obtain ⟨rfl, rfl⟩ := hw_1
  have hP : WP Γ [[(e0, .inr (1, [.ref e1, .ref e2, .ref e3, .ref e4, .ref e5, .int td, .int pk, .int pd]))], [(e1, .inr (11, [.int m0, .ref x0.1, .int (nI n)]))], (alA Γ x0), (cowsB n ca cv)] H := hP
  have hD : WD A [[(e0, .inr (1, [.ref e1, .ref e2, .ref e3, .ref e4, .ref e5, .int td, .int pk, .int pd]))], [(e1, .inr (11, [.int m0, .ref x0.1, .int (nI n)]))], (alA Γ x0), (cowsB n ca cv)] := hD
  refine lv_if_ne (tgt := 10) hx hb dX2_refusesHold_5 (by decide) (fun c_2 => ?_) (fun c_2 => ?_)
  · -- 5 taken
    refine lv_iload_n hx hb dX2_refusesHold_10 rfl (lv_at hl 2 rfl) ?_
    refine lv_iconst (v := 1) hx hb dX2_refusesHold_11 (by decide) ?_
    refine lv_bipush (v := 30) hx hb dX2_refusesHold_12 (by decide) ?_
    refine b_calli (br := [[(e0, .inr (1, [.ref e1, .ref e2, .ref e3, .ref e4, .ref e5, .int td, .int pk, .int pd]))], [(e1, .inr (11, [.int m0, .ref x0.1, .int (nI n)]))], (alA Γ x0), (cowsB n ca cv)]) (b_runSN ⟨hx, hb, hml, hown, hts⟩ (mt_DB_in l Γ _ v 1 30) (hE.1.1 _ q962 rfl) q807 q62 q808 rfl rfl 3 ⟨by decide, by decide, by decide +kernel⟩ ⟨(Nat.le_of_ble_eq_true rfl), (Nat.le_of_ble_eq_true rfl)⟩ (c_pre hP hD hS hA hK hE [] rfl rfl ro_nil) rfl hl.1 rfl (Nat.le_of_ble_eq_true rfl) dX2_refusesHold_14 ⟨(Nat.le_of_ble_eq_true rfl), (Nat.le_of_ble_eq_true rfl)⟩) hP hD hS hA [] [0, 1, 2, 3] rfl rfl rfl (fun r_3 u_3 H locs hw_3 hP hD hS _ => ?_)
    obtain ⟨rfl, rfl⟩ := hw_3
    have hP : WP Γ [[(e0, .inr (1, [.ref e1, .ref e2, .ref e3, .ref e4, .ref e5, .int td, .int pk, .int pd]))], [(e1, .inr (11, [.int m0, .ref x0.1, .int (nI n)]))], (alA Γ x0), (cowsB n ca cv)] H := hP
    have hD : WD A [[(e0, .inr (1, [.ref e1, .ref e2, .ref e3, .ref e4, .ref e5, .int td, .int pk, .int pd]))], [(e1, .inr (11, [.int m0, .ref x0.1, .int (nI n)]))], (alA Γ x0), (cowsB n ca cv)] := hD
    refine lv_if_eq (tgt := 24) hx hb dX2_refusesHold_17 (by decide) (fun c_4 => ?_) (fun c_4 => ?_)
    · -- 17 taken
      refine lv_iconst (v := 2) hx hb dX2_refusesHold_24 (by decide) ?_
      exact b_iret hx hb hr hlocks hP hD hS (Nat.le_of_ble_eq_true rfl) (Nat.le_of_ble_eq_true rfl) ⟨(by first | with_reducible rfl | (simp [rfHold, c_2, c_4]; done) | rfl), (by first | with_reducible rfl | (simp [rfHold, c_2, c_4]; done) | rfl)⟩ dX2_refusesHold_25
    · -- 17 not taken
      refine lv_iconst (v := 0) hx hb dX2_refusesHold_20 (by decide) ?_
      refine lv_goto (tgt := 25) hx hb dX2_refusesHold_21 (by decide) ?_
      exact b_iret hx hb hr hlocks hP hD hS (Nat.le_of_ble_eq_true rfl) (Nat.le_of_ble_eq_true rfl) ⟨(by first | with_reducible rfl | (simp [rfHold, c_2, c_4]; done) | rfl), (by first | with_reducible rfl | (simp [rfHold, c_2, c_4]; done) | rfl)⟩ dX2_refusesHold_25
  · -- 5 not taken
    refine lv_iconst (v := 1) hx hb dX2_refusesHold_8 (by decide) ?_
    exact b_iret hx hb hr hlocks hP hD hS (Nat.le_of_ble_eq_true rfl) (Nat.le_of_ble_eq_true rfl) ⟨(by first | with_reducible rfl | (simp [rfHold, c_2]; done) | rfl), (by first | with_reducible rfl | (simp [rfHold, c_2]; done) | rfl)⟩ dX2_refusesHold_9
set_option maxHeartbeats 4000000 in
set_option maxRecDepth 100000 in
theorem mt_Hd_refusesServe (l : Launch) (Γ : GE) (sz : Nat) (e0 : Nat) (e1 : Nat) (e2 : Nat) (e3 : Nat) (e4 : Nat) (e5 : Nat) (td : Int32) (pk : Int32) (pd : Int32) (x0 : LST) (m0 : Int32) (n : Nat) (ca : Nat → Nat) (cv : Nat → Nat → Int32) (c : Int32) (hal0 : alI Γ x0 n ca) (hn8 : n ≤ 8) : KM l yX2_refusesServe cX2_refusesServe 3 (some FieldType.int) Γ 4 85 0 0 [.ref e0, .int c] [[(e0, .inr (1, [.ref e1, .ref e2, .ref e3, .ref e4, .ref e5, .int td, .int pk, .int pd]))], [(e1, .inr (11, [.int m0, .ref x0.1, .int (nI n)]))], (alA Γ x0), (cowsB n ca cv)] [] sz (Qi Γ (fun r_ u_ => r_ = (rfServe n cv td c) ∧ u_ = [[(e0, .inr (1, [.ref e1, .ref e2, .ref e3, .ref e4, .ref e5, .int td, .int pk, .int pd]))], [(e1, .inr (11, [.int m0, .ref x0.1, .int (nI n)]))], (alA Γ x0), (cowsB n ca cv)])) := by
  refine K_intro (by decide) (Nat.le_of_ble_eq_true rfl) ?_
  intro pr_ ev_ s mi_ below meth cd_ A ls hx hb hr hml hown hts hlocks hname hK hE hRo hP hD hA hS hsz hl
  have hl : lv_has ls 3 [(0, .ref e0), (1, .int c)] := hl
  have hown : s.vm.findClass RX2 = some mi_.cls := hown
  refine lv_aload_n hx hb dX2_refusesServe_0 rfl (lv_at hl 0 rfl) ?_
  refine lv_iload_n hx hb dX2_refusesServe_1 rfl (lv_at hl 1 rfl) ?_
  refine b_calli (br := []) (b_runV ⟨hx, hb, hml, hown, hts⟩ (mt_Hd_isThere l Γ _ e0 e1 e2 e3 e4 e5 td pk pd x0 m0 n ca cv c (by assumption) (by first | assumption | omega)) (lw_V q957 q959 qs8 q63 q960) rfl rfl 1 (by decide +kernel) ⟨(Nat.le_of_ble_eq_true rfl), (Nat.le_of_ble_eq_true rfl)⟩ (c_pre hP hD hS hA hK hE [0, 1, 2, 3] rfl rfl ro_nil) (recv_at (q := (RX2, TX2, 8)) hK (b_at (k := 0) hP rfl) rfl) rfl hl.1 rfl (Nat.le_of_ble_eq_true rfl) dX2_refusesServe_2 ⟨(Nat.le_of_ble_eq_true rfl), (Nat.le_of_ble_eq_true rfl)⟩) hP hD hS hA [0, 1, 2, 3] [] rfl rfl rfl (fun r_1 u_1 H locs hw_1 hP hD hS _ => ?_)
  obtain ⟨rfl, rfl⟩ := hw_1
  have hP : WP Γ [[(e0, .inr (1, [.ref e1, .ref e2, .ref e3, .ref e4, .ref e5, .int td, .int pk, .int pd]))], [(e1, .inr (11, [.int m0, .ref x0.1, .int (nI n)]))], (alA Γ x0), (cowsB n ca cv)] H := hP
  have hD : WD A [[(e0, .inr (1, [.ref e1, .ref e2, .ref e3, .ref e4, .ref e5, .int td, .int pk, .int pd]))], [(e1, .inr (11, [.int m0, .ref x0.1, .int (nI n)]))], (alA Γ x0), (cowsB n ca cv)] := hD
  refine lv_if_ne (tgt := 10) hx hb dX2_refusesServe_5 (by decide) (fun c_2 => ?_) (fun c_2 => ?_)
  · -- 5 taken
    obtain ⟨k, hk, rfl⟩ := thC_nat (by omega) c_2
    refine lv_aload_n hx hb dX2_refusesServe_10 rfl (lv_at hl 0 rfl) ?_
    refine b_get (C := RX2) (T := TX2) (N := 8) (v := .ref e1) hx hb hts in_X2 hown hK (b_at (k := 0) hP rfl) rfl 0 (by decide) q163 (fun _ h9 => h9) rfl dX2_refusesServe_11 ?_
    refine lv_iload_n hx hb dX2_refusesServe_14 rfl (lv_at hl 1 rfl) ?_
    refine b_callq (br := [[(e0, .inr (1, [.ref e1, .ref e2, .ref e3, .ref e4, .ref e5, .int td, .int pk, .int pd]))], (cowsB n ca cv)]) (b_runV ⟨hx, hb, hml, hown, hts⟩ (mt_AL_get l Γ _ e1 m0 x0 n ca k hal0 (by omega)) (lw_V q963 q964 q965 q66 q966) rfl rfl 1 (by decide +kernel) ⟨(Nat.le_of_ble_eq_true rfl), (Nat.le_of_ble_eq_true rfl)⟩ (c_pre hP hD hS hA hK hE [1, 2] rfl rfl ro_nil) (recv_at (q := (RJ2, TJ2, 3)) hK (b_at (k := 1) hP rfl) rfl) rfl hl.1 rfl (Nat.le_of_ble_eq_true rfl) dX2_refusesServe_15 ⟨(Nat.le_of_ble_eq_true rfl), (Nat.le_of_ble_eq_true rfl)⟩) hP hD hS hA [1, 2] [0, 3] rfl rfl rfl (fun r_3 u_3 H locs hw_3 hP hD hS _ => ?_)
    obtain ⟨rfl, rfl⟩ := hw_3
    have hP : WP Γ [[(e1, .inr (11, [.int m0, .ref x0.1, .int (nI n)]))], (alA Γ x0), [(e0, .inr (1, [.ref e1, .ref e2, .ref e3, .ref e4, .ref e5, .int td, .int pk, .int pd]))], (cowsB n ca cv)] H := hP
    have hD : WD A [[(e1, .inr (11, [.int m0, .ref x0.1, .int (nI n)]))], (alA Γ x0), [(e0, .inr (1, [.ref e1, .ref e2, .ref e3, .ref e4, .ref e5, .int td, .int pk, .int pd]))], (cowsB n ca cv)] := hD
    refine W.eq (g2 := F0 mi_ 18 ls ([.ref (ca k)])) rfl ?_
    have hP : WP Γ [(cowsB n ca cv), [(e1, .inr (11, [.int m0, .ref x0.1, .int (nI n)]))], (alA Γ x0), [(e0, .inr (1, [.ref e1, .ref e2, .ref e3, .ref e4, .ref e5, .int td, .int pk, .int pd]))]] H := bP_sel hP [3, 0, 1, 2] rfl
    have hD : WD A [(cowsB n ca cv), [(e1, .inr (11, [.int m0, .ref x0.1, .int (nI n)]))], (alA Γ x0), [(e0, .inr (1, [.ref e1, .ref e2, .ref e3, .ref e4, .ref e5, .int td, .int pk, .int pd]))]] := bD_sel hD [3, 0, 1, 2] rfl rfl
    have hP : WP Γ [[((ca k), cowE (cv k))], (cowsX n k ca cv), [(e1, .inr (11, [.int m0, .ref x0.1, .int (nI n)]))], (alA Γ x0), [(e0, .inr (1, [.ref e1, .ref e2, .ref e3, .ref e4, .ref e5, .int td, .int pk, .int pd]))]] H := cowP_focus hk hP
    have hD : WD A [[((ca k), cowE (cv k))], (cowsX n k ca cv), [(e1, .inr (11, [.int m0, .ref x0.1, .int (nI n)]))], (alA Γ x0), [(e0, .inr (1, [.ref e1, .ref e2, .ref e3, .ref e4, .ref e5, .int td, .int pk, .int pd]))]] := cowD_focus hk hD
    refine va_castS hx hb hown (hts _ q412) (hK.1 4 _ rfl).2 (recv_at (q := (RX5, TX5, 12)) hK (b_at (k := 0) hP rfl) rfl) dX2_refusesServe_18 ?_
    refine lv_astore_n (lv' := [(2, .ref (ca k)), (0, .ref e0), (1, .int (nI k))]) hx hb dX2_refusesServe_21 rfl hl (by decide) rfl (fun ls hl => ?_)
    refine lv_aload_n hx hb dX2_refusesServe_22 rfl (lv_at hl 0 rfl) ?_
    refine b_calli (br := [(cowsX n k ca cv), [(e1, .inr (11, [.int m0, .ref x0.1, .int (nI n)]))], (alA Γ x0), [(e0, .inr (1, [.ref e1, .ref e2, .ref e3, .ref e4, .ref e5, .int td, .int pk, .int pd]))]]) (b_runV ⟨hx, hb, hml, hown, hts⟩ (mt_Cow_isCarrying l Γ _ (ca k) (cv k)) (lw_V q1024 q1025 q1026 q81 q1027) rfl rfl 0 (by decide +kernel) ⟨(Nat.le_of_ble_eq_true rfl), (Nat.le_of_ble_eq_true rfl)⟩ (c_pre hP hD hS hA hK hE [0] rfl rfl ro_nil) (recv_at (q := (RX5, TX5, 12)) hK (b_at (k := 0) hP rfl) rfl) rfl hl.1 rfl (Nat.le_of_ble_eq_true rfl) dX2_refusesServe_23 ⟨(Nat.le_of_ble_eq_true rfl), (Nat.le_of_ble_eq_true rfl)⟩) hP hD hS hA [0] [1, 2, 3, 4] rfl rfl rfl (fun r_4 u_4 H locs hw_4 hP hD hS _ => ?_)
    obtain ⟨rfl, rfl⟩ := hw_4
    have hP : WP Γ [[((ca k), cowE (cv k))], (cowsX n k ca cv), [(e1, .inr (11, [.int m0, .ref x0.1, .int (nI n)]))], (alA Γ x0), [(e0, .inr (1, [.ref e1, .ref e2, .ref e3, .ref e4, .ref e5, .int td, .int pk, .int pd]))]] H := hP
    have hD : WD A [[((ca k), cowE (cv k))], (cowsX n k ca cv), [(e1, .inr (11, [.int m0, .ref x0.1, .int (nI n)]))], (alA Γ x0), [(e0, .inr (1, [.ref e1, .ref e2, .ref e3, .ref e4, .ref e5, .int td, .int pk, .int pd]))]] := hD
    refine lv_if_ne (tgt := 49) hx hb dX2_refusesServe_26 (by decide) (fun c_5 => ?_) (fun c_5 => ?_)
    · -- 26 taken
      refine lv_iconst (v := 3) hx hb dX2_refusesServe_49 (by decide) ?_
      refine lv_goto (tgt := 54) hx hb dX2_refusesServe_50 (by decide) ?_
      have hP : WP Γ [(cowsB n ca (va_up cv k (cv k))), [(e1, .inr (11, [.int m0, .ref x0.1, .int (nI n)]))], (alA Γ x0), [(e0, .inr (1, [.ref e1, .ref e2, .ref e3, .ref e4, .ref e5, .int td, .int pk, .int pd]))]] H := cowP_un hk hP
      have hD : WD A [(cowsB n ca (va_up cv k (cv k))), [(e1, .inr (11, [.int m0, .ref x0.1, .int (nI n)]))], (alA Γ x0), [(e0, .inr (1, [.ref e1, .ref e2, .ref e3, .ref e4, .ref e5, .int td, .int pk, .int pd]))]] := cowD_un hk hD
      rw [up_same] at hP hD
      have hP : WP Γ [[(e0, .inr (1, [.ref e1, .ref e2, .ref e3, .ref e4, .ref e5, .int td, .int pk, .int pd]))], [(e1, .inr (11, [.int m0, .ref x0.1, .int (nI n)]))], (alA Γ x0), (cowsB n ca cv)] H := bP_sel hP [3, 1, 2, 0] rfl
      have hD : WD A [[(e0, .inr (1, [.ref e1, .ref e2, .ref e3, .ref e4, .ref e5, .int td, .int pk, .int pd]))], [(e1, .inr (11, [.int m0, .ref x0.1, .int (nI n)]))], (alA Γ x0), (cowsB n ca cv)] := bD_sel hD [3, 1, 2, 0] rfl rfl
      exact b_iret hx hb hr hlocks hP hD hS (Nat.le_of_ble_eq_true rfl) (Nat.le_of_ble_eq_true rfl) ⟨(by first | with_reducible rfl | (simp [rfServe, c_2, nI_clamp (show k < 2 ^ 31 by omega), c_5]; done) | rfl), (by first | with_reducible rfl | (simp [rfServe, c_2, nI_clamp (show k < 2 ^ 31 by omega), c_5]; done) | rfl)⟩ dX2_refusesServe_54
    · -- 26 not taken
      refine lv_aload_n hx hb dX2_refusesServe_29 rfl (lv_at hl 0 rfl) ?_
      refine b_calli (br := [(cowsX n k ca cv), [(e1, .inr (11, [.int m0, .ref x0.1, .int (nI n)]))], (alA Γ x0), [(e0, .inr (1, [.ref e1, .ref e2, .ref e3, .ref e4, .ref e5, .int td, .int pk, .int pd]))]]) (b_runV ⟨hx, hb, hml, hown, hts⟩ (mt_Cow_isMilked l Γ _ (ca k) (cv k)) (lw_V q1028 q1029 q1030 q81 q1031) rfl rfl 0 (by decide +kernel) ⟨(Nat.le_of_ble_eq_true rfl), (Nat.le_of_ble_eq_true rfl)⟩ (c_pre hP hD hS hA hK hE [0] rfl rfl ro_nil) (recv_at (q := (RX5, TX5, 12)) hK (b_at (k := 0) hP rfl) rfl) rfl hl.1 rfl (Nat.le_of_ble_eq_true rfl) dX2_refusesServe_30 ⟨(Nat.le_of_ble_eq_true rfl), (Nat.le_of_ble_eq_true rfl)⟩) hP hD hS hA [0] [1, 2, 3, 4] rfl rfl rfl (fun r_6 u_6 H locs hw_6 hP hD hS _ => ?_)
      obtain ⟨rfl, rfl⟩ := hw_6
      have hP : WP Γ [[((ca k), cowE (cv k))], (cowsX n k ca cv), [(e1, .inr (11, [.int m0, .ref x0.1, .int (nI n)]))], (alA Γ x0), [(e0, .inr (1, [.ref e1, .ref e2, .ref e3, .ref e4, .ref e5, .int td, .int pk, .int pd]))]] H := hP
      have hD : WD A [[((ca k), cowE (cv k))], (cowsX n k ca cv), [(e1, .inr (11, [.int m0, .ref x0.1, .int (nI n)]))], (alA Γ x0), [(e0, .inr (1, [.ref e1, .ref e2, .ref e3, .ref e4, .ref e5, .int td, .int pk, .int pd]))]] := hD
      refine lv_if_eq (tgt := 53) hx hb dX2_refusesServe_33 (by decide) (fun c_7 => ?_) (fun c_7 => ?_)
      · -- 33 taken
        refine lv_iconst (v := 0) hx hb dX2_refusesServe_53 (by decide) ?_
        have hP : WP Γ [(cowsB n ca (va_up cv k (cv k))), [(e1, .inr (11, [.int m0, .ref x0.1, .int (nI n)]))], (alA Γ x0), [(e0, .inr (1, [.ref e1, .ref e2, .ref e3, .ref e4, .ref e5, .int td, .int pk, .int pd]))]] H := cowP_un hk hP
        have hD : WD A [(cowsB n ca (va_up cv k (cv k))), [(e1, .inr (11, [.int m0, .ref x0.1, .int (nI n)]))], (alA Γ x0), [(e0, .inr (1, [.ref e1, .ref e2, .ref e3, .ref e4, .ref e5, .int td, .int pk, .int pd]))]] := cowD_un hk hD
        rw [up_same] at hP hD
        have hP : WP Γ [[(e0, .inr (1, [.ref e1, .ref e2, .ref e3, .ref e4, .ref e5, .int td, .int pk, .int pd]))], [(e1, .inr (11, [.int m0, .ref x0.1, .int (nI n)]))], (alA Γ x0), (cowsB n ca cv)] H := bP_sel hP [3, 1, 2, 0] rfl
        have hD : WD A [[(e0, .inr (1, [.ref e1, .ref e2, .ref e3, .ref e4, .ref e5, .int td, .int pk, .int pd]))], [(e1, .inr (11, [.int m0, .ref x0.1, .int (nI n)]))], (alA Γ x0), (cowsB n ca cv)] := bD_sel hD [3, 1, 2, 0] rfl rfl
        exact b_iret hx hb hr hlocks hP hD hS (Nat.le_of_ble_eq_true rfl) (Nat.le_of_ble_eq_true rfl) ⟨(by first | with_reducible rfl | (simp [rfServe, c_2, nI_clamp (show k < 2 ^ 31 by omega), c_5, c_7]; done) | rfl), (by first | with_reducible rfl | (simp [rfServe, c_2, nI_clamp (show k < 2 ^ 31 by omega), c_5, c_7]; done) | rfl)⟩ dX2_refusesServe_54
      · -- 33 not taken
        refine lv_aload_n hx hb dX2_refusesServe_36 rfl (lv_at hl 0 rfl) ?_
        refine lv_aload_n hx hb dX2_refusesServe_37 rfl (lv_at hl 1 rfl) ?_
        refine b_get (C := RX2) (T := TX2) (N := 8) (v := .int td) hx hb hts in_X2 hown hK (b_at (k := 4) hP rfl) rfl 5 (by decide) q174 (fun _ h9 => h9) rfl dX2_refusesServe_38 ?_
        refine b_calli (br := [(cowsX n k ca cv), [(e1, .inr (11, [.int m0, .ref x0.1, .int (nI n)]))], (alA Γ x0), [(e0, .inr (1, [.ref e1, .ref e2, .ref e3, .ref e4, .ref e5, .int td, .int pk, .int pd]))]]) (b_runV ⟨hx, hb, hml, hown, hts⟩ (mt_Cow_daysInMilk l Γ _ (ca k) (cv k) td) (lw_V q1032 q1033 q1034 q81 q1035) rfl rfl 1 (by decide +kernel) ⟨(Nat.le_of_ble_eq_true rfl), (Nat.le_of_ble_eq_true rfl)⟩ (c_pre hP hD hS hA hK hE [0] rfl rfl ro_nil) (recv_at (q := (RX5, TX5, 12)) hK (b_at (k := 0) hP rfl) rfl) rfl hl.1 rfl (Nat.le_of_ble_eq_true rfl) dX2_refusesServe_41 ⟨(Nat.le_of_ble_eq_true rfl), (Nat.le_of_ble_eq_true rfl)⟩) hP hD hS hA [0] [1, 2, 3, 4] rfl rfl rfl (fun r_8 u_8 H locs hw_8 hP hD hS _ => ?_)
        obtain ⟨rfl, rfl⟩ := hw_8
        have hP : WP Γ [[((ca k), cowE (cv k))], (cowsX n k ca cv), [(e1, .inr (11, [.int m0, .ref x0.1, .int (nI n)]))], (alA Γ x0), [(e0, .inr (1, [.ref e1, .ref e2, .ref e3, .ref e4, .ref e5, .int td, .int pk, .int pd]))]] H := hP
        have hD : WD A [[((ca k), cowE (cv k))], (cowsX n k ca cv), [(e1, .inr (11, [.int m0, .ref x0.1, .int (nI n)]))], (alA Γ x0), [(e0, .inr (1, [.ref e1, .ref e2, .ref e3, .ref e4, .ref e5, .int td, .int pk, .int pd]))]] := hD
        refine lv_bipush (v := 20) hx hb dX2_refusesServe_44 (by decide) ?_
        refine lv_icmp_ge (tgt := 53) hx hb dX2_refusesServe_46 (by decide) (fun c_9 => ?_) (fun c_9 => ?_)
        · -- 46 taken
          have d_9 := Int32.not_lt.mpr c_9
          refine lv_iconst (v := 0) hx hb dX2_refusesServe_53 (by decide) ?_
          have hP : WP Γ [(cowsB n ca (va_up cv k (cv k))), [(e1, .inr (11, [.int m0, .ref x0.1, .int (nI n)]))], (alA Γ x0), [(e0, .inr (1, [.ref e1, .ref e2, .ref e3, .ref e4, .ref e5, .int td, .int pk, .int pd]))]] H := cowP_un hk hP
          have hD : WD A [(cowsB n ca (va_up cv k (cv k))), [(e1, .inr (11, [.int m0, .ref x0.1, .int (nI n)]))], (alA Γ x0), [(e0, .inr (1, [.ref e1, .ref e2, .ref e3, .ref e4, .ref e5, .int td, .int pk, .int pd]))]] := cowD_un hk hD
          rw [up_same] at hP hD
          have hP : WP Γ [[(e0, .inr (1, [.ref e1, .ref e2, .ref e3, .ref e4, .ref e5, .int td, .int pk, .int pd]))], [(e1, .inr (11, [.int m0, .ref x0.1, .int (nI n)]))], (alA Γ x0), (cowsB n ca cv)] H := bP_sel hP [3, 1, 2, 0] rfl
          have hD : WD A [[(e0, .inr (1, [.ref e1, .ref e2, .ref e3, .ref e4, .ref e5, .int td, .int pk, .int pd]))], [(e1, .inr (11, [.int m0, .ref x0.1, .int (nI n)]))], (alA Γ x0), (cowsB n ca cv)] := bD_sel hD [3, 1, 2, 0] rfl rfl
          exact b_iret hx hb hr hlocks hP hD hS (Nat.le_of_ble_eq_true rfl) (Nat.le_of_ble_eq_true rfl) ⟨(by first | with_reducible rfl | (simp [rfServe, c_2, nI_clamp (show k < 2 ^ 31 by omega), c_5, c_7, c_9, d_9]; done) | rfl), (by first | with_reducible rfl | (simp [rfServe, c_2, nI_clamp (show k < 2 ^ 31 by omega), c_5, c_7, c_9, d_9]; done) | rfl)⟩ dX2_refusesServe_54
        · -- 46 not taken
          have d_9 := Int32.not_le.mp c_9
          refine lv_iconst (v := 3) hx hb dX2_refusesServe_49 (by decide) ?_
          refine lv_goto (tgt := 54) hx hb dX2_refusesServe_50 (by decide) ?_
          have hP : WP Γ [(cowsB n ca (va_up cv k (cv k))), [(e1, .inr (11, [.int m0, .ref x0.1, .int (nI n)]))], (alA Γ x0), [(e0, .inr (1, [.ref e1, .ref e2, .ref e3, .ref e4, .ref e5, .int td, .int pk, .int pd]))]] H := cowP_un hk hP
          have hD : WD A [(cowsB n ca (va_up cv k (cv k))), [(e1, .inr (11, [.int m0, .ref x0.1, .int (nI n)]))], (alA Γ x0), [(e0, .inr (1, [.ref e1, .ref e2, .ref e3, .ref e4, .ref e5, .int td, .int pk, .int pd]))]] := cowD_un hk hD
          rw [up_same] at hP hD
          have hP : WP Γ [[(e0, .inr (1, [.ref e1, .ref e2, .ref e3, .ref e4, .ref e5, .int td, .int pk, .int pd]))], [(e1, .inr (11, [.int m0, .ref x0.1, .int (nI n)]))], (alA Γ x0), (cowsB n ca cv)] H := bP_sel hP [3, 1, 2, 0] rfl
          have hD : WD A [[(e0, .inr (1, [.ref e1, .ref e2, .ref e3, .ref e4, .ref e5, .int td, .int pk, .int pd]))], [(e1, .inr (11, [.int m0, .ref x0.1, .int (nI n)]))], (alA Γ x0), (cowsB n ca cv)] := bD_sel hD [3, 1, 2, 0] rfl rfl
          exact b_iret hx hb hr hlocks hP hD hS (Nat.le_of_ble_eq_true rfl) (Nat.le_of_ble_eq_true rfl) ⟨(by first | with_reducible rfl | (simp [rfServe, c_2, nI_clamp (show k < 2 ^ 31 by omega), c_5, c_7, c_9, d_9]; done) | rfl), (by first | with_reducible rfl | (simp [rfServe, c_2, nI_clamp (show k < 2 ^ 31 by omega), c_5, c_7, c_9, d_9]; done) | rfl)⟩ dX2_refusesServe_54
  · -- 5 not taken
    refine lv_iconst (v := 1) hx hb dX2_refusesServe_8 (by decide) ?_
    exact b_iret hx hb hr hlocks hP hD hS (Nat.le_of_ble_eq_true rfl) (Nat.le_of_ble_eq_true rfl) ⟨(by first | with_reducible rfl | (simp [rfServe, c_2]; done) | rfl), (by first | with_reducible rfl | (simp [rfServe, c_2]; done) | rfl)⟩ dX2_refusesServe_9
set_option maxHeartbeats 4000000 in
set_option maxRecDepth 100000 in
theorem mt_Hd_refusesDry (l : Launch) (Γ : GE) (sz : Nat) (e0 : Nat) (e1 : Nat) (e2 : Nat) (e3 : Nat) (e4 : Nat) (e5 : Nat) (td : Int32) (pk : Int32) (pd : Int32) (x0 : LST) (m0 : Int32) (n : Nat) (ca : Nat → Nat) (cv : Nat → Nat → Int32) (c : Int32) (hal0 : alI Γ x0 n ca) (hn8 : n ≤ 8) : KM l yX2_refusesDry cX2_refusesDry 2 (some FieldType.int) Γ 4 85 0 0 [.ref e0, .int c] [[(e0, .inr (1, [.ref e1, .ref e2, .ref e3, .ref e4, .ref e5, .int td, .int pk, .int pd]))], [(e1, .inr (11, [.int m0, .ref x0.1, .int (nI n)]))], (alA Γ x0), (cowsB n ca cv)] [] sz (Qi Γ (fun r_ u_ => r_ = (rfDry n cv c) ∧ u_ = [[(e0, .inr (1, [.ref e1, .ref e2, .ref e3, .ref e4, .ref e5, .int td, .int pk, .int pd]))], [(e1, .inr (11, [.int m0, .ref x0.1, .int (nI n)]))], (alA Γ x0), (cowsB n ca cv)])) := by
  refine K_intro (by decide) (Nat.le_of_ble_eq_true rfl) ?_
  intro pr_ ev_ s mi_ below meth cd_ A ls hx hb hr hml hown hts hlocks hname hK hE hRo hP hD hA hS hsz hl
  have hl : lv_has ls 2 [(0, .ref e0), (1, .int c)] := hl
  have hown : s.vm.findClass RX2 = some mi_.cls := hown
  refine lv_aload_n hx hb dX2_refusesDry_0 rfl (lv_at hl 0 rfl) ?_
  refine lv_iload_n hx hb dX2_refusesDry_1 rfl (lv_at hl 1 rfl) ?_
  refine b_calli (br := []) (b_runV ⟨hx, hb, hml, hown, hts⟩ (mt_Hd_isThere l Γ _ e0 e1 e2 e3 e4 e5 td pk pd x0 m0 n ca cv c (by assumption) (by first | assumption | omega)) (lw_V q957 q959 qs8 q63 q960) rfl rfl 1 (by decide +kernel) ⟨(Nat.le_of_ble_eq_true rfl), (Nat.le_of_ble_eq_true rfl)⟩ (c_pre hP hD hS hA hK hE [0, 1, 2, 3] rfl rfl ro_nil) (recv_at (q := (RX2, TX2, 8)) hK (b_at (k := 0) hP rfl) rfl) rfl hl.1 rfl (Nat.le_of_ble_eq_true rfl) dX2_refusesDry_2 ⟨(Nat.le_of_ble_eq_true rfl), (Nat.le_of_ble_eq_true rfl)⟩) hP hD hS hA [0, 1, 2, 3] [] rfl rfl rfl (fun r_1 u_1 H locs hw_1 hP hD hS _ => ?_)
  obtain ⟨rfl, rfl⟩ := hw_1
  have hP : WP Γ [[(e0, .inr (1, [.ref e1, .ref e2, .ref e3, .ref e4, .ref e5, .int td, .int pk, .int pd]))], [(e1, .inr (11, [.int m0, .ref x0.1, .int (nI n)]))], (alA Γ x0), (cowsB n ca cv)] H := hP
  have hD : WD A [[(e0, .inr (1, [.ref e1, .ref e2, .ref e3, .ref e4, .ref e5, .int td, .int pk, .int pd]))], [(e1, .inr (11, [.int m0, .ref x0.1, .int (nI n)]))], (alA Γ x0), (cowsB n ca cv)] := hD
  refine lv_if_ne (tgt := 10) hx hb dX2_refusesDry_5 (by decide) (fun c_2 => ?_) (fun c_2 => ?_)
  · -- 5 taken
    obtain ⟨k, hk, rfl⟩ := thC_nat (by omega) c_2
    refine lv_aload_n hx hb dX2_refusesDry_10 rfl (lv_at hl 0 rfl) ?_
    refine b_get (C := RX2) (T := TX2) (N := 8) (v := .ref e1) hx hb hts in_X2 hown hK (b_at (k := 0) hP rfl) rfl 0 (by decide) q163 (fun _ h9 => h9) rfl dX2_refusesDry_11 ?_
    refine lv_iload_n hx hb dX2_refusesDry_14 rfl (lv_at hl 1 rfl) ?_
    refine b_callq (br := [[(e0, .inr (1, [.ref e1, .ref e2, .ref e3, .ref e4, .ref e5, .int td, .int pk, .int pd]))], (cowsB n ca cv)]) (b_runV ⟨hx, hb, hml, hown, hts⟩ (mt_AL_get l Γ _ e1 m0 x0 n ca k hal0 (by omega)) (lw_V q963 q964 q965 q66 q966) rfl rfl 1 (by decide +kernel) ⟨(Nat.le_of_ble_eq_true rfl), (Nat.le_of_ble_eq_true rfl)⟩ (c_pre hP hD hS hA hK hE [1, 2] rfl rfl ro_nil) (recv_at (q := (RJ2, TJ2, 3)) hK (b_at (k := 1) hP rfl) rfl) rfl hl.1 rfl (Nat.le_of_ble_eq_true rfl) dX2_refusesDry_15 ⟨(Nat.le_of_ble_eq_true rfl), (Nat.le_of_ble_eq_true rfl)⟩) hP hD hS hA [1, 2] [0, 3] rfl rfl rfl (fun r_3 u_3 H locs hw_3 hP hD hS _ => ?_)
    obtain ⟨rfl, rfl⟩ := hw_3
    have hP : WP Γ [[(e1, .inr (11, [.int m0, .ref x0.1, .int (nI n)]))], (alA Γ x0), [(e0, .inr (1, [.ref e1, .ref e2, .ref e3, .ref e4, .ref e5, .int td, .int pk, .int pd]))], (cowsB n ca cv)] H := hP
    have hD : WD A [[(e1, .inr (11, [.int m0, .ref x0.1, .int (nI n)]))], (alA Γ x0), [(e0, .inr (1, [.ref e1, .ref e2, .ref e3, .ref e4, .ref e5, .int td, .int pk, .int pd]))], (cowsB n ca cv)] := hD
    refine W.eq (g2 := F0 mi_ 18 ls ([.ref (ca k)])) rfl ?_
    have hP : WP Γ [(cowsB n ca cv), [(e1, .inr (11, [.int m0, .ref x0.1, .int (nI n)]))], (alA Γ x0), [(e0, .inr (1, [.ref e1, .ref e2, .ref e3, .ref e4, .ref e5, .int td, .int pk, .int pd]))]] H := bP_sel hP [3, 0, 1, 2] rfl
    have hD : WD A [(cowsB n ca cv), [(e1, .inr (11, [.int m0, .ref x0.1, .int (nI n)]))], (alA Γ x0), [(e0, .inr (1, [.ref e1, .ref e2, .ref e3, .ref e4, .ref e5, .int td, .int pk, .int pd]))]] := bD_sel hD [3, 0, 1, 2] rfl rfl
    have hP : WP Γ [[((ca k), cowE (cv k))], (cowsX n k ca cv), [(e1, .inr (11, [.int m0, .ref x0.1, .int (nI n)]))], (alA Γ x0), [(e0, .inr (1, [.ref e1, .ref e2, .ref e3, .ref e4, .ref e5, .int td, .int pk, .int pd]))]] H := cowP_focus hk hP
    have hD : WD A [[((ca k), cowE (cv k))], (cowsX n k ca cv), [(e1, .inr (11, [.int m0, .ref x0.1, .int (nI n)]))], (alA Γ x0), [(e0, .inr (1, [.ref e1, .ref e2, .ref e3, .ref e4, .ref e5, .int td, .int pk, .int pd]))]] := cowD_focus hk hD
    refine va_castS hx hb hown (hts _ q412) (hK.1 4 _ rfl).2 (recv_at (q := (RX5, TX5, 12)) hK (b_at (k := 0) hP rfl) rfl) dX2_refusesDry_18 ?_
    refine b_calli (br := [(cowsX n k ca cv), [(e1, .inr (11, [.int m0, .ref x0.1, .int (nI n)]))], (alA Γ x0), [(e0, .inr (1, [.ref e1, .ref e2, .ref e3, .ref e4, .ref e5, .int td, .int pk, .int pd]))]]) (b_runV ⟨hx, hb, hml, hown, hts⟩ (mt_Cow_isMilked l Γ _ (ca k) (cv k)) (lw_V q1028 q1029 q1030 q81 q1031) rfl rfl 0 (by decide +kernel) ⟨(Nat.le_of_ble_eq_true rfl), (Nat.le_of_ble_eq_true rfl)⟩ (c_pre hP hD hS hA hK hE [0] rfl rfl ro_nil) (recv_at (q := (RX5, TX5, 12)) hK (b_at (k := 0) hP rfl) rfl) rfl hl.1 rfl (Nat.le_of_ble_eq_true rfl) dX2_refusesDry_21 ⟨(Nat.le_of_ble_eq_true rfl), (Nat.le_of_ble_eq_true rfl)⟩) hP hD hS hA [0] [1, 2, 3, 4] rfl rfl rfl (fun r_4 u_4 H locs hw_4 hP hD hS _ => ?_)
    obtain ⟨rfl, rfl⟩ := hw_4
    have hP : WP Γ [[((ca k), cowE (cv k))], (cowsX n k ca cv), [(e1, .inr (11, [.int m0, .ref x0.1, .int (nI n)]))], (alA Γ x0), [(e0, .inr (1, [.ref e1, .ref e2, .ref e3, .ref e4, .ref e5, .int td, .int pk, .int pd]))]] H := hP
    have hD : WD A [[((ca k), cowE (cv k))], (cowsX n k ca cv), [(e1, .inr (11, [.int m0, .ref x0.1, .int (nI n)]))], (alA Γ x0), [(e0, .inr (1, [.ref e1, .ref e2, .ref e3, .ref e4, .ref e5, .int td, .int pk, .int pd]))]] := hD
    refine lv_if_eq (tgt := 31) hx hb dX2_refusesDry_24 (by decide) (fun c_5 => ?_) (fun c_5 => ?_)
    · -- 24 taken
      refine lv_iconst (v := 4) hx hb dX2_refusesDry_31 (by decide) ?_
      have hP : WP Γ [(cowsB n ca (va_up cv k (cv k))), [(e1, .inr (11, [.int m0, .ref x0.1, .int (nI n)]))], (alA Γ x0), [(e0, .inr (1, [.ref e1, .ref e2, .ref e3, .ref e4, .ref e5, .int td, .int pk, .int pd]))]] H := cowP_un hk hP
      have hD : WD A [(cowsB n ca (va_up cv k (cv k))), [(e1, .inr (11, [.int m0, .ref x0.1, .int (nI n)]))], (alA Γ x0), [(e0, .inr (1, [.ref e1, .ref e2, .ref e3, .ref e4, .ref e5, .int td, .int pk, .int pd]))]] := cowD_un hk hD
      rw [up_same] at hP hD
      have hP : WP Γ [[(e0, .inr (1, [.ref e1, .ref e2, .ref e3, .ref e4, .ref e5, .int td, .int pk, .int pd]))], [(e1, .inr (11, [.int m0, .ref x0.1, .int (nI n)]))], (alA Γ x0), (cowsB n ca cv)] H := bP_sel hP [3, 1, 2, 0] rfl
      have hD : WD A [[(e0, .inr (1, [.ref e1, .ref e2, .ref e3, .ref e4, .ref e5, .int td, .int pk, .int pd]))], [(e1, .inr (11, [.int m0, .ref x0.1, .int (nI n)]))], (alA Γ x0), (cowsB n ca cv)] := bD_sel hD [3, 1, 2, 0] rfl rfl
      exact b_iret hx hb hr hlocks hP hD hS (Nat.le_of_ble_eq_true rfl) (Nat.le_of_ble_eq_true rfl) ⟨(by first | with_reducible rfl | (simp [rfDry, c_2, nI_clamp (show k < 2 ^ 31 by omega), c_5]; done) | rfl), (by first | with_reducible rfl | (simp [rfDry, c_2, nI_clamp (show k < 2 ^ 31 by omega), c_5]; done) | rfl)⟩ dX2_refusesDry_32
    · -- 24 not taken
      refine lv_iconst (v := 0) hx hb dX2_refusesDry_27 (by decide) ?_
      refine lv_goto (tgt := 32) hx hb dX2_refusesDry_28 (by decide) ?_
      have hP : WP Γ [(cowsB n ca (va_up cv k (cv k))), [(e1, .inr (11, [.int m0, .ref x0.1, .int (nI n)]))], (alA Γ x0), [(e0, .inr (1, [.ref e1, .ref e2, .ref e3, .ref e4, .ref e5, .int td, .int pk, .int pd]))]] H := cowP_un hk hP
      have hD : WD A [(cowsB n ca (va_up cv k (cv k))), [(e1, .inr (11, [.int m0, .ref x0.1, .int (nI n)]))], (alA Γ x0), [(e0, .inr (1, [.ref e1, .ref e2, .ref e3, .ref e4, .ref e5, .int td, .int pk, .int pd]))]] := cowD_un hk hD
      rw [up_same] at hP hD
      have hP : WP Γ [[(e0, .inr (1, [.ref e1, .ref e2, .ref e3, .ref e4, .ref e5, .int td, .int pk, .int pd]))], [(e1, .inr (11, [.int m0, .ref x0.1, .int (nI n)]))], (alA Γ x0), (cowsB n ca cv)] H := bP_sel hP [3, 1, 2, 0] rfl
      have hD : WD A [[(e0, .inr (1, [.ref e1, .ref e2, .ref e3, .ref e4, .ref e5, .int td, .int pk, .int pd]))], [(e1, .inr (11, [.int m0, .ref x0.1, .int (nI n)]))], (alA Γ x0), (cowsB n ca cv)] := bD_sel hD [3, 1, 2, 0] rfl rfl
      exact b_iret hx hb hr hlocks hP hD hS (Nat.le_of_ble_eq_true rfl) (Nat.le_of_ble_eq_true rfl) ⟨(by first | with_reducible rfl | (simp [rfDry, c_2, nI_clamp (show k < 2 ^ 31 by omega), c_5]; done) | rfl), (by first | with_reducible rfl | (simp [rfDry, c_2, nI_clamp (show k < 2 ^ 31 by omega), c_5]; done) | rfl)⟩ dX2_refusesDry_32
  · -- 5 not taken
    refine lv_iconst (v := 1) hx hb dX2_refusesDry_8 (by decide) ?_
    exact b_iret hx hb hr hlocks hP hD hS (Nat.le_of_ble_eq_true rfl) (Nat.le_of_ble_eq_true rfl) ⟨(by first | with_reducible rfl | (simp [rfDry, c_2]; done) | rfl), (by first | with_reducible rfl | (simp [rfDry, c_2]; done) | rfl)⟩ dX2_refusesDry_9
theorem b_atm {D : va_G} {cl : List vw_C} {bs : BW} {H : Heap} (h : va_P D cl bs.flatten H) {k : Nat} {B : va_W} (hk : bs[k]? = some B) {x : Nat × va_E} (hm : x ∈ B) : va_at D cl x H := bP_iff.mp h x (List.mem_flatten.mpr ⟨B, List.mem_of_getElem? hk, hm⟩)
theorem mem_blk {ro : BW} {k : Nat} {B : va_W} (hk : ro[k]? = some B) {x : Nat × va_E} (hm : x ∈ B) : x ∈ ro.flatten := List.mem_flatten.mpr ⟨B, List.mem_of_getElem? hk, hm⟩
def mxI (a b : Int32) : Int32 := if a < b then b else a
abbrev rowE (v : Nat → Int32) : va_E := .inr (5, [.int (v 0), .int (v 1)])
def rwNew (lim bon : Int32) : Nat → Int32 := fun k => if k = 0 then lim else bon
/-- the first row with a limit not below lim, or behind the last -/
def rwK (rv : Nat → Nat → Int32) (lim : Int32) : Nat → Nat → Nat
  | 0, j => j
  | f + 1, j => if rv j 0 < lim then rwK rv lim f (j + 1) else j
def rowK (rv : Nat → Nat → Int32) (lim : Int32) (nr : Nat) : Nat := rwK rv lim nr 0
def rowR (rv : Nat → Nat → Int32) (lim : Int32) (nr : Nat) : Int32 := if rowK rv lim nr < nr then (if rv (rowK rv lim nr) 0 = lim then nI (rowK rv lim nr) else -1 - nI (rowK rv lim nr)) else -1 - nI (rowK rv lim nr)
theorem rwK_le (rv : Nat → Nat → Int32) (lim : Int32) : ∀ f j, rwK rv lim f j ≤ j + f := by
  intro f
  induction f with
  | zero => intro j; exact Nat.le_refl _
  | succ f ih =>
    intro j
    rw [rwK]
    split
    · have := ih (j + 1); omega
    · omega
theorem rowK_le (rv : Nat → Nat → Int32) (lim : Int32) (nr : Nat) : rowK rv lim nr ≤ nr := by
  have := rwK_le rv lim nr 0
  unfold rowK
  omega
def rfBonus (rv : Nat → Nat → Int32) (nr : Nat) (lim bon : Int32) : Int32 := if inC lim 0 999 = 0 then 5 else if inC bon 0 20 = 0 then 5 else if nr = 4 then (if rowR rv lim nr < 0 then 5 else 0) else 0
set_option maxHeartbeats 4000000 in
set_option maxRecDepth 100000 in
theorem mt_Hd_hold (l : Launch) (Γ : GE) (sz : Nat) (e0 : Nat) (e1 : Nat) (e2 : Nat) (e3 : Nat) (e4 : Nat) (e5 : Nat) (td : Int32) (pk : Int32) (pd : Int32) (x0 : LST) (m0 : Int32) (n : Nat) (ca : Nat → Nat) (cv : Nat → Nat → Int32) (k : Nat) (v : Int32) (hal0 : alI Γ x0 n ca) (hn8 : n ≤ 8) (hk : k < n) : KM l yX2_hold cX2_hold 4 (some FieldType.int) Γ 3 64 0 0 [.ref e0, .int (nI k), .int v] [[(e0, .inr (1, [.ref e1, .ref e2, .ref e3, .ref e4, .ref e5, .int td, .int pk, .int pd]))], [(e1, .inr (11, [.int m0, .ref x0.1, .int (nI n)]))], (alA Γ x0), (cowsB n ca cv)] [] sz (Qi Γ (fun r_ u_ => r_ = (mxI ((cv k) 9) (td + v)) ∧ u_ = [[(e0, .inr (1, [.ref e1, .ref e2, .ref e3, .ref e4, .ref e5, .int td, .int pk, .int pd]))], [(e1, .inr (11, [.int m0, .ref x0.1, .int (nI n)]))], (alA Γ x0), (cowsB n ca (va_up cv k (upd (cv k) 9 (mxI ((cv k) 9) (td + v)))))])) := by
  refine K_intro (by decide) (Nat.le_of_ble_eq_true rfl) ?_
  intro pr_ ev_ s mi_ below meth cd_ A ls hx hb hr hml hown hts hlocks hname hK hE hRo hP hD hA hS hsz hl
  have hl : lv_has ls 4 [(0, .ref e0), (1, .int (nI k)), (2, .int v)] := hl
  have hown : s.vm.findClass RX2 = some mi_.cls := hown
  refine lv_aload_n hx hb dX2_hold_0 rfl (lv_at hl 0 rfl) ?_
  refine b_get (C := RX2) (T := TX2) (N := 8) (v := .ref e1) hx hb hts in_X2 hown hK (b_at (k := 0) hP rfl) rfl 0 (by decide) q163 (fun _ h9 => h9) rfl dX2_hold_1 ?_
  refine lv_iload_n hx hb dX2_hold_4 rfl (lv_at hl 1 rfl) ?_
  refine b_callq (br := [[(e0, .inr (1, [.ref e1, .ref e2, .ref e3, .ref e4, .ref e5, .int td, .int pk, .int pd]))], (cowsB n ca cv)]) (b_runV ⟨hx, hb, hml, hown, hts⟩ (mt_AL_get l Γ _ e1 m0 x0 n ca k hal0 (by omega)) (lw_V q963 q964 q965 q66 q966) rfl rfl 1 (by decide +kernel) ⟨(Nat.le_of_ble_eq_true rfl), (Nat.le_of_ble_eq_true rfl)⟩ (c_pre hP hD hS hA hK hE [1, 2] rfl rfl ro_nil) (recv_at (q := (RJ2, TJ2, 3)) hK (b_at (k := 1) hP rfl) rfl) rfl hl.1 rfl (Nat.le_of_ble_eq_true rfl) dX2_hold_5 ⟨(Nat.le_of_ble_eq_true rfl), (Nat.le_of_ble_eq_true rfl)⟩) hP hD hS hA [1, 2] [0, 3] rfl rfl rfl (fun r_1 u_1 H locs hw_1 hP hD hS _ => ?_)
  obtain ⟨rfl, rfl⟩ := hw_1
  have hP : WP Γ [[(e1, .inr (11, [.int m0, .ref x0.1, .int (nI n)]))], (alA Γ x0), [(e0, .inr (1, [.ref e1, .ref e2, .ref e3, .ref e4, .ref e5, .int td, .int pk, .int pd]))], (cowsB n ca cv)] H := hP
  have hD : WD A [[(e1, .inr (11, [.int m0, .ref x0.1, .int (nI n)]))], (alA Γ x0), [(e0, .inr (1, [.ref e1, .ref e2, .ref e3, .ref e4, .ref e5, .int td, .int pk, .int pd]))], (cowsB n ca cv)] := hD
  refine W.eq (g2 := F0 mi_ 8 ls ([.ref (ca k)])) rfl ?_
  have hP : WP Γ [(cowsB n ca cv), [(e1, .inr (11, [.int m0, .ref x0.1, .int (nI n)]))], (alA Γ x0), [(e0, .inr (1, [.ref e1, .ref e2, .ref e3, .ref e4, .ref e5, .int td, .int pk, .int pd]))]] H := bP_sel hP [3, 0, 1, 2] rfl
  have hD : WD A [(cowsB n ca cv), [(e1, .inr (11, [.int m0, .ref x0.1, .int (nI n)]))], (alA Γ x0), [(e0, .inr (1, [.ref e1, .ref e2, .ref e3, .ref e4, .ref e5, .int td, .int pk, .int pd]))]] := bD_sel hD [3, 0, 1, 2] rfl rfl
  have hP : WP Γ [[((ca k), cowE (cv k))], (cowsX n k ca cv), [(e1, .inr (11, [.int m0, .ref x0.1, .int (nI n)]))], (alA Γ x0), [(e0, .inr (1, [.ref e1, .ref e2, .ref e3, .ref e4, .ref e5, .int td, .int pk, .int pd]))]] H := cowP_focus hk hP
  have hD : WD A [[((ca k), cowE (cv k))], (cowsX n k ca cv), [(e1, .inr (11, [.int m0, .ref x0.1, .int (nI n)]))], (alA Γ x0), [(e0, .inr (1, [.ref e1, .ref e2, .ref e3, .ref e4, .ref e5, .int td, .int pk, .int pd]))]] := cowD_focus hk hD
  refine va_castS hx hb hown (hts _ q412) (hK.1 4 _ rfl).2 (recv_at (q := (RX5, TX5, 12)) hK (b_at (k := 0) hP rfl) rfl) dX2_hold_8 ?_
  refine lv_astore_n (lv' := [(3, .ref (ca k)), (0, .ref e0), (1, .int (nI k)), (2, .int v)]) hx hb dX2_hold_11 rfl hl (by decide) rfl (fun ls hl => ?_)
  refine lv_aload_n hx hb dX2_hold_12 rfl (lv_at hl 0 rfl) ?_
  refine lv_aload_n hx hb dX2_hold_13 rfl (lv_at hl 0 rfl) ?_
  refine b_getN (C := RX5) (T := TX5) (N := 12) (v := .int (cv k 9)) hx hb hts hE in_X5 hown hK (b_at (k := 0) hP rfl) rfl 9 (by decide) q442 (fun _ h9 => h9) rfl dX2_hold_14 ?_
  refine lv_aload_n hx hb dX2_hold_17 rfl (lv_at hl 1 rfl) ?_
  refine b_get (C := RX2) (T := TX2) (N := 8) (v := .int td) hx hb hts in_X2 hown hK (b_at (k := 4) hP rfl) rfl 5 (by decide) q174 (fun _ h9 => h9) rfl dX2_hold_18 ?_
  refine lv_iload_n hx hb dX2_hold_21 rfl (lv_at hl 3 rfl) ?_
  refine lv_iadd hx hb dX2_hold_22 ?_
  refine va_mmax hx hb (hml.trans hl.1.symm) hown (hts _ q1000) (hts _ q493) (hts _ q83) (hts _ q494) (Nat.le_of_ble_eq_true rfl) (Nat.le_of_ble_eq_true rfl) (Nat.le_of_ble_eq_true rfl) (Nat.le_of_ble_eq_true rfl) dX2_hold_23 ?_
  refine b_putN (C := RX5) (T := TX5) (N := 12) (ty := .int) (v := .int (if (cv k 9) < (td + v) then (td + v) else (cv k 9))) hx hb hts hE in_X5 tyX5_ok nmX5 hown hK hP hD hS 0 rfl rfl 9 (by decide) q442 (fun _ h9 => h9) rfl (by decide +kernel) rfl rfl (Nat.le_of_ble_eq_true rfl) dX2_hold_26 (fun H locs hP hD hS => ?_)
  have hP : WP Γ [[((ca k), cowE (upd (cv k) 9 (if (cv k 9) < (td + v) then (td + v) else (cv k 9))))], (cowsX n k ca cv), [(e1, .inr (11, [.int m0, .ref x0.1, .int (nI n)]))], (alA Γ x0), [(e0, .inr (1, [.ref e1, .ref e2, .ref e3, .ref e4, .ref e5, .int td, .int pk, .int pd]))]] H := hP
  have hD : WD A [[((ca k), cowE (upd (cv k) 9 (if (cv k 9) < (td + v) then (td + v) else (cv k 9))))], (cowsX n k ca cv), [(e1, .inr (11, [.int m0, .ref x0.1, .int (nI n)]))], (alA Γ x0), [(e0, .inr (1, [.ref e1, .ref e2, .ref e3, .ref e4, .ref e5, .int td, .int pk, .int pd]))]] := hD
  refine lv_aload_n hx hb dX2_hold_29 rfl (lv_at hl 0 rfl) ?_
  refine b_getN (C := RX5) (T := TX5) (N := 12) (v := .int (if (cv k 9) < (td + v) then (td + v) else (cv k 9))) hx hb hts hE in_X5 hown hK (b_at (k := 0) hP rfl) rfl 9 (by decide) q442 (fun _ h9 => h9) rfl dX2_hold_30 ?_
  rw [show (upd (cv k) 9 (if (cv k 9) < (td + v) then (td + v) else (cv k 9))) = (upd (cv k) 9 (mxI ((cv k) 9) (td + v))) from by rfl] at hP hD
  have hP : WP Γ [(cowsB n ca (va_up cv k (upd (cv k) 9 (mxI ((cv k) 9) (td + v))))), [(e1, .inr (11, [.int m0, .ref x0.1, .int (nI n)]))], (alA Γ x0), [(e0, .inr (1, [.ref e1, .ref e2, .ref e3, .ref e4, .ref e5, .int td, .int pk, .int pd]))]] H := cowP_un hk hP
  have hD : WD A [(cowsB n ca (va_up cv k (upd (cv k) 9 (mxI ((cv k) 9) (td + v))))), [(e1, .inr (11, [.int m0, .ref x0.1, .int (nI n)]))], (alA Γ x0), [(e0, .inr (1, [.ref e1, .ref e2, .ref e3, .ref e4, .ref e5, .int td, .int pk, .int pd]))]] := cowD_un hk hD
  have hP : WP Γ [[(e0, .inr (1, [.ref e1, .ref e2, .ref e3, .ref e4, .ref e5, .int td, .int pk, .int pd]))], [(e1, .inr (11, [.int m0, .ref x0.1, .int (nI n)]))], (alA Γ x0), (cowsB n ca (va_up cv k (upd (cv k) 9 (mxI ((cv k) 9) (td + v)))))] H := bP_sel hP [3, 1, 2, 0] rfl
  have hD : WD A [[(e0, .inr (1, [.ref e1, .ref e2, .ref e3, .ref e4, .ref e5, .int td, .int pk, .int pd]))], [(e1, .inr (11, [.int m0, .ref x0.1, .int (nI n)]))], (alA Γ x0), (cowsB n ca (va_up cv k (upd (cv k) 9 (mxI ((cv k) 9) (td + v)))))] := bD_sel hD [3, 1, 2, 0] rfl rfl
  exact b_iret hx hb hr hlocks hP hD hS (Nat.le_of_ble_eq_true rfl) (Nat.le_of_ble_eq_true rfl) ⟨(by first | rfl | (simp; done)), (by first | rfl | (simp; done))⟩ dX2_hold_33
set_option maxHeartbeats 4000000 in
set_option maxRecDepth 100000 in
theorem mt_Hd_serve (l : Launch) (Γ : GE) (sz : Nat) (e0 : Nat) (e1 : Nat) (e2 : Nat) (e3 : Nat) (e4 : Nat) (e5 : Nat) (td : Int32) (pk : Int32) (pd : Int32) (x0 : LST) (m0 : Int32) (n : Nat) (ca : Nat → Nat) (cv : Nat → Nat → Int32) (k : Nat) (se : Nat → Int32) (hal0 : alI Γ x0 n ca) (hn8 : n ≤ 8) (hk : k < n) : KM l yX2_serve cX2_serve 3 (some FieldType.int) Γ 3 64 0 0 [.ref e0, .int (nI k)] [[(e0, .inr (1, [.ref e1, .ref e2, .ref e3, .ref e4, .ref e5, .int td, .int pk, .int pd]))], [(e1, .inr (11, [.int m0, .ref x0.1, .int (nI n)]))], (alA Γ x0), (cowsB n ca cv), [(e5, .inl (Γ.2.1 0, 6, .inl se))]] [] sz (Qi Γ (fun r_ u_ => r_ = (td + se 0) ∧ u_ = [[(e0, .inr (1, [.ref e1, .ref e2, .ref e3, .ref e4, .ref e5, .int td, .int pk, .int pd]))], [(e1, .inr (11, [.int m0, .ref x0.1, .int (nI n)]))], (alA Γ x0), (cowsB n ca (va_up cv k (upd (cv k) 8 (td + se 0)))), [(e5, .inl (Γ.2.1 0, 6, .inl se))]])) := by
  refine K_intro (by decide) (Nat.le_of_ble_eq_true rfl) ?_
  intro pr_ ev_ s mi_ below meth cd_ A ls hx hb hr hml hown hts hlocks hname hK hE hRo hP hD hA hS hsz hl
  have hl : lv_has ls 3 [(0, .ref e0), (1, .int (nI k))] := hl
  have hown : s.vm.findClass RX2 = some mi_.cls := hown
  refine lv_aload_n hx hb dX2_serve_0 rfl (lv_at hl 0 rfl) ?_
  refine b_get (C := RX2) (T := TX2) (N := 8) (v := .ref e1) hx hb hts in_X2 hown hK (b_at (k := 0) hP rfl) rfl 0 (by decide) q163 (fun _ h9 => h9) rfl dX2_serve_1 ?_
  refine lv_iload_n hx hb dX2_serve_4 rfl (lv_at hl 1 rfl) ?_
  refine b_callq (br := [[(e0, .inr (1, [.ref e1, .ref e2, .ref e3, .ref e4, .ref e5, .int td, .int pk, .int pd]))], (cowsB n ca cv), [(e5, .inl (Γ.2.1 0, 6, .inl se))]]) (b_runV ⟨hx, hb, hml, hown, hts⟩ (mt_AL_get l Γ _ e1 m0 x0 n ca k hal0 (by omega)) (lw_V q963 q964 q965 q66 q966) rfl rfl 1 (by decide +kernel) ⟨(Nat.le_of_ble_eq_true rfl), (Nat.le_of_ble_eq_true rfl)⟩ (c_pre hP hD hS hA hK hE [1, 2] rfl rfl ro_nil) (recv_at (q := (RJ2, TJ2, 3)) hK (b_at (k := 1) hP rfl) rfl) rfl hl.1 rfl (Nat.le_of_ble_eq_true rfl) dX2_serve_5 ⟨(Nat.le_of_ble_eq_true rfl), (Nat.le_of_ble_eq_true rfl)⟩) hP hD hS hA [1, 2] [0, 3, 4] rfl rfl rfl (fun r_1 u_1 H locs hw_1 hP hD hS _ => ?_)
  obtain ⟨rfl, rfl⟩ := hw_1
  have hP : WP Γ [[(e1, .inr (11, [.int m0, .ref x0.1, .int (nI n)]))], (alA Γ x0), [(e0, .inr (1, [.ref e1, .ref e2, .ref e3, .ref e4, .ref e5, .int td, .int pk, .int pd]))], (cowsB n ca cv), [(e5, .inl (Γ.2.1 0, 6, .inl se))]] H := hP
  have hD : WD A [[(e1, .inr (11, [.int m0, .ref x0.1, .int (nI n)]))], (alA Γ x0), [(e0, .inr (1, [.ref e1, .ref e2, .ref e3, .ref e4, .ref e5, .int td, .int pk, .int pd]))], (cowsB n ca cv), [(e5, .inl (Γ.2.1 0, 6, .inl se))]] := hD
  refine W.eq (g2 := F0 mi_ 8 ls ([.ref (ca k)])) rfl ?_
  have hP : WP Γ [(cowsB n ca cv), [(e1, .inr (11, [.int m0, .ref x0.1, .int (nI n)]))], (alA Γ x0), [(e0, .inr (1, [.ref e1, .ref e2, .ref e3, .ref e4, .ref e5, .int td, .int pk, .int pd]))], [(e5, .inl (Γ.2.1 0, 6, .inl se))]] H := bP_sel hP [3, 0, 1, 2, 4] rfl
  have hD : WD A [(cowsB n ca cv), [(e1, .inr (11, [.int m0, .ref x0.1, .int (nI n)]))], (alA Γ x0), [(e0, .inr (1, [.ref e1, .ref e2, .ref e3, .ref e4, .ref e5, .int td, .int pk, .int pd]))], [(e5, .inl (Γ.2.1 0, 6, .inl se))]] := bD_sel hD [3, 0, 1, 2, 4] rfl rfl
  have hP : WP Γ [[((ca k), cowE (cv k))], (cowsX n k ca cv), [(e1, .inr (11, [.int m0, .ref x0.1, .int (nI n)]))], (alA Γ x0), [(e0, .inr (1, [.ref e1, .ref e2, .ref e3, .ref e4, .ref e5, .int td, .int pk, .int pd]))], [(e5, .inl (Γ.2.1 0, 6, .inl se))]] H := cowP_focus hk hP
  have hD : WD A [[((ca k), cowE (cv k))], (cowsX n k ca cv), [(e1, .inr (11, [.int m0, .ref x0.1, .int (nI n)]))], (alA Γ x0), [(e0, .inr (1, [.ref e1, .ref e2, .ref e3, .ref e4, .ref e5, .int td, .int pk, .int pd]))], [(e5, .inl (Γ.2.1 0, 6, .inl se))]] := cowD_focus hk hD
  refine va_castS hx hb hown (hts _ q412) (hK.1 4 _ rfl).2 (recv_at (q := (RX5, TX5, 12)) hK (b_at (k := 0) hP rfl) rfl) dX2_serve_8 ?_
  refine lv_astore_n (lv' := [(2, .ref (ca k)), (0, .ref e0), (1, .int (nI k))]) hx hb dX2_serve_11 rfl hl (by decide) rfl (fun ls hl => ?_)
  refine lv_aload_n hx hb dX2_serve_12 rfl (lv_at hl 0 rfl) ?_
  refine lv_aload_n hx hb dX2_serve_13 rfl (lv_at hl 1 rfl) ?_
  refine b_get (C := RX2) (T := TX2) (N := 8) (v := .int td) hx hb hts in_X2 hown hK (b_at (k := 4) hP rfl) rfl 5 (by decide) q174 (fun _ h9 => h9) rfl dX2_serve_14 ?_
  refine lv_aload_n hx hb dX2_serve_17 rfl (lv_at hl 1 rfl) ?_
  refine b_get (C := RX2) (T := TX2) (N := 8) (v := .ref e5) hx hb hts in_X2 hown hK (b_at (k := 4) hP rfl) rfl 4 (by decide) q172 (fun _ h9 => h9) rfl dX2_serve_18 ?_
  refine lv_iconst (v := 0) hx hb dX2_serve_21 (by decide) ?_
  refine b_iald hx hb hK (b_at (k := 5) hP rfl) 0 rfl (by omega) (by omega) dX2_serve_22 ?_
  refine lv_iadd hx hb dX2_serve_23 ?_
  refine b_putN (C := RX5) (T := TX5) (N := 12) (ty := .int) (v := .int (td + (se 0))) hx hb hts hE in_X5 tyX5_ok nmX5 hown hK hP hD hS 0 rfl rfl 8 (by decide) q439 (fun _ h9 => h9) rfl (by decide +kernel) rfl rfl (Nat.le_of_ble_eq_true rfl) dX2_serve_24 (fun H locs hP hD hS => ?_)
  have hP : WP Γ [[((ca k), cowE (upd (cv k) 8 (td + (se 0))))], (cowsX n k ca cv), [(e1, .inr (11, [.int m0, .ref x0.1, .int (nI n)]))], (alA Γ x0), [(e0, .inr (1, [.ref e1, .ref e2, .ref e3, .ref e4, .ref e5, .int td, .int pk, .int pd]))], [(e5, .inl (Γ.2.1 0, 6, .inl se))]] H := hP
  have hD : WD A [[((ca k), cowE (upd (cv k) 8 (td + (se 0))))], (cowsX n k ca cv), [(e1, .inr (11, [.int m0, .ref x0.1, .int (nI n)]))], (alA Γ x0), [(e0, .inr (1, [.ref e1, .ref e2, .ref e3, .ref e4, .ref e5, .int td, .int pk, .int pd]))], [(e5, .inl (Γ.2.1 0, 6, .inl se))]] := hD
  refine lv_aload_n hx hb dX2_serve_27 rfl (lv_at hl 0 rfl) ?_
  refine b_getN (C := RX5) (T := TX5) (N := 12) (v := .int (td + (se 0))) hx hb hts hE in_X5 hown hK (b_at (k := 0) hP rfl) rfl 8 (by decide) q439 (fun _ h9 => h9) rfl dX2_serve_28 ?_
  rw [show (upd (cv k) 8 (td + (se 0))) = (upd (cv k) 8 (td + se 0)) from by rfl] at hP hD
  have hP : WP Γ [(cowsB n ca (va_up cv k (upd (cv k) 8 (td + se 0)))), [(e1, .inr (11, [.int m0, .ref x0.1, .int (nI n)]))], (alA Γ x0), [(e0, .inr (1, [.ref e1, .ref e2, .ref e3, .ref e4, .ref e5, .int td, .int pk, .int pd]))], [(e5, .inl (Γ.2.1 0, 6, .inl se))]] H := cowP_un hk hP
  have hD : WD A [(cowsB n ca (va_up cv k (upd (cv k) 8 (td + se 0)))), [(e1, .inr (11, [.int m0, .ref x0.1, .int (nI n)]))], (alA Γ x0), [(e0, .inr (1, [.ref e1, .ref e2, .ref e3, .ref e4, .ref e5, .int td, .int pk, .int pd]))], [(e5, .inl (Γ.2.1 0, 6, .inl se))]] := cowD_un hk hD
  have hP : WP Γ [[(e0, .inr (1, [.ref e1, .ref e2, .ref e3, .ref e4, .ref e5, .int td, .int pk, .int pd]))], [(e1, .inr (11, [.int m0, .ref x0.1, .int (nI n)]))], (alA Γ x0), (cowsB n ca (va_up cv k (upd (cv k) 8 (td + se 0)))), [(e5, .inl (Γ.2.1 0, 6, .inl se))]] H := bP_sel hP [3, 1, 2, 0, 4] rfl
  have hD : WD A [[(e0, .inr (1, [.ref e1, .ref e2, .ref e3, .ref e4, .ref e5, .int td, .int pk, .int pd]))], [(e1, .inr (11, [.int m0, .ref x0.1, .int (nI n)]))], (alA Γ x0), (cowsB n ca (va_up cv k (upd (cv k) 8 (td + se 0)))), [(e5, .inl (Γ.2.1 0, 6, .inl se))]] := bD_sel hD [3, 1, 2, 0, 4] rfl rfl
  exact b_iret hx hb hr hlocks hP hD hS (Nat.le_of_ble_eq_true rfl) (Nat.le_of_ble_eq_true rfl) ⟨(by first | rfl | (simp; done)), (by first | rfl | (simp; done))⟩ dX2_serve_31
set_option maxHeartbeats 4000000 in
set_option maxRecDepth 100000 in
theorem mt_Hd_dry (l : Launch) (Γ : GE) (sz : Nat) (e0 : Nat) (e1 : Nat) (e2 : Nat) (e3 : Nat) (e4 : Nat) (e5 : Nat) (td : Int32) (pk : Int32) (pd : Int32) (x0 : LST) (m0 : Int32) (n : Nat) (ca : Nat → Nat) (cv : Nat → Nat → Int32) (k : Nat) (hal0 : alI Γ x0 n ca) (hn8 : n ≤ 8) (hk : k < n) : KM l yX2_dry cX2_dry 3 (some FieldType.int) Γ 3 64 0 0 [.ref e0, .int (nI k)] [[(e0, .inr (1, [.ref e1, .ref e2, .ref e3, .ref e4, .ref e5, .int td, .int pk, .int pd]))], [(e1, .inr (11, [.int m0, .ref x0.1, .int (nI n)]))], (alA Γ x0), (cowsB n ca cv)] [] sz (Qi Γ (fun r_ u_ => r_ = (td - (cv k) 7) ∧ u_ = [[(e0, .inr (1, [.ref e1, .ref e2, .ref e3, .ref e4, .ref e5, .int td, .int pk, .int pd]))], [(e1, .inr (11, [.int m0, .ref x0.1, .int (nI n)]))], (alA Γ x0), (cowsB n ca (va_up cv k (upd (cv k) 5 0)))])) := by
  refine K_intro (by decide) (Nat.le_of_ble_eq_true rfl) ?_
  intro pr_ ev_ s mi_ below meth cd_ A ls hx hb hr hml hown hts hlocks hname hK hE hRo hP hD hA hS hsz hl
  have hl : lv_has ls 3 [(0, .ref e0), (1, .int (nI k))] := hl
  have hown : s.vm.findClass RX2 = some mi_.cls := hown
  refine lv_aload_n hx hb dX2_dry_0 rfl (lv_at hl 0 rfl) ?_
  refine b_get (C := RX2) (T := TX2) (N := 8) (v := .ref e1) hx hb hts in_X2 hown hK (b_at (k := 0) hP rfl) rfl 0 (by decide) q163 (fun _ h9 => h9) rfl dX2_dry_1 ?_
  refine lv_iload_n hx hb dX2_dry_4 rfl (lv_at hl 1 rfl) ?_
  refine b_callq (br := [[(e0, .inr (1, [.ref e1, .ref e2, .ref e3, .ref e4, .ref e5, .int td, .int pk, .int pd]))], (cowsB n ca cv)]) (b_runV ⟨hx, hb, hml, hown, hts⟩ (mt_AL_get l Γ _ e1 m0 x0 n ca k hal0 (by omega)) (lw_V q963 q964 q965 q66 q966) rfl rfl 1 (by decide +kernel) ⟨(Nat.le_of_ble_eq_true rfl), (Nat.le_of_ble_eq_true rfl)⟩ (c_pre hP hD hS hA hK hE [1, 2] rfl rfl ro_nil) (recv_at (q := (RJ2, TJ2, 3)) hK (b_at (k := 1) hP rfl) rfl) rfl hl.1 rfl (Nat.le_of_ble_eq_true rfl) dX2_dry_5 ⟨(Nat.le_of_ble_eq_true rfl), (Nat.le_of_ble_eq_true rfl)⟩) hP hD hS hA [1, 2] [0, 3] rfl rfl rfl (fun r_1 u_1 H locs hw_1 hP hD hS _ => ?_)
  obtain ⟨rfl, rfl⟩ := hw_1
  have hP : WP Γ [[(e1, .inr (11, [.int m0, .ref x0.1, .int (nI n)]))], (alA Γ x0), [(e0, .inr (1, [.ref e1, .ref e2, .ref e3, .ref e4, .ref e5, .int td, .int pk, .int pd]))], (cowsB n ca cv)] H := hP
  have hD : WD A [[(e1, .inr (11, [.int m0, .ref x0.1, .int (nI n)]))], (alA Γ x0), [(e0, .inr (1, [.ref e1, .ref e2, .ref e3, .ref e4, .ref e5, .int td, .int pk, .int pd]))], (cowsB n ca cv)] := hD
  refine W.eq (g2 := F0 mi_ 8 ls ([.ref (ca k)])) rfl ?_
  have hP : WP Γ [(cowsB n ca cv), [(e1, .inr (11, [.int m0, .ref x0.1, .int (nI n)]))], (alA Γ x0), [(e0, .inr (1, [.ref e1, .ref e2, .ref e3, .ref e4, .ref e5, .int td, .int pk, .int pd]))]] H := bP_sel hP [3, 0, 1, 2] rfl
  have hD : WD A [(cowsB n ca cv), [(e1, .inr (11, [.int m0, .ref x0.1, .int (nI n)]))], (alA Γ x0), [(e0, .inr (1, [.ref e1, .ref e2, .ref e3, .ref e4, .ref e5, .int td, .int pk, .int pd]))]] := bD_sel hD [3, 0, 1, 2] rfl rfl
  have hP : WP Γ [[((ca k), cowE (cv k))], (cowsX n k ca cv), [(e1, .inr (11, [.int m0, .ref x0.1, .int (nI n)]))], (alA Γ x0), [(e0, .inr (1, [.ref e1, .ref e2, .ref e3, .ref e4, .ref e5, .int td, .int pk, .int pd]))]] H := cowP_focus hk hP
  have hD : WD A [[((ca k), cowE (cv k))], (cowsX n k ca cv), [(e1, .inr (11, [.int m0, .ref x0.1, .int (nI n)]))], (alA Γ x0), [(e0, .inr (1, [.ref e1, .ref e2, .ref e3, .ref e4, .ref e5, .int td, .int pk, .int pd]))]] := cowD_focus hk hD
  refine va_castS hx hb hown (hts _ q412) (hK.1 4 _ rfl).2 (recv_at (q := (RX5, TX5, 12)) hK (b_at (k := 0) hP rfl) rfl) dX2_dry_8 ?_
  refine lv_astore_n (lv' := [(2, .ref (ca k)), (0, .ref e0), (1, .int (nI k))]) hx hb dX2_dry_11 rfl hl (by decide) rfl (fun ls hl => ?_)
  refine lv_aload_n hx hb dX2_dry_12 rfl (lv_at hl 0 rfl) ?_
  refine lv_iconst (v := 0) hx hb dX2_dry_13 (by decide) ?_
  refine b_putN (C := RX5) (T := TX5) (N := 12) (ty := .boolean) (v := .int 0) hx hb hts hE in_X5 tyX5_ok nmX5 hown hK hP hD hS 0 rfl rfl 5 (by decide) q431 (fun _ h9 => h9) rfl (by decide +kernel) rfl rfl (Nat.le_of_ble_eq_true rfl) dX2_dry_14 (fun H locs hP hD hS => ?_)
  have hP : WP Γ [[((ca k), cowE (upd (cv k) 5 0))], (cowsX n k ca cv), [(e1, .inr (11, [.int m0, .ref x0.1, .int (nI n)]))], (alA Γ x0), [(e0, .inr (1, [.ref e1, .ref e2, .ref e3, .ref e4, .ref e5, .int td, .int pk, .int pd]))]] H := hP
  have hD : WD A [[((ca k), cowE (upd (cv k) 5 0))], (cowsX n k ca cv), [(e1, .inr (11, [.int m0, .ref x0.1, .int (nI n)]))], (alA Γ x0), [(e0, .inr (1, [.ref e1, .ref e2, .ref e3, .ref e4, .ref e5, .int td, .int pk, .int pd]))]] := hD
  refine lv_aload_n hx hb dX2_dry_17 rfl (lv_at hl 1 rfl) ?_
  refine b_get (C := RX2) (T := TX2) (N := 8) (v := .int td) hx hb hts in_X2 hown hK (b_at (k := 4) hP rfl) rfl 5 (by decide) q174 (fun _ h9 => h9) rfl dX2_dry_18 ?_
  refine lv_aload_n hx hb dX2_dry_21 rfl (lv_at hl 0 rfl) ?_
  refine b_getN (C := RX5) (T := TX5) (N := 12) (v := .int (cv k 7)) hx hb hts hE in_X5 hown hK (b_at (k := 0) hP rfl) rfl 7 (by decide) q437 (fun _ h9 => h9) rfl dX2_dry_22 ?_
  refine lv_isub hx hb dX2_dry_25 ?_
  rw [show (upd (cv k) 5 0) = (upd (cv k) 5 0) from by rfl] at hP hD
  have hP : WP Γ [(cowsB n ca (va_up cv k (upd (cv k) 5 0))), [(e1, .inr (11, [.int m0, .ref x0.1, .int (nI n)]))], (alA Γ x0), [(e0, .inr (1, [.ref e1, .ref e2, .ref e3, .ref e4, .ref e5, .int td, .int pk, .int pd]))]] H := cowP_un hk hP
  have hD : WD A [(cowsB n ca (va_up cv k (upd (cv k) 5 0))), [(e1, .inr (11, [.int m0, .ref x0.1, .int (nI n)]))], (alA Γ x0), [(e0, .inr (1, [.ref e1, .ref e2, .ref e3, .ref e4, .ref e5, .int td, .int pk, .int pd]))]] := cowD_un hk hD
  have hP : WP Γ [[(e0, .inr (1, [.ref e1, .ref e2, .ref e3, .ref e4, .ref e5, .int td, .int pk, .int pd]))], [(e1, .inr (11, [.int m0, .ref x0.1, .int (nI n)]))], (alA Γ x0), (cowsB n ca (va_up cv k (upd (cv k) 5 0)))] H := bP_sel hP [3, 1, 2, 0] rfl
  have hD : WD A [[(e0, .inr (1, [.ref e1, .ref e2, .ref e3, .ref e4, .ref e5, .int td, .int pk, .int pd]))], [(e1, .inr (11, [.int m0, .ref x0.1, .int (nI n)]))], (alA Γ x0), (cowsB n ca (va_up cv k (upd (cv k) 5 0)))] := bD_sel hD [3, 1, 2, 0] rfl rfl
  exact b_iret hx hb hr hlocks hP hD hS (Nat.le_of_ble_eq_true rfl) (Nat.le_of_ble_eq_true rfl) ⟨(by first | rfl | (simp; done)), (by first | rfl | (simp; done))⟩ dX2_dry_26
set_option maxHeartbeats 4000000 in
set_option maxRecDepth 100000 in
theorem mt_Hd_rowOf (l : Launch) (Γ : GE) (sz : Nat) (e0 : Nat) (e1 : Nat) (e2 : Nat) (e3 : Nat) (e4 : Nat) (e5 : Nat) (td : Int32) (pk : Int32) (pd : Int32) (x1 : LST) (m1 : Int32) (nr : Nat) (ra : Nat → Nat) (rv : Nat → Nat → Int32) (P : va_W) (lim : Int32) (hal1 : alI Γ x1 nr ra) (nr4 : nr ≤ 4) (hrw : ∀ k, k < nr → (ra k, rowE (rv k)) ∈ P) : KM l yX2_rowOf cX2_rowOf 3 (some FieldType.int) Γ 3 64 0 0 [.ref e0, .int lim] [[(e0, .inr (1, [.ref e1, .ref e2, .ref e3, .ref e4, .ref e5, .int td, .int pk, .int pd]))], [(e2, .inr (11, [.int m1, .ref x1.1, .int (nI nr)]))], (alA Γ x1)] [P] sz (Qi Γ (fun r_ u_ => r_ = (rowR rv lim nr) ∧ u_ = [[(e0, .inr (1, [.ref e1, .ref e2, .ref e3, .ref e4, .ref e5, .int td, .int pk, .int pd]))], [(e2, .inr (11, [.int m1, .ref x1.1, .int (nI nr)]))], (alA Γ x1)])) := by
  refine K_intro (by decide) (Nat.le_of_ble_eq_true rfl) ?_
  intro pr_ ev_ s mi_ below meth cd_ A ls hx hb hr hml hown hts hlocks hname hK hE hRo hP hD hA hS hsz hl
  have hl : lv_has ls 3 [(0, .ref e0), (1, .int lim)] := hl
  have hown : s.vm.findClass RX2 = some mi_.cls := hown
  refine lv_iconst (v := 0) hx hb dX2_rowOf_0 (by decide) ?_
  refine lv_istore_n (lv' := [(2, .int 0), (0, .ref e0), (1, .int lim)]) hx hb dX2_rowOf_1 rfl hl (by decide) rfl (fun ls hl => ?_)
  have loop_1 : ∀ (fuel : Nat) (j : Nat), nr - j < fuel → (j ≤ nr) → (rowK rv lim nr = rwK rv lim (nr - j) j) → ∀ (H : Heap) (locs : List Loc) (ls : Array Slot), WP Γ [[(e0, .inr (1, [.ref e1, .ref e2, .ref e3, .ref e4, .ref e5, .int td, .int pk, .int pd]))], [(e2, .inr (11, [.int m1, .ref x1.1, .int (nI nr)]))], (alA Γ x1)] H → WD A [[(e0, .inr (1, [.ref e1, .ref e2, .ref e3, .ref e4, .ref e5, .int td, .int pk, .int pd]))], [(e2, .inr (11, [.int m1, .ref x1.1, .int (nI nr)]))], (alA Γ x1)] → va_S A s.heap H locs → lv_has ls 3 [(2, .int (nI j)), (0, .ref e0), (1, .int lim)] → W pr_ l ev_ { frames := 3, cells := 0, slots := 0, locals := 64 } s mi_ ([.ref e0, .int lim] : List Value).toArray below meth cd_ H locs 0 0 (MQ below (Qi Γ (fun r_ u_ => r_ = (rowR rv lim nr) ∧ u_ = [[(e0, .inr (1, [.ref e1, .ref e2, .ref e3, .ref e4, .ref e5, .int td, .int pk, .int pd]))], [(e2, .inr (11, [.int m1, .ref x1.1, .int (nI nr)]))], (alA Γ x1)]) A) ([.ref e0, .int lim] : List Value).toArray s 0 0 A) (F0 mi_ 2 ls ([])) := by
    intro fuel
    induction fuel with
    | zero => intro j hfuel; exact absurd hfuel (Nat.not_lt_zero _)
    | succ fuel ih =>
      intro j hfuel hj hI H locs ls hP hD hS hl
      refine lv_iload_n hx hb dX2_rowOf_2 rfl (lv_at hl 0 rfl) ?_
      refine lv_aload_n hx hb dX2_rowOf_3 rfl (lv_at hl 1 rfl) ?_
      refine b_get (C := RX2) (T := TX2) (N := 8) (v := .ref e2) hx hb hts in_X2 hown hK (b_at (k := 0) hP rfl) rfl 1 (by decide) q166 (fun _ h9 => h9) rfl dX2_rowOf_4 ?_
      refine b_calli (br := [[(e0, .inr (1, [.ref e1, .ref e2, .ref e3, .ref e4, .ref e5, .int td, .int pk, .int pd]))], (alA Γ x1)]) (b_runV ⟨hx, hb, hml, hown, hts⟩ (mt_AL_size l Γ _ e2 m1 x1.1 nr) (lw_V q961 q818 q819 q66 q820) rfl rfl 0 (by decide +kernel) ⟨(Nat.le_of_ble_eq_true rfl), (Nat.le_of_ble_eq_true rfl)⟩ (c_pre hP hD hS hA hK hE [1] rfl rfl ro_nil) (recv_at (q := (RJ2, TJ2, 3)) hK (b_at (k := 1) hP rfl) rfl) rfl hl.1 rfl (Nat.le_of_ble_eq_true rfl) dX2_rowOf_7 ⟨(Nat.le_of_ble_eq_true rfl), (Nat.le_of_ble_eq_true rfl)⟩) hP hD hS hA [1] [0, 2] rfl rfl rfl (fun r_2 u_2 H locs hw_2 hP hD hS _ => ?_)
      obtain ⟨rfl, rfl⟩ := hw_2
      have hP : WP Γ [[(e2, .inr (11, [.int m1, .ref x1.1, .int (nI nr)]))], [(e0, .inr (1, [.ref e1, .ref e2, .ref e3, .ref e4, .ref e5, .int td, .int pk, .int pd]))], (alA Γ x1)] H := hP
      have hD : WD A [[(e2, .inr (11, [.int m1, .ref x1.1, .int (nI nr)]))], [(e0, .inr (1, [.ref e1, .ref e2, .ref e3, .ref e4, .ref e5, .int td, .int pk, .int pd]))], (alA Γ x1)] := hD
      refine lv_icmp_ge (tgt := 37) hx hb dX2_rowOf_10 (by decide) (fun c_3 => ?_) (fun c_3 => ?_)
      · -- 10 taken
        have n_3 : nr ≤ j := (nI_leI (by omega) (by omega)).mp (show nI nr ≤ nI j from c_3)
        have m_3 : ¬ (j < nr) := by omega
        have d_3 := Int32.not_lt.mpr c_3
        have hK9 : rowK rv lim nr = j := by rw [hI, show nr - j = 0 by omega]; rfl
        refine lv_iload_n hx hb dX2_rowOf_37 rfl (lv_at hl 0 rfl) ?_
        refine lv_aload_n hx hb dX2_rowOf_38 rfl (lv_at hl 1 rfl) ?_
        refine b_get (C := RX2) (T := TX2) (N := 8) (v := .ref e2) hx hb hts in_X2 hown hK (b_at (k := 1) hP rfl) rfl 1 (by decide) q166 (fun _ h9 => h9) rfl dX2_rowOf_39 ?_
        refine b_calli (br := [[(e0, .inr (1, [.ref e1, .ref e2, .ref e3, .ref e4, .ref e5, .int td, .int pk, .int pd]))], (alA Γ x1)]) (b_runV ⟨hx, hb, hml, hown, hts⟩ (mt_AL_size l Γ _ e2 m1 x1.1 nr) (lw_V q961 q818 q819 q66 q820) rfl rfl 0 (by decide +kernel) ⟨(Nat.le_of_ble_eq_true rfl), (Nat.le_of_ble_eq_true rfl)⟩ (c_pre hP hD hS hA hK hE [0] rfl rfl ro_nil) (recv_at (q := (RJ2, TJ2, 3)) hK (b_at (k := 0) hP rfl) rfl) rfl hl.1 rfl (Nat.le_of_ble_eq_true rfl) dX2_rowOf_42 ⟨(Nat.le_of_ble_eq_true rfl), (Nat.le_of_ble_eq_true rfl)⟩) hP hD hS hA [0] [1, 2] rfl rfl rfl (fun r_4 u_4 H locs hw_4 hP hD hS _ => ?_)
        obtain ⟨rfl, rfl⟩ := hw_4
        have hP : WP Γ [[(e2, .inr (11, [.int m1, .ref x1.1, .int (nI nr)]))], [(e0, .inr (1, [.ref e1, .ref e2, .ref e3, .ref e4, .ref e5, .int td, .int pk, .int pd]))], (alA Γ x1)] H := hP
        have hD : WD A [[(e2, .inr (11, [.int m1, .ref x1.1, .int (nI nr)]))], [(e0, .inr (1, [.ref e1, .ref e2, .ref e3, .ref e4, .ref e5, .int td, .int pk, .int pd]))], (alA Γ x1)] := hD
        refine lv_icmp_ge (tgt := 70) hx hb dX2_rowOf_45 (by decide) (fun c_5 => ?_) (fun c_5 => ?_)
        · -- 45 taken
          have n_5 : nr ≤ j := (nI_leI (by omega) (by omega)).mp (show nI nr ≤ nI j from c_5)
          have m_5 : ¬ (j < nr) := by omega
          have d_5 := Int32.not_lt.mpr c_5
          refine lv_iconst (v := (-1)) hx hb dX2_rowOf_70 (by decide) ?_
          refine lv_iload_n hx hb dX2_rowOf_71 rfl (lv_at hl 0 rfl) ?_
          refine lv_isub hx hb dX2_rowOf_72 ?_
          have hP : WP Γ [[(e0, .inr (1, [.ref e1, .ref e2, .ref e3, .ref e4, .ref e5, .int td, .int pk, .int pd]))], [(e2, .inr (11, [.int m1, .ref x1.1, .int (nI nr)]))], (alA Γ x1)] H := bP_sel hP [1, 0, 2] rfl
          have hD : WD A [[(e0, .inr (1, [.ref e1, .ref e2, .ref e3, .ref e4, .ref e5, .int td, .int pk, .int pd]))], [(e2, .inr (11, [.int m1, .ref x1.1, .int (nI nr)]))], (alA Γ x1)] := bD_sel hD [1, 0, 2] rfl rfl
          exact b_iret hx hb hr hlocks hP hD hS (Nat.le_of_ble_eq_true rfl) (Nat.le_of_ble_eq_true rfl) ⟨(by rw [rowR, hK9, if_neg (by omega)]), (by first | with_reducible rfl | (simp [n_3, m_3, d_3, n_5, m_5, d_5]; done) | rfl)⟩ dX2_rowOf_73
        · -- 45 not taken
          have n_5 : ¬ (nr ≤ j) := fun h => c_5 ((nI_leI (a := nr) (b := j) (by omega) (by omega)).mpr h)
          have m_5 : j < nr := by omega
          have d_5 := Int32.not_le.mp c_5
          exfalso; omega
      · -- 10 not taken
        have n_3 : ¬ (nr ≤ j) := fun h => c_3 ((nI_leI (a := nr) (b := j) (by omega) (by omega)).mpr h)
        have m_3 : j < nr := by omega
        have d_3 := Int32.not_le.mp c_3
        refine lv_aload_n hx hb dX2_rowOf_13 rfl (lv_at hl 1 rfl) ?_
        refine b_get (C := RX2) (T := TX2) (N := 8) (v := .ref e2) hx hb hts in_X2 hown hK (b_at (k := 1) hP rfl) rfl 1 (by decide) q166 (fun _ h9 => h9) rfl dX2_rowOf_14 ?_
        refine lv_iload_n hx hb dX2_rowOf_17 rfl (lv_at hl 0 rfl) ?_
        refine b_callq (br := [[(e0, .inr (1, [.ref e1, .ref e2, .ref e3, .ref e4, .ref e5, .int td, .int pk, .int pd]))]]) (b_runV ⟨hx, hb, hml, hown, hts⟩ (mt_AL_get l Γ _ e2 m1 x1 nr ra j hal1 (by omega)) (lw_V q963 q964 q965 q66 q966) rfl rfl 1 (by decide +kernel) ⟨(Nat.le_of_ble_eq_true rfl), (Nat.le_of_ble_eq_true rfl)⟩ (c_pre hP hD hS hA hK hE [0, 2] rfl rfl ro_nil) (recv_at (q := (RJ2, TJ2, 3)) hK (b_at (k := 0) hP rfl) rfl) rfl hl.1 rfl (Nat.le_of_ble_eq_true rfl) dX2_rowOf_18 ⟨(Nat.le_of_ble_eq_true rfl), (Nat.le_of_ble_eq_true rfl)⟩) hP hD hS hA [0, 2] [1] rfl rfl rfl (fun r_6 u_6 H locs hw_6 hP hD hS _ => ?_)
        obtain ⟨rfl, rfl⟩ := hw_6
        have hP : WP Γ [[(e2, .inr (11, [.int m1, .ref x1.1, .int (nI nr)]))], (alA Γ x1), [(e0, .inr (1, [.ref e1, .ref e2, .ref e3, .ref e4, .ref e5, .int td, .int pk, .int pd]))]] H := hP
        have hD : WD A [[(e2, .inr (11, [.int m1, .ref x1.1, .int (nI nr)]))], (alA Γ x1), [(e0, .inr (1, [.ref e1, .ref e2, .ref e3, .ref e4, .ref e5, .int td, .int pk, .int pd]))]] := hD
        refine W.eq (g2 := F0 mi_ 21 ls ([.ref (ra j)])) rfl ?_
        refine va_castS hx hb hown (hts _ q1110) (hK.1 5 _ rfl).2 (recv_at (q := (RX6, TX6, 2)) hK (Rc.obj (by decide) ((hRo _ (mem_blk (k := 0) rfl (hrw j (by omega)))).keep hS (fun _ h => h))) rfl) dX2_rowOf_21 ?_
        refine b_getN (C := RX6) (T := TX6) (N := 2) (v := .int (rv j 0)) hx hb hts hE in_X6 hown hK (Rc.obj (by decide) ((hRo _ (mem_blk (k := 0) rfl (hrw j (by omega)))).keep hS (fun _ h => h))) rfl 0 (by decide) q1121 (fun _ h9 => h9) rfl dX2_rowOf_24 ?_
        refine lv_iload_n hx hb dX2_rowOf_27 rfl (lv_at hl 2 rfl) ?_
        refine lv_icmp_ge (tgt := 37) hx hb dX2_rowOf_28 (by decide) (fun c_7 => ?_) (fun c_7 => ?_)
        · -- 28 taken
          have d_7 := Int32.not_lt.mpr c_7
          have hK9 : rowK rv lim nr = j := by rw [hI, show nr - j = (nr - (j + 1)) + 1 by omega, rwK, if_neg d_7]
          refine lv_iload_n hx hb dX2_rowOf_37 rfl (lv_at hl 0 rfl) ?_
          refine lv_aload_n hx hb dX2_rowOf_38 rfl (lv_at hl 1 rfl) ?_
          refine b_get (C := RX2) (T := TX2) (N := 8) (v := .ref e2) hx hb hts in_X2 hown hK (b_at (k := 2) hP rfl) rfl 1 (by decide) q166 (fun _ h9 => h9) rfl dX2_rowOf_39 ?_
          refine b_calli (br := [(alA Γ x1), [(e0, .inr (1, [.ref e1, .ref e2, .ref e3, .ref e4, .ref e5, .int td, .int pk, .int pd]))]]) (b_runV ⟨hx, hb, hml, hown, hts⟩ (mt_AL_size l Γ _ e2 m1 x1.1 nr) (lw_V q961 q818 q819 q66 q820) rfl rfl 0 (by decide +kernel) ⟨(Nat.le_of_ble_eq_true rfl), (Nat.le_of_ble_eq_true rfl)⟩ (c_pre hP hD hS hA hK hE [0] rfl rfl ro_nil) (recv_at (q := (RJ2, TJ2, 3)) hK (b_at (k := 0) hP rfl) rfl) rfl hl.1 rfl (Nat.le_of_ble_eq_true rfl) dX2_rowOf_42 ⟨(Nat.le_of_ble_eq_true rfl), (Nat.le_of_ble_eq_true rfl)⟩) hP hD hS hA [0] [1, 2] rfl rfl rfl (fun r_8 u_8 H locs hw_8 hP hD hS _ => ?_)
          obtain ⟨rfl, rfl⟩ := hw_8
          have hP : WP Γ [[(e2, .inr (11, [.int m1, .ref x1.1, .int (nI nr)]))], (alA Γ x1), [(e0, .inr (1, [.ref e1, .ref e2, .ref e3, .ref e4, .ref e5, .int td, .int pk, .int pd]))]] H := hP
          have hD : WD A [[(e2, .inr (11, [.int m1, .ref x1.1, .int (nI nr)]))], (alA Γ x1), [(e0, .inr (1, [.ref e1, .ref e2, .ref e3, .ref e4, .ref e5, .int td, .int pk, .int pd]))]] := hD
          refine lv_icmp_ge (tgt := 70) hx hb dX2_rowOf_45 (by decide) (fun c_9 => ?_) (fun c_9 => ?_)
          · -- 45 taken
            have n_9 : nr ≤ j := (nI_leI (by omega) (by omega)).mp (show nI nr ≤ nI j from c_9)
            have m_9 : ¬ (j < nr) := by omega
            have d_9 := Int32.not_lt.mpr c_9
            exfalso; omega
          · -- 45 not taken
            have n_9 : ¬ (nr ≤ j) := fun h => c_9 ((nI_leI (a := nr) (b := j) (by omega) (by omega)).mpr h)
            have m_9 : j < nr := by omega
            have d_9 := Int32.not_le.mp c_9
            refine lv_aload_n hx hb dX2_rowOf_48 rfl (lv_at hl 1 rfl) ?_
            refine b_get (C := RX2) (T := TX2) (N := 8) (v := .ref e2) hx hb hts in_X2 hown hK (b_at (k := 2) hP rfl) rfl 1 (by decide) q166 (fun _ h9 => h9) rfl dX2_rowOf_49 ?_
            refine lv_iload_n hx hb dX2_rowOf_52 rfl (lv_at hl 0 rfl) ?_
            refine b_callq (br := [[(e0, .inr (1, [.ref e1, .ref e2, .ref e3, .ref e4, .ref e5, .int td, .int pk, .int pd]))]]) (b_runV ⟨hx, hb, hml, hown, hts⟩ (mt_AL_get l Γ _ e2 m1 x1 nr ra j hal1 (by omega)) (lw_V q963 q964 q965 q66 q966) rfl rfl 1 (by decide +kernel) ⟨(Nat.le_of_ble_eq_true rfl), (Nat.le_of_ble_eq_true rfl)⟩ (c_pre hP hD hS hA hK hE [0, 1] rfl rfl ro_nil) (recv_at (q := (RJ2, TJ2, 3)) hK (b_at (k := 0) hP rfl) rfl) rfl hl.1 rfl (Nat.le_of_ble_eq_true rfl) dX2_rowOf_53 ⟨(Nat.le_of_ble_eq_true rfl), (Nat.le_of_ble_eq_true rfl)⟩) hP hD hS hA [0, 1] [2] rfl rfl rfl (fun r_10 u_10 H locs hw_10 hP hD hS _ => ?_)
            obtain ⟨rfl, rfl⟩ := hw_10
            have hP : WP Γ [[(e2, .inr (11, [.int m1, .ref x1.1, .int (nI nr)]))], (alA Γ x1), [(e0, .inr (1, [.ref e1, .ref e2, .ref e3, .ref e4, .ref e5, .int td, .int pk, .int pd]))]] H := hP
            have hD : WD A [[(e2, .inr (11, [.int m1, .ref x1.1, .int (nI nr)]))], (alA Γ x1), [(e0, .inr (1, [.ref e1, .ref e2, .ref e3, .ref e4, .ref e5, .int td, .int pk, .int pd]))]] := hD
            refine W.eq (g2 := F0 mi_ 56 ls ([.ref (ra j)])) rfl ?_
            refine va_castS hx hb hown (hts _ q1110) (hK.1 5 _ rfl).2 (recv_at (q := (RX6, TX6, 2)) hK (Rc.obj (by decide) ((hRo _ (mem_blk (k := 0) rfl (hrw j (by omega)))).keep hS (fun _ h => h))) rfl) dX2_rowOf_56 ?_
            refine b_getN (C := RX6) (T := TX6) (N := 2) (v := .int (rv j 0)) hx hb hts hE in_X6 hown hK (Rc.obj (by decide) ((hRo _ (mem_blk (k := 0) rfl (hrw j (by omega)))).keep hS (fun _ h => h))) rfl 0 (by decide) q1121 (fun _ h9 => h9) rfl dX2_rowOf_59 ?_
            refine lv_iload_n hx hb dX2_rowOf_62 rfl (lv_at hl 2 rfl) ?_
            refine lv_icmp_ne (tgt := 70) hx hb dX2_rowOf_63 (by decide) (fun c_11 => ?_) (fun c_11 => ?_)
            · -- 63 taken
              refine lv_iconst (v := (-1)) hx hb dX2_rowOf_70 (by decide) ?_
              refine lv_iload_n hx hb dX2_rowOf_71 rfl (lv_at hl 0 rfl) ?_
              refine lv_isub hx hb dX2_rowOf_72 ?_
              have hP : WP Γ [[(e0, .inr (1, [.ref e1, .ref e2, .ref e3, .ref e4, .ref e5, .int td, .int pk, .int pd]))], [(e2, .inr (11, [.int m1, .ref x1.1, .int (nI nr)]))], (alA Γ x1)] H := bP_sel hP [2, 0, 1] rfl
              have hD : WD A [[(e0, .inr (1, [.ref e1, .ref e2, .ref e3, .ref e4, .ref e5, .int td, .int pk, .int pd]))], [(e2, .inr (11, [.int m1, .ref x1.1, .int (nI nr)]))], (alA Γ x1)] := bD_sel hD [2, 0, 1] rfl rfl
              exact b_iret hx hb hr hlocks hP hD hS (Nat.le_of_ble_eq_true rfl) (Nat.le_of_ble_eq_true rfl) ⟨(by rw [rowR, hK9, if_pos (by omega), if_neg c_11]), (by first | with_reducible rfl | (simp [n_3, m_3, d_3, c_7, d_7, n_9, m_9, d_9, c_11]; done) | rfl)⟩ dX2_rowOf_73
            · -- 63 not taken
              refine lv_iload_n hx hb dX2_rowOf_66 rfl (lv_at hl 0 rfl) ?_
              refine lv_goto (tgt := 73) hx hb dX2_rowOf_67 (by decide) ?_
              have hP : WP Γ [[(e0, .inr (1, [.ref e1, .ref e2, .ref e3, .ref e4, .ref e5, .int td, .int pk, .int pd]))], [(e2, .inr (11, [.int m1, .ref x1.1, .int (nI nr)]))], (alA Γ x1)] H := bP_sel hP [2, 0, 1] rfl
              have hD : WD A [[(e0, .inr (1, [.ref e1, .ref e2, .ref e3, .ref e4, .ref e5, .int td, .int pk, .int pd]))], [(e2, .inr (11, [.int m1, .ref x1.1, .int (nI nr)]))], (alA Γ x1)] := bD_sel hD [2, 0, 1] rfl rfl
              exact b_iret hx hb hr hlocks hP hD hS (Nat.le_of_ble_eq_true rfl) (Nat.le_of_ble_eq_true rfl) ⟨(by rw [rowR, hK9, if_pos (by omega), if_pos c_11]), (by first | with_reducible rfl | (simp [n_3, m_3, d_3, c_7, d_7, n_9, m_9, d_9, c_11]; done) | rfl)⟩ dX2_rowOf_73
        · -- 28 not taken
          have d_7 := Int32.not_le.mp c_7
          refine lv_iinc (v := (nI (j + 1))) (lv' := [(2, .int (nI (j + 1))), (0, .ref e0), (1, .int lim)]) hx hb dX2_rowOf_31 hl (k := 0) rfl (nI_addE (a := j) (b := 1) (c := j + 1) rfl rfl (by first | omega | rfl)) (by decide) rfl (fun ls hl => ?_)
          refine lv_goto (tgt := 2) hx hb dX2_rowOf_34 (by decide) ?_
          have hP : WP Γ [[(e0, .inr (1, [.ref e1, .ref e2, .ref e3, .ref e4, .ref e5, .int td, .int pk, .int pd]))], [(e2, .inr (11, [.int m1, .ref x1.1, .int (nI nr)]))], (alA Γ x1)] H := bP_sel hP [2, 0, 1] rfl
          have hD : WD A [[(e0, .inr (1, [.ref e1, .ref e2, .ref e3, .ref e4, .ref e5, .int td, .int pk, .int pd]))], [(e2, .inr (11, [.int m1, .ref x1.1, .int (nI nr)]))], (alA Γ x1)] := bD_sel hD [2, 0, 1] rfl rfl
          exact ih (j + 1) (by omega) (by omega) (by rw [hI, show nr - j = (nr - (j + 1)) + 1 by omega, rwK, if_pos d_7]) _ _ _ hP hD hS (lv_sub hl [0, 1, 2] rfl)
  exact loop_1 ((nr - 0) + 1) 0 (Nat.lt_succ_self _) (Nat.zero_le _) rfl _ _ _ hP hD hS (lv_sub hl [0, 1, 2] rfl)
set_option maxHeartbeats 4000000 in
set_option maxRecDepth 100000 in
theorem mt_Hd_refusesBonus (l : Launch) (Γ : GE) (sz : Nat) (e0 : Nat) (e1 : Nat) (e2 : Nat) (e3 : Nat) (e4 : Nat) (e5 : Nat) (td : Int32) (pk : Int32) (pd : Int32) (x1 : LST) (m1 : Int32) (nr : Nat) (ra : Nat → Nat) (rv : Nat → Nat → Int32) (P : va_W) (lim : Int32) (bon : Int32) (hal1 : alI Γ x1 nr ra) (nr4 : nr ≤ 4) (hrw : ∀ k, k < nr → (ra k, rowE (rv k)) ∈ P) : KM l yX2_refusesBonus cX2_refusesBonus 3 (some FieldType.int) Γ 4 86 0 0 [.ref e0, .int lim, .int bon] [[(e0, .inr (1, [.ref e1, .ref e2, .ref e3, .ref e4, .ref e5, .int td, .int pk, .int pd]))], [(e2, .inr (11, [.int m1, .ref x1.1, .int (nI nr)]))], (alA Γ x1)] [P] sz (Qi Γ (fun r_ u_ => r_ = (rfBonus rv nr lim bon) ∧ u_ = [[(e0, .inr (1, [.ref e1, .ref e2, .ref e3, .ref e4, .ref e5, .int td, .int pk, .int pd]))], [(e2, .inr (11, [.int m1, .ref x1.1, .int (nI nr)]))], (alA Γ x1)])) := by
  refine K_intro (by decide) (Nat.le_of_ble_eq_true rfl) ?_
  intro pr_ ev_ s mi_ below meth cd_ A ls hx hb hr hml hown hts hlocks hname hK hE hRo hP hD hA hS hsz hl
  have hl : lv_has ls 3 [(0, .ref e0), (1, .int lim), (2, .int bon)] := hl
  have hown : s.vm.findClass RX2 = some mi_.cls := hown
  refine lv_iload_n hx hb dX2_refusesBonus_0 rfl (lv_at hl 1 rfl) ?_
  refine lv_iconst (v := 0) hx hb dX2_refusesBonus_1 (by decide) ?_
  refine lv_sipush (v := 999) hx hb dX2_refusesBonus_2 (by decide) ?_
  refine b_calli (br := [[(e0, .inr (1, [.ref e1, .ref e2, .ref e3, .ref e4, .ref e5, .int td, .int pk, .int pd]))], [(e2, .inr (11, [.int m1, .ref x1.1, .int (nI nr)]))], (alA Γ x1)]) (b_runSN ⟨hx, hb, hml, hown, hts⟩ (mt_DB_in l Γ _ lim 0 999) (hE.1.1 _ q962 rfl) q807 q62 q808 rfl rfl 3 ⟨by decide, by decide, by decide +kernel⟩ ⟨(Nat.le_of_ble_eq_true rfl), (Nat.le_of_ble_eq_true rfl)⟩ (c_pre hP hD hS hA hK hE [] rfl rfl ro_nil) rfl hl.1 rfl (Nat.le_of_ble_eq_true rfl) dX2_refusesBonus_5 ⟨(Nat.le_of_ble_eq_true rfl), (Nat.le_of_ble_eq_true rfl)⟩) hP hD hS hA [] [0, 1, 2] rfl rfl rfl (fun r_1 u_1 H locs hw_1 hP hD hS _ => ?_)
  obtain ⟨rfl, rfl⟩ := hw_1
  have hP : WP Γ [[(e0, .inr (1, [.ref e1, .ref e2, .ref e3, .ref e4, .ref e5, .int td, .int pk, .int pd]))], [(e2, .inr (11, [.int m1, .ref x1.1, .int (nI nr)]))], (alA Γ x1)] H := hP
  have hD : WD A [[(e0, .inr (1, [.ref e1, .ref e2, .ref e3, .ref e4, .ref e5, .int td, .int pk, .int pd]))], [(e2, .inr (11, [.int m1, .ref x1.1, .int (nI nr)]))], (alA Γ x1)] := hD
  refine lv_if_eq (tgt := 21) hx hb dX2_refusesBonus_8 (by decide) (fun c_2 => ?_) (fun c_2 => ?_)
  · -- 8 taken
    refine lv_iconst (v := 5) hx hb dX2_refusesBonus_21 (by decide) ?_
    exact b_iret hx hb hr hlocks hP hD hS (Nat.le_of_ble_eq_true rfl) (Nat.le_of_ble_eq_true rfl) ⟨(by first | with_reducible rfl | (simp [rfBonus, c_2]; done) | rfl), (by first | with_reducible rfl | (simp [rfBonus, c_2]; done) | rfl)⟩ dX2_refusesBonus_22
  · -- 8 not taken
    refine lv_iload_n hx hb dX2_refusesBonus_11 rfl (lv_at hl 2 rfl) ?_
    refine lv_iconst (v := 0) hx hb dX2_refusesBonus_12 (by decide) ?_
    refine lv_bipush (v := 20) hx hb dX2_refusesBonus_13 (by decide) ?_
    refine b_calli (br := [[(e0, .inr (1, [.ref e1, .ref e2, .ref e3, .ref e4, .ref e5, .int td, .int pk, .int pd]))], [(e2, .inr (11, [.int m1, .ref x1.1, .int (nI nr)]))], (alA Γ x1)]) (b_runSN ⟨hx, hb, hml, hown, hts⟩ (mt_DB_in l Γ _ bon 0 20) (hE.1.1 _ q962 rfl) q807 q62 q808 rfl rfl 3 ⟨by decide, by decide, by decide +kernel⟩ ⟨(Nat.le_of_ble_eq_true rfl), (Nat.le_of_ble_eq_true rfl)⟩ (c_pre hP hD hS hA hK hE [] rfl rfl ro_nil) rfl hl.1 rfl (Nat.le_of_ble_eq_true rfl) dX2_refusesBonus_15 ⟨(Nat.le_of_ble_eq_true rfl), (Nat.le_of_ble_eq_true rfl)⟩) hP hD hS hA [] [0, 1, 2] rfl rfl rfl (fun r_3 u_3 H locs hw_3 hP hD hS _ => ?_)
    obtain ⟨rfl, rfl⟩ := hw_3
    have hP : WP Γ [[(e0, .inr (1, [.ref e1, .ref e2, .ref e3, .ref e4, .ref e5, .int td, .int pk, .int pd]))], [(e2, .inr (11, [.int m1, .ref x1.1, .int (nI nr)]))], (alA Γ x1)] H := hP
    have hD : WD A [[(e0, .inr (1, [.ref e1, .ref e2, .ref e3, .ref e4, .ref e5, .int td, .int pk, .int pd]))], [(e2, .inr (11, [.int m1, .ref x1.1, .int (nI nr)]))], (alA Γ x1)] := hD
    refine lv_if_ne (tgt := 23) hx hb dX2_refusesBonus_18 (by decide) (fun c_4 => ?_) (fun c_4 => ?_)
    · -- 18 taken
      refine lv_aload_n hx hb dX2_refusesBonus_23 rfl (lv_at hl 0 rfl) ?_
      refine b_get (C := RX2) (T := TX2) (N := 8) (v := .ref e2) hx hb hts in_X2 hown hK (b_at (k := 0) hP rfl) rfl 1 (by decide) q166 (fun _ h9 => h9) rfl dX2_refusesBonus_24 ?_
      refine b_calli (br := [[(e0, .inr (1, [.ref e1, .ref e2, .ref e3, .ref e4, .ref e5, .int td, .int pk, .int pd]))], (alA Γ x1)]) (b_runV ⟨hx, hb, hml, hown, hts⟩ (mt_AL_size l Γ _ e2 m1 x1.1 nr) (lw_V q961 q818 q819 q66 q820) rfl rfl 0 (by decide +kernel) ⟨(Nat.le_of_ble_eq_true rfl), (Nat.le_of_ble_eq_true rfl)⟩ (c_pre hP hD hS hA hK hE [1] rfl rfl ro_nil) (recv_at (q := (RJ2, TJ2, 3)) hK (b_at (k := 1) hP rfl) rfl) rfl hl.1 rfl (Nat.le_of_ble_eq_true rfl) dX2_refusesBonus_27 ⟨(Nat.le_of_ble_eq_true rfl), (Nat.le_of_ble_eq_true rfl)⟩) hP hD hS hA [1] [0, 2] rfl rfl rfl (fun r_5 u_5 H locs hw_5 hP hD hS _ => ?_)
      obtain ⟨rfl, rfl⟩ := hw_5
      have hP : WP Γ [[(e2, .inr (11, [.int m1, .ref x1.1, .int (nI nr)]))], [(e0, .inr (1, [.ref e1, .ref e2, .ref e3, .ref e4, .ref e5, .int td, .int pk, .int pd]))], (alA Γ x1)] H := hP
      have hD : WD A [[(e2, .inr (11, [.int m1, .ref x1.1, .int (nI nr)]))], [(e0, .inr (1, [.ref e1, .ref e2, .ref e3, .ref e4, .ref e5, .int td, .int pk, .int pd]))], (alA Γ x1)] := hD
      refine lv_iconst (v := 4) hx hb dX2_refusesBonus_30 (by decide) ?_
      refine lv_icmp_ne (tgt := 46) hx hb dX2_refusesBonus_31 (by decide) (fun c_6 => ?_) (fun c_6 => ?_)
      · -- 31 taken
        have n_6 : ¬ (nr = 4) := fun h => c_6 ((nI_eq (a := nr) (b := 4) (by omega) (by omega)).mpr h)
        refine lv_iconst (v := 0) hx hb dX2_refusesBonus_46 (by decide) ?_
        have hP : WP Γ [[(e0, .inr (1, [.ref e1, .ref e2, .ref e3, .ref e4, .ref e5, .int td, .int pk, .int pd]))], [(e2, .inr (11, [.int m1, .ref x1.1, .int (nI nr)]))], (alA Γ x1)] H := bP_sel hP [1, 0, 2] rfl
        have hD : WD A [[(e0, .inr (1, [.ref e1, .ref e2, .ref e3, .ref e4, .ref e5, .int td, .int pk, .int pd]))], [(e2, .inr (11, [.int m1, .ref x1.1, .int (nI nr)]))], (alA Γ x1)] := bD_sel hD [1, 0, 2] rfl rfl
        exact b_iret hx hb hr hlocks hP hD hS (Nat.le_of_ble_eq_true rfl) (Nat.le_of_ble_eq_true rfl) ⟨(by first | with_reducible rfl | (simp [rfBonus, c_2, c_4, n_6]; done) | rfl), (by first | with_reducible rfl | (simp [rfBonus, c_2, c_4, n_6]; done) | rfl)⟩ dX2_refusesBonus_47
      · -- 31 not taken
        have n_6 : nr = 4 := (nI_eq (by omega) (by omega)).mp (show nI nr = nI 4 from c_6)
        refine lv_aload_n hx hb dX2_refusesBonus_34 rfl (lv_at hl 0 rfl) ?_
        refine lv_iload_n hx hb dX2_refusesBonus_35 rfl (lv_at hl 1 rfl) ?_
        refine b_calli (br := []) (b_runV ⟨hx, hb, hml, hown, hts⟩ (mt_Hd_rowOf l Γ _ e0 e1 e2 e3 e4 e5 td pk pd x1 m1 nr ra rv P lim (by assumption) (by first | assumption | omega) (by assumption)) (lw_V q1106 q1108 qs10 q63 q1109) rfl rfl 1 (by decide +kernel) ⟨(Nat.le_of_ble_eq_true rfl), (Nat.le_of_ble_eq_true rfl)⟩ (c_pre hP hD hS hA hK hE [1, 0, 2] rfl rfl (ro_pass (ro_sel (ro2 := [P]) hRo [0] rfl) hD hS hA [1, 0, 2] rfl)) (recv_at (q := (RX2, TX2, 8)) hK (b_at (k := 1) hP rfl) rfl) rfl hl.1 rfl (Nat.le_of_ble_eq_true rfl) dX2_refusesBonus_36 ⟨(Nat.le_of_ble_eq_true rfl), (Nat.le_of_ble_eq_true rfl)⟩) hP hD hS hA [1, 0, 2] [] rfl rfl rfl (fun r_7 u_7 H locs hw_7 hP hD hS _ => ?_)
        obtain ⟨rfl, rfl⟩ := hw_7
        have hP : WP Γ [[(e0, .inr (1, [.ref e1, .ref e2, .ref e3, .ref e4, .ref e5, .int td, .int pk, .int pd]))], [(e2, .inr (11, [.int m1, .ref x1.1, .int (nI nr)]))], (alA Γ x1)] H := hP
        have hD : WD A [[(e0, .inr (1, [.ref e1, .ref e2, .ref e3, .ref e4, .ref e5, .int td, .int pk, .int pd]))], [(e2, .inr (11, [.int m1, .ref x1.1, .int (nI nr)]))], (alA Γ x1)] := hD
        refine lv_if_ge (tgt := 46) hx hb dX2_refusesBonus_39 (by decide) (fun c_8 => ?_) (fun c_8 => ?_)
        · -- 39 taken
          have d_8 := Int32.not_lt.mpr c_8
          refine lv_iconst (v := 0) hx hb dX2_refusesBonus_46 (by decide) ?_
          exact b_iret hx hb hr hlocks hP hD hS (Nat.le_of_ble_eq_true rfl) (Nat.le_of_ble_eq_true rfl) ⟨(by first | with_reducible rfl | (simp [rfBonus, c_2, c_4, n_6, c_8, d_8]; done) | (subst n_6; simp [rfBonus, c_2, c_4, c_8, d_8]; done) | rfl), (by first | with_reducible rfl | (simp [rfBonus, c_2, c_4, n_6, c_8, d_8]; done) | (subst n_6; simp [rfBonus, c_2, c_4, c_8, d_8]; done) | rfl)⟩ dX2_refusesBonus_47
        · -- 39 not taken
          have d_8 := Int32.not_le.mp c_8
          refine lv_iconst (v := 5) hx hb dX2_refusesBonus_42 (by decide) ?_
          refine lv_goto (tgt := 47) hx hb dX2_refusesBonus_43 (by decide) ?_
          exact b_iret hx hb hr hlocks hP hD hS (Nat.le_of_ble_eq_true rfl) (Nat.le_of_ble_eq_true rfl) ⟨(by first | with_reducible rfl | (simp [rfBonus, c_2, c_4, n_6, c_8, d_8]; done) | (subst n_6; simp [rfBonus, c_2, c_4, c_8, d_8]; done) | rfl), (by first | with_reducible rfl | (simp [rfBonus, c_2, c_4, n_6, c_8, d_8]; done) | (subst n_6; simp [rfBonus, c_2, c_4, c_8, d_8]; done) | rfl)⟩ dX2_refusesBonus_47
    · -- 18 not taken
      refine lv_iconst (v := 5) hx hb dX2_refusesBonus_21 (by decide) ?_
      exact b_iret hx hb hr hlocks hP hD hS (Nat.le_of_ble_eq_true rfl) (Nat.le_of_ble_eq_true rfl) ⟨(by first | with_reducible rfl | (simp [rfBonus, c_2, c_4]; done) | rfl), (by first | with_reducible rfl | (simp [rfBonus, c_2, c_4]; done) | rfl)⟩ dX2_refusesBonus_22
