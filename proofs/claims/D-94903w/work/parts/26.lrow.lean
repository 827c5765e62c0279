/-! the law's walk: the component's heap and the Model's object side by side -/
def SigOK (y : MethodName) (s : State) : Prop := ∀ (mk : MethodId) (meth : Method), s.methodNamed? y = some mk → s.vm.method? mk = some meth → parseMethodDescriptor y.desc = some meth.sig
theorem SigOK.of {y : MethodName} {b : ByteArray} {maxL : Nat} {ret : Option FieldType} {s : State} {args : Array Value} (hts : ∀ w ∈ lw_all, w.before args s = true) (hc : Cond.code y b maxL ret ∈ lw_all) : SigOK y s := fun mk meth hn hm => by
  obtain ⟨methM', cM, hmethM', -, -, -, -, -, -, hsigM⟩ := Cond.code_spec hn (hts _ hc)
  cases hm.symm.trans hmethM'
  exact hsigM
theorem SigOK.ofW {y : MethodName} {b : ByteArray} {maxL : Nat} {ret : Option FieldType} {hh : List (Nat × Nat × Nat × Nat)} {s : State} {args : Array Value} (hts : ∀ w ∈ lw_all, w.before args s = true) (hc : Cond.codeWith y b maxL ret hh ∈ lw_all) : SigOK y s := fun mk meth hn hm => by
  obtain ⟨m9, meth9, c9, hn9, h1, -, -, -, -, -, -, h6⟩ := Cond.codeWith_spec (hts _ hc)
  cases Option.some.inj (hn9.symm.trans hn)
  cases Option.some.inj (h1.symm.trans hm)
  exact h6
def LW (D Dm : va_G) (h0 : HS) (bm z : Nat) (h : HS) (σ : MS) (s : State) (H : Heap) (locs : List Loc) (cells slots : Nat) : Prop :=
  HI D h0 h s.heap H locs cells slots ∧ MP Dm bm (adm z) σ H ∧ mDj bm (adm z) ∧ ∀ q, mFr bm (adm z) q → kT h q = 0 ∧ kZ h0 ≤ q ∧ q < kZ h
theorem MP.kept {Dm : va_G} {bm : Nat} {ad : Nat → Nat} {σ : MS} {H H1 : Heap} (h : MP Dm bm ad σ H) (hq : ∀ q, mFr bm ad q → H1[q]? = H[q]?) : MP Dm bm ad σ H1 := by
  obtain ⟨⟨cell, q1, q2⟩, h2⟩ := h
  exact ⟨⟨cell, by rw [hq bm (Or.inl rfl)]; exact q1, q2⟩, fun k hk hk3 => by rw [hq (ad k) (Or.inr ⟨k, hk, hk3, rfl⟩)]; exact h2 k hk hk3⟩
theorem HP.kept {D : va_G} {h : HS} {H H1 : Heap} (hP : HP D h H) (hz : H1.size = H.size) (hq : ∀ q : Nat, kT h q ≠ 0 → H1[q]? = H[q]?) : HP D h H1 := by
  refine ⟨hz.trans hP.1, fun a => ?_⟩
  obtain ⟨h1, h2, h3, h4, h5, h6⟩ := hP.2 a
  by_cases ha : kT h a = 0
  · exact ⟨fun ci hc e => by omega, fun t b1 b2 e => by omega, fun t b1 b2 e => by omega, h4, fun e => by omega, fun e => by omega⟩
  · have hh := hq a ha
    refine ⟨fun ci hc e => ?_, fun t b1 b2 e => by rw [hh]; exact h2 t b1 b2 e, fun t b1 b2 e => by rw [hh]; exact h3 t b1 b2 e, h4, fun e cell hc => h5 e cell (by rw [← hh]; exact hc), fun e => by rw [hh]; exact h6 e⟩
    obtain ⟨cell, q1, q2⟩ := h1 ci hc e
    exact ⟨cell, by rw [hh]; exact q1, q2⟩
section LRW
variable {p : Program} {l : Launch} {e : Env} {s : State} {m : MethodId} {args : Array Value} {below : List Frame} {meth : Method} {c : Code} {H : Heap} {locs : List Loc} {cells slots FR LO : Nat} {Q : State → Prop} {cc : ByteArray} {nL pc : Nat} {ls : Array Slot} {own : String} {rest : List Value} {D Dm : va_G} {h0 h h' : HS} {bm z : Nat} {σ σ' : MS}
theorem li_V {R : Room} {C : String} {index : Nat} {y : MethodName} {b : Nat} {As rest st0 : List Value} (S : CallFix p m c cc nL s args lw_all own) (hlink : Cond.methodLink own index y ∈ lw_all) (hinst : Cond.instanceMethod y ∈ lw_all) (hsel : Cond.selects C y y ∈ lw_all) (hsig : SigOK y s)
    (hy : y.cls ≠ "java/lang/invoke/MethodHandle" ∧ y.cls ≠ "java/lang/invoke/VarHandle") (hcell : ∃ cellB : Cell, H[b]? = some cellB ∧ cellB.vm.isStatics = false ∧ s.vm.findClass C = some cellB.cls)
    (hlen : (parseMethodDescriptor y.desc).map (fun d => d.parameters.length) = some As.length) (hst : st0 = As.reverse ++ .ref b :: rest) (hdg : decode cc pc = .ok (.invokevirtual index, 3)) :
    CInv p l e R s m args below meth c H locs cells slots (F0 m pc ls st0) rest y (Value.ref b :: As).toArray := by
  subst hst
  obtain ⟨hx, hb, hml, hown, hts⟩ := S
  intro T hT X
  obtain ⟨cellB, hcB, hobj, hcls⟩ := hcell
  obtain ⟨mk, methM, hnamed, hmethM, hstM, habM⟩ := Cond.instanceMethod_spec (hts _ hinst)
  have hsigM := hsig mk methM hnamed hmethM
  obtain ⟨c2, r2, m2, q1, q2, q3, q4, kP, hkP, hkPi⟩ := Cond.selects_spec (hts _ hsel)
  cases hcls.symm.trans q1
  cases (State.methodFound?_of_named hnamed hy).symm.trans q2
  cases hnamed.symm.trans q3
  have hselP : selectMethod e.platform s.vm cellB.cls mk = .method mk := by rw [Launch.admits_selectMethod X.admits]; exact q4
  have hl9 : As.length = methM.sig.parameters.length := by rw [hsigM] at hlen; exact (Option.some.inj hlen).symm
  obtain ⟨vm₁, X₁, hstep₁⟩ := X.invokevirtual hx hown (hts _ hlink) hnamed hmethM hstM hkP hkPi hy (a := b) (cell := cellB) (by rw [hT]; exact hcB)
    (fun z h => by rw [h] at hobj; cases hobj) hselP hmethM habM hkP hkPi (g := F0 m pc ls (As.reverse ++ .ref b :: rest)) rfl (argsL := As) (rest := rest) hl9 rfl (by rw [hb]; exact hdg)
  exact ⟨vm₁, mk, .invokevirtual index, X₁, X₁.named hnamed, by rw [hb]; exact hdg, fun target h => hstep₁ _ fun acts => by rw [doInvoke_state]; exact h⟩
theorem li_S {R : Room} {index : Nat} {y : MethodName} {As rest st0 : List Value} {bytes : ByteArray} {maxL : Nat} {ret : Option FieldType} {hh : List (Nat × Nat × Nat × Nat)} (S : CallFix p m c cc nL s args lw_all own) (hlink : Cond.methodLink own index y ∈ lw_all) (hstat : Cond.static y ∈ lw_all) (hinit : Cond.initialized y.cls ∈ lw_all) (hcode : Cond.codeWith y bytes maxL ret hh ∈ lw_all)
    (hy : y.cls ≠ "java/lang/invoke/MethodHandle" ∧ y.cls ≠ "java/lang/invoke/VarHandle") (hlen : (parseMethodDescriptor y.desc).map (fun d => d.parameters.length) = some As.length) (hst : st0 = As.reverse ++ rest) (hdg : decode cc pc = .ok (.invokestatic index, 3)) :
    CInv p l e R s m args below meth c H locs cells slots (F0 m pc ls st0) rest y As.toArray := by
  subst hst
  obtain ⟨hx, hb, hml, hown, hts⟩ := S
  intro T hT X
  obtain ⟨mk, methM, cM, hnamed, hmethM, -, -, -, -, -, -, hsigM⟩ := Cond.codeWith_spec (hts _ hcode)
  have hstatic : methM.isStatic = true := Cond.static_spec hnamed hmethM (hts _ hstat)
  obtain ⟨kP, hkP, -⟩ := className_of_methodNamed hnamed
  have hinitP : kP.init = .initialized := Cond.initialized_spec (findClass_of_methodNamed hnamed) hkP (hts _ hinit)
  have hl9 : As.length = methM.sig.parameters.length := by rw [hsigM] at hlen; exact (Option.some.inj hlen).symm
  obtain ⟨vm₁, X₁, hstep₁⟩ := X.invokestatic hx hown (hts _ hlink) hnamed hmethM hstatic hkP hinitP hy (g := F0 m pc ls (As.reverse ++ rest)) rfl (argsL := As) (rest := rest) hl9 rfl (by rw [hb]; exact hdg)
  exact ⟨vm₁, mk, .invokestatic index, X₁, X₁.named hnamed, by rw [hb]; exact hdg, fun target h => hstep₁ _ fun acts => by rw [doInvoke_state]; exact h⟩
/-- the component is called: the Model's cells stay -/
theorem lcall {y : MethodName} {ws : List Cond} {maxL fr lo : Nat} {As st0 st1 : List Value} {rv : Option Value} (S : CallFix p m c cc nL s args lw_all own) (hX : CX D (kG h0) s) (hL : LW D Dm h0 bm z h σ s H locs cells slots) (hMet : CMet l y ws fr lo D As h h' (.inr rv)) (hi : CInv p l e (cR FR LO h0) s m args below meth c H locs cells slots (F0 m pc ls st0) rest y As.toArray)
    (hws : ∀ w ∈ ws, ∀ a' U, s.WarmedH U.vm → w.before a' U = true) (hcode : CodeOK y maxL s) (hin : Cond.initialized y.cls ∈ lw_all) (hfr : fr + 1 ≤ FR) (hlo : 8 + (maxL + 11) + lo ≤ LO) (hl : ls.size = nL) (hW : (rest.map fun v => v.category).sum ≤ 8) (hst1 : rv.toList ++ rest = st1)
    (kk : ∀ (H1 : Heap) (locs1 : List Loc) (c1 s1 : Nat), LW D Dm h0 bm z h' σ s H1 locs1 c1 s1 → W p l e (cR FR LO h0) s m args below meth c H1 locs1 c1 s1 Q (F0 m (pc + 3) ls st1)) : W p l e (cR FR LO h0) s m args below meth c H locs cells slots Q (F0 m pc ls st0) := by
  obtain ⟨⟨hP, hG, hfr0, hlc, hz, hw, hzm, hwm, hb0⟩, hMP, hDj, hF⟩ := hL
  intro T hT X
  obtain ⟨vm₁, mk, ig, X₁, hn, hdg, st⟩ := hi T hT X
  have hpc : cPc D As h As.toArray (T.setVm vm₁) := by
    refine ⟨rfl, by show HP D h T.heap; rw [hT]; exact hP, ?_, by rw [hG]; exact hzm, by rw [hG]; exact hwm, by rw [hG]; have := hb0.1; omega⟩
    rw [hG]
    exact CX.moved X₁.warmed (fun q hq => by show T.heap[q]? = _; rw [hT]; exact hfr0 q hq) hX
  obtain ⟨t, T', L, ⟨-, z1, z2, z3, z4, z5, z6, z7, -⟩, hL, e1, e2, X', s1, s2⟩ := cback (g := { F0 m pc ls st0 with stack := rest }) hMet hfr hlo hws hcode (fun a' U hW9 => word_at hW9 (lw_self _ hin).2 (S.2.2.2.2 _ hin)) X₁ rfl (hl.trans S.2.2.1.symm) hdg (lv_room hW) hn
    (by show cells + _ ≤ kG h0 1 - kZ h0; rw [hG]; omega) (by show slots + _ ≤ kG h0 2 - kW h0; rw [hG]; omega) hpc
  have hy : fzz h h' H T'.heap := fun q q1 q2 => by
    obtain ⟨y1, y2⟩ := z7.2 q q1 q2
    refine ⟨y1, ?_⟩
    rw [e1, y2]
    show T.heap[q]? = _
    rw [hT]
  have hI : HI D h0 h' s.heap T'.heap (locs ++ L) (cells + (kZ h' - kZ h)) (slots + (kW h' - kW h)) := by
    refine ⟨by rw [e1]; exact z1, z2.trans hG, fun q hq => ?_, fun z hz9 => ?_, by omega, by omega, by rw [hG] at z6; exact z6, by rw [hG] at z7; exact z7.1, hb0.1, fzz.trans (by omega) hb0.2 hy⟩
    · rw [e1, z3 q (by rw [hG]; exact hq)]
      show T.heap[q]? = _
      rw [hT]; exact hfr0 q hq
    · rcases List.mem_append.mp hz9 with h9 | h9
      · exact hlc z h9
      · have := hL z h9
        rw [hG] at this
        exact this
  subst hst1
  obtain ⟨t2, a1, b1⟩ := kk _ _ _ _ ⟨hI, hMP.kept fun q hq => (hy q (hF q hq).2.2 (hF q hq).1).2, hDj, fun q hq => ⟨(hy q (hF q hq).2.2 (hF q hq).1).1, (hF q hq).2.1, by have := (hF q hq).2.2; omega⟩⟩ T' rfl X'
  exact ⟨t2, st _ ((s1 rv rfl).trans a1), b1⟩
/-- the Model is called -/
theorem lmodel {y : MethodName} {bytes : ByteArray} {maxL n index : Nat} {ret : Option FieldType} {rm : Room} {rv : Option Value} {As : List Value} {st0 st1 : List Value} (S : CallFix p m c cc nL s args lw_all own) (hK : va_K Dm mCl (mTy Dm) s) (hLW : LW D Dm h0 bm z h σ s H locs cells slots) (hg0 : kG h0 0 = kZ h0)
    (hMet : Met l y (ws_ y bytes maxL ret) rm (mPc Dm bm (adm z) As σ) (mQ Dm bm (adm z) rv σ') 0 0 (mFr bm (adm z))) (hV : GoodIn lw_all (wsV own index RX5 y (ws_ y bytes maxL ret))) (hd : y.cls = RX5 ∧ y.cls ≠ "java/lang/invoke/MethodHandle" ∧ y.cls ≠ "java/lang/invoke/VarHandle" ∧ (parseMethodDescriptor y.desc).map (fun d => d.parameters.length) = some n)
    (hrm : rm.cells = 0 ∧ rm.slots = 0 ∧ rm.frames + 1 ≤ FR ∧ 8 + (maxL + 11) + rm.locals ≤ LO) (hn : As.length = n) (hsize : ls.size = nL) (hst : st0 = As.reverse ++ .ref bm :: rest) (hst1 : rv.toList ++ rest = st1) (hW : (rest.map fun v => v.category).sum ≤ 8) (hdg : decode cc pc = .ok (.invokevirtual index, 3))
    (kk : ∀ (H1 : Heap) (locs1 : List Loc), LW D Dm h0 bm z h σ' s H1 locs1 cells slots → W p l e (cR FR LO h0) s m args below meth c H1 locs1 cells slots Q (F0 m (pc + 3) ls st1)) : W p l e (cR FR LO h0) s m args below meth c H locs cells slots Q (F0 m pc ls st0) := by
  subst hst
  subst hst1
  obtain ⟨⟨hP0, hG, hfr0, hlc, hz0, hw0, hzm, hwm, hb0⟩, hP, hDj, hF⟩ := hLW
  have hcl : ∃ cellB : Cell, H[bm]? = some cellB ∧ cellB.vm.isStatics = false ∧ s.vm.findClass RX5 = some cellB.cls := by
    obtain ⟨cell, q1, q2, q3, -⟩ := hP.1
    obtain ⟨-, hfc, -⟩ := hK.1 0 _ rfl
    exact ⟨cell, q1, by rw [q3]; rfl, by rw [q2]; exact hfc⟩
  have hr := va_runV (p := p) (e := e) (below := below) (meth := meth) (locs := locs) (cells := cells) (slots := slots) (R := cR FR LO h0) (g := F0 m pc ls (As.reverse ++ .ref bm :: rest)) S hMet (cwV n S.2.2.2.2 hV rfl hrm.1 hrm.2.1 hd hrm.2.2) ⟨mPc_blind, hcl, fun U hU hW => ⟨rfl, by rw [hU]; exact hP, hDj, va_K.moved hW.alike hK⟩⟩ rfl hn hsize rfl (lv_room hW) hdg ⟨by show cells ≤ kG h0 1 - kZ h0; omega, by show slots ≤ kG h0 2 - kW h0; omega⟩
  intro T hT X
  obtain ⟨v, st₀, t, T', L, h0', X', hL, e1, e2, ⟨hv, hP1, hz, hk⟩, st⟩ := hr T hT X
  cases hv
  rw [h0'] at hz hk
  have hk9 : ∀ q : Nat, ¬ mFr bm (adm z) q → T'.heap[q]? = H[q]? := fun q hq => by rw [e1]; exact hk q hq
  have hI : HI D h0 h s.heap T'.heap (locs ++ L) cells slots := by
    refine ⟨hP0.kept (by rw [e1]; exact hz) (fun q hq => hk9 q fun h9 => hq (hF q h9).1), hG, fun q hq => ?_, fun x hx => (List.mem_append.mp hx).elim (hlc x) (fun h9 => by rw [hg0]; exact (hF _ (hL x h9)).2.1), hz0, hw0, hzm, hwm, hb0.1, fun q q1 q2 => ?_⟩
    · rw [hk9 q (fun h9 => by have := (hF q h9).2.1; omega)]
      exact hfr0 q hq
    · obtain ⟨y1, y2⟩ := hb0.2 q q1 q2
      exact ⟨y1, by rw [hk9 q (fun h9 => by have := (hF q h9).2.1; omega)]; exact y2⟩
  obtain ⟨t2, a1, b1⟩ := kk T'.heap (locs ++ L) ⟨hI, by rw [e1]; exact hP1, hDj, hF⟩ T' rfl X'
  exact ⟨t2, st t2 a1, b1⟩
/-- the script, in the law's walk -/
theorem lscr {b L : Nat} {xs : Nat → Int32} (S : CallFix p m c cc nL s args lw_all own) (hX : va_X b L xs s s.heap) (hbl : b < s.heap.size) (hLW : LW D Dm h0 bm z h σ s H locs cells slots) (hg0 : kG h0 0 = s.heap.size) (i : Nat) (hi : i < L) (hL : L ≤ 384) {x : Int32} (hx : x = nI i) (hdg : decode cc pc = .ok (.iaload, 1))
    (kk : W p l e (cR FR LO h0) s m args below meth c H locs cells slots Q (F0 m (pc + 1) ls (.int (xs i) :: rest))) : W p l e (cR FR LO h0) s m args below meth c H locs cells slots Q (F0 m pc ls (.int x :: .ref b :: rest)) := by
  subst hx
  obtain ⟨scr, h1, h2, h3, h4, h5⟩ := hX
  have hc : (nI i).toNatClampNeg = i := nI_clamp (by omega)
  refine W.iald S.1 S.2.1 (by rw [hLW.1.2.2.1 b (by omega)]; exact h1) h2 h3 (by rw [h4]; exact nI_in hi (by omega)) (v := .int (xs i)) (by rw [hc]; exact h5 i hi) rfl rfl hdg kk
theorem lscl {b L : Nat} {xs : Nat → Int32} (S : CallFix p m c cc nL s args lw_all own) (hX : va_X b L xs s s.heap) (hbl : b < s.heap.size) (hLW : LW D Dm h0 bm z h σ s H locs cells slots) (hg0 : kG h0 0 = s.heap.size) (hdg : decode cc pc = .ok (.arraylength, 1))
    (kk : W p l e (cR FR LO h0) s m args below meth c H locs cells slots Q (F0 m (pc + 1) ls (.int (nI L) :: rest))) : W p l e (cR FR LO h0) s m args below meth c H locs cells slots Q (F0 m pc ls (.ref b :: rest)) := by
  obtain ⟨scr, h1, h2, h3, h4, h5⟩ := hX
  exact W.alen (n := Int32.ofNat L) S.1 S.2.1 (by rw [hLW.1.2.2.1 b (by omega)]; exact h1) h2 (by rw [h4] <;> rfl) rfl rfl hdg kk
theorem lout {o : Nat} (S : CallFix p m c cc nL s args lw_all own) (hX : CX D (kG h0) s) (hLW : LW D Dm h0 bm z h σ s H locs cells slots) (ht : kT h o = 41) (hN : kN h o = 1) (hdg : decode cc pc = .ok (.laload, 1))
    (kk : W p l e (cR FR LO h0) s m args below meth c H locs cells slots Q (F0 m (pc + 1) ls (.long (kI h o 0).toInt64 :: rest))) : W p l e (cR FR LO h0) s m args below meth c H locs cells slots Q (F0 m pc ls (.int 0 :: .ref o :: rest)) := by
  have hc := (hLW.1.1.2 o).2.2.2.2.2 ht
  refine W.lald S.1 S.2.1 hc ((hX.1.2 10 _ rfl).1 (kN h o) (fun j => .long (kI h o j).toInt64)) (fun q => by cases q) (by show ¬ ((0 : Int32) < 0 ∨ (arrV _ _ _).slots.size ≤ _); rw [arrV_size, hN]; decide) (by show (arrV _ _ _).slots[(0 : Int32).toNatClampNeg]? = _; rw [arrV_read _ _ (by rw [hN]; decide)]) rfl rfl hdg ?_
  exact kk
end LRW
