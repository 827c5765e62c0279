/-! calls by contract, the callee returning or throwing (after the proofs of kit/laws/EXCEPTIONS.to-paste: vx_back, vx_callV ..) -/
/-- the method's frame g, with q thrown over it -/
def cX (p : Program) (l : Launch) (e : Env) (R : Room) (s : State) (m : MethodId) (args : Array Value) (below : List Frame) (meth : Method) (c : Code) (H : Heap) (locs : List Loc) (cells slots : Nat) (Q : State → Prop) (g : JFrame) (q : Addr) : Prop :=
  ∀ T : State, T.heap = H → Stand p l e R s m args below meth c T locs cells slots → ∃ t, Steps p.tables e below ((T.setTop g).pushFrame (.throwing q)) t ∧ Q t
/-- a callee's code as the tables have it -/
def CodeOK (y : MethodName) (maxL : Nat) (s : State) : Prop := ∀ (U : State) (mk : MethodId), s.WarmedH U.vm → U.methodNamed? y = some mk → ∃ meth c, U.vm.method? mk = some meth ∧ meth.code = some c ∧ c.maxLocals = maxL
theorem CodeOK.of {y : MethodName} {b : ByteArray} {maxL : Nat} {ret : Option FieldType} {s : State} {args : Array Value} (hts : ∀ w ∈ lw_all, w.before args s = true) (hc : Cond.code y b maxL ret ∈ lw_all) : CodeOK y maxL s := fun U mk hW hn => by
  have h1 : (Cond.code y b maxL ret).before #[] U = true := word_at hW (lw_self _ hc).2 (hts _ hc)
  obtain ⟨meth, c, a1, a2, -, a3, -⟩ := Cond.code_spec hn h1
  exact ⟨meth, c, a1, a2, a3⟩
theorem CodeOK.ofW {y : MethodName} {b : ByteArray} {maxL : Nat} {ret : Option FieldType} {hh : List (Nat × Nat × Nat × Nat)} {s : State} {args : Array Value} (hts : ∀ w ∈ lw_all, w.before args s = true) (hc : Cond.codeWith y b maxL ret hh ∈ lw_all) : CodeOK y maxL s := fun U mk hW hn => by
  have h1 : (Cond.codeWith y b maxL ret hh).before #[] U = true := word_at hW (lw_self _ hc).2 (hts _ hc)
  obtain ⟨m9, meth, c, hn9, a1, a2, -, a3, -⟩ := Cond.codeWith_spec h1
  cases Option.some.inj (hn9.symm.trans hn)
  exact ⟨meth, c, a1, a2, a3⟩
section CB
variable {l : Launch} {R : Room} {p : Program} {e : Env} {below : List Frame} {s : State} {sargs : Array Value} {y : MethodName}
theorem cback {D : va_G} {ws : List Cond} {fr lo maxL : Nat} {As : List Value} {h h' : HS} {x : Nat ⊕ Option Value} (hM : CMet l y ws fr lo D As h h' x) (hframes : fr + 1 ≤ R.frames) (hlocals : 8 + (maxL + 11) + lo ≤ R.locals)
    (hws : ∀ w ∈ ws, ∀ a' U, s.WarmedH U.vm → w.before a' U = true) (hcode : CodeOK y maxL s) (hinit : ∀ a' U, s.WarmedH U.vm → (Cond.initialized y.cls).before a' U = true)
    {m : MethodId} {meth : Method} {c : Code} {U : State} {Ls : List Loc} {c0 s0 : Nat} {g : JFrame} {ig : Instr} {mk : MethodId} {a : Array Value}
    (X : Stand p l e R s m sargs below meth c U Ls c0 s0) (hg : g.method = m) (hsize : g.locals.size = c.maxLocals) (hdg : decode c.code g.pc = .ok (ig, 3)) (hW : 2 * g.monitorRoom + (g.stack.map fun v => v.category).sum ≤ 8) (hn : U.methodNamed? y = some mk)
    (h4 : c0 + (kG h 1 - kZ h) ≤ R.cells) (h5 : s0 + (kG h 2 - kW h) ≤ R.slots) (hp : cPc D As h a U) :
    ∃ (t T' : State) (L : List Loc), cQ D h h' x a (U.calling g mk a) (cOut x) t ∧ (∀ q ∈ L, kG h 0 ≤ q.base) ∧ T'.heap = t.heap ∧ T'.vm = t.vm ∧ Stand p l e R s m sargs below meth c T' (Ls ++ L) (c0 + (kZ h' - kZ h)) (s0 + (kW h' - kW h)) ∧
      (∀ v, x = .inr v → Steps p.tables e below (doInvoke e (U.setTop g) [] mk a).1 (T'.setTop { g with pc := g.pc + 3, stack := v.toList ++ g.stack })) ∧
      (∀ q, x = .inl q → Steps p.tables e below (doInvoke e (U.setTop g) [] mk a).1 ((T'.setTop g).pushFrame (.throwing q))) := by
  have h1 : (headSpec ws (cR fr lo h)).pre.before a U = true := atoms_intro fun w hw => hws w hw _ _ X.warmed
  have h3 : (Cond.initialized y.cls).before a U = true := hinit _ _ X.warmed
  have hPc : cPc D As h a (U.calling g mk a) := cPc_blind _ _ _ _ hp
  obtain ⟨methY, cY, hmY, hcY, hlY⟩ := hcode U mk X.warmed hn
  obtain ⟨kY, hkY, -⟩ := className_of_methodNamed hn
  have hinitY : kY.init = .initialized := Cond.initialized_spec (findClass_of_methodNamed hn) hkY h3
  have hh : At U g.method c below := by rw [hg]; exact X.here
  have hlocals9 : 8 + (maxL + 11) + (headSpec ws (cR fr lo h)).room.locals ≤ R.locals := hlocals
  have happ : (headSpec ws (cR fr lo h)).appliesLoose y e.platform (U.calling g mk a) = true :=
    Spec.appliesLoose_calling (g := g) hh hdg hn hkY hinitY
      (X.room_calling (g := g) (R' := (headSpec ws (cR fr lo h)).room) hsize hmY hcY hframes (by rw [hlY]; omega) h4 h5) h1
  obtain ⟨mid, hmid⟩ := hh.above
  have hfr : (U.setTop g).frames = (.java g :: mid) ++ below := by rw [State.frames_setTop' g hh.top, hmid]; rfl
  obtain ⟨o, s₂, hsteps, -, hend, hq⟩ := Steps.callFree hM p X.admits X.cas X.clock (acts := []) hfr happ hPc trivial
  have hq : cQ D h h' x a (U.calling g mk a) o s₂ := hq
  rw [State.frames_setTop' g hh.top] at hend
  obtain ⟨g₀, hg0⟩ := Option.isSome_iff_exists.mp hh.top
  obtain ⟨r, hr⟩ := State.topJava?_eq_some.mp hg0
  have hr' : (({ U with heap := s₂.heap, slotsUsed := s₂.slotsUsed } : State).setVm s₂.vm).frames = .java g₀ :: r := hr
  obtain ⟨ho, z1, z2, z3, z4, z5, z6, z7, L, hW₂, hsm, hL⟩ := hq
  subst ho
  obtain ⟨e2, q2, q3, q4, q5, q6⟩ := id hsm
  have e3 : s₂ = ({ (U.calling g mk a).setFrames s₂.frames with heap := s₂.heap, slotsUsed := s₂.slotsUsed } : State).setVm s₂.vm := by
    have : s₂ = ({ s₂ with vm := (U.calling g mk a).vm } : State).setVm s₂.vm := rfl
    rw [e2] at this
    exact this
  have hW' : U.WarmedH s₂.vm := hW₂
  have hsame : U.sameButNew ({ U with heap := s₂.heap, slotsUsed := s₂.slotsUsed } : State) L (kZ h' - kZ h) (kW h' - kW h) := by
    refine ⟨?_, q2, q3, q4, q5, q6⟩
    obtain ⟨t, ht, -⟩ := State.frames_cons hr
    show ({ U with heap := s₂.heap, slotsUsed := s₂.slotsUsed } : State) = { U.setFrames U.frames with heap := s₂.heap, slotsUsed := s₂.slotsUsed }
    rw [State.setFrames_self ht]
  subst hg
  have XX : Stand p l e R s g.method sargs below meth c (({ U with heap := s₂.heap, slotsUsed := s₂.slotsUsed } : State).setVm s₂.vm) (Ls ++ L) (c0 + (kZ h' - kZ h)) (s0 + (kW h' - kW h)) :=
    ⟨X.admits, X.cas, X.clock, X.frames, X.room, X.hears, X.method, X.code, (X.here.setHeapUsed s₂.heap s₂.slotsUsed).setVm hW'.alike, X.tail, State.WarmedH.trans X.warmed hW', X.limits, X.bytes, X.same.trans (hsame.setVm s.vm)⟩
  refine ⟨s₂, (({ U with heap := s₂.heap, slotsUsed := s₂.slotsUsed } : State).setVm s₂.vm), L, ⟨rfl, z1, z2, z3, z4, z5, z6, z7, L, hW₂, hsm, hL⟩, hL, rfl, rfl, XX, fun v hv => ?_, fun q hv => ?_⟩
  · subst hv
    obtain ⟨c₂, i₂, len₂, hc₂, hd₂, hf₂⟩ := hend
    have hcc : c₂ = c := by
      have h1 : s₂.code? g.method = U.code? g.method := by
        rw [State.code?_eq, State.code?_eq, hW'.alike.method?]
      exact Option.some.inj (hc₂.symm.trans (h1.trans hh.code))
    subst hcc
    have hlen : len₂ = 3 := by rw [hdg] at hd₂; cases hd₂; rfl
    subst hlen
    have hs₂ : s₂ = (({ U with heap := s₂.heap, slotsUsed := s₂.slotsUsed } : State).setVm s₂.vm).setTop { g with pc := g.pc + 3, stack := v.toList ++ g.stack } := by
      refine e3.trans ?_
      rw [hf₂, State.calling_eq hh.top, State.setFrames_setFrames, State.setTop_of_frames _ hr', hr]
      rfl
    rw [← hs₂]
    exact hsteps
  · subst hv
    have hf₂ : s₂.frames = .throwing q :: .java g :: U.frames.tail := hend
    have hs₂ : s₂ = ((({ U with heap := s₂.heap, slotsUsed := s₂.slotsUsed } : State).setVm s₂.vm).setTop g).pushFrame (.throwing q) := by
      refine e3.trans ?_
      rw [hf₂, State.calling_eq hh.top, State.setFrames_setFrames, State.pushFrame, State.frames_setTop _ hr', State.setTop_of_frames _ hr', State.setFrames_setFrames, hr]
      rfl
    rw [← hs₂]
    exact hsteps
/-- a step into the method y with the arguments A: what each kind of call shows -/
def CInv (p : Program) (l : Launch) (e : Env) (R : Room) (s : State) (m : MethodId) (args : Array Value) (below : List Frame) (meth : Method) (c : Code) (H : Heap) (locs : List Loc) (cells slots : Nat) (g : JFrame) (rest : List Value) (y : MethodName) (A : Array Value) : Prop :=
  ∀ T : State, T.heap = H → Stand p l e R s m args below meth c T locs cells slots → ∃ (vm₁ : Vm) (mk : MethodId) (ig : Instr), Stand p l e R s m args below meth c (T.setVm vm₁) locs cells slots ∧ (T.setVm vm₁).methodNamed? y = some mk ∧ decode c.code g.pc = .ok (ig, 3) ∧
    ∀ target, Steps p.tables e below (doInvoke e ((T.setVm vm₁).setTop { g with stack := rest }) [] mk A).1 target → Steps p.tables e below (T.setTop g) target
variable {m : MethodId} {meth : Method} {c : Code} {H : Heap} {locs : List Loc} {cells slots : Nat} {Q : State → Prop}
theorem cc_core {D : va_G} {ws : List Cond} {fr lo FR LO maxL : Nat} {As : List Value} {h0 h h' : HS} {x : Nat ⊕ Option Value} {g : JFrame} {rest : List Value}
    (hM : HI D h0 h s.heap H locs cells slots) (hX : CX D (kG h0) s) (hMet : CMet l y ws fr lo D As h h' x) (hi : CInv p l e (cR FR LO h0) s m sargs below meth c H locs cells slots g rest y As.toArray)
    (hws : ∀ w ∈ ws, ∀ a' U, s.WarmedH U.vm → w.before a' U = true) (hcode : CodeOK y maxL s) (hinit : ∀ a' U, s.WarmedH U.vm → (Cond.initialized y.cls).before a' U = true)
    (hfr : fr + 1 ≤ FR) (hlo : 8 + (maxL + 11) + lo ≤ LO) (hg : g.method = m) (hsize : g.locals.size = c.maxLocals) (hW : 2 * g.monitorRoom + (rest.map fun v => v.category).sum ≤ 8)
    (kr : ∀ v, x = .inr v → ∀ (H1 : Heap) (locs1 : List Loc) (c1 s1 : Nat), HI D h0 h' s.heap H1 locs1 c1 s1 → W p l e (cR FR LO h0) s m sargs below meth c H1 locs1 c1 s1 Q { g with pc := g.pc + 3, stack := v.toList ++ rest })
    (kx : ∀ q, x = .inl q → ∀ (H1 : Heap) (locs1 : List Loc) (c1 s1 : Nat), HI D h0 h' s.heap H1 locs1 c1 s1 → cX p l e (cR FR LO h0) s m sargs below meth c H1 locs1 c1 s1 Q { g with stack := rest } q) :
    W p l e (cR FR LO h0) s m sargs below meth c H locs cells slots Q g := by
  obtain ⟨hP, hG, hfr0, hlc, hz, hw, hzm, hwm, hb0⟩ := hM
  intro T hT X
  obtain ⟨vm₁, mk, ig, X₁, hn, hdg, st⟩ := hi T hT X
  have hpc : cPc D As h As.toArray (T.setVm vm₁) := by
    refine ⟨rfl, by show HP D h T.heap; rw [hT]; exact hP, ?_, by rw [hG]; exact hzm, by rw [hG]; exact hwm, by rw [hG]; have := hb0.1; omega⟩
    rw [hG]
    exact CX.moved X₁.warmed (fun q hq => by show T.heap[q]? = _; rw [hT]; exact hfr0 q hq) hX
  obtain ⟨t, T', L, ⟨-, z1, z2, z3, z4, z5, z6, z7, -⟩, hL, e1, e2, X', s1, s2⟩ := cback (g := { g with stack := rest }) hMet hfr hlo hws hcode hinit X₁ hg hsize hdg hW hn
    (by show cells + _ ≤ kG h0 1 - kZ h0; rw [hG]; omega) (by show slots + _ ≤ kG h0 2 - kW h0; rw [hG]; omega) hpc
  have hI : HI D h0 h' s.heap T'.heap (locs ++ L) (cells + (kZ h' - kZ h)) (slots + (kW h' - kW h)) := by
    refine ⟨by rw [e1]; exact z1, z2.trans hG, fun q hq => ?_, fun z hz9 => ?_, by omega, by omega, by rw [hG] at z6; exact z6, by rw [hG] at z7; exact z7.1, hb0.1, ?_⟩
    · rw [e1, z3 q (by rw [hG]; exact hq)]
      show T.heap[q]? = _
      rw [hT]; exact hfr0 q hq
    · rcases List.mem_append.mp hz9 with h9 | h9
      · exact hlc z h9
      · have := hL z h9
        rw [hG] at this
        exact this
    · refine fzz.trans (by omega) hb0.2 (fun q q1 q2 => ?_)
      obtain ⟨y1, y2⟩ := z7.2 q q1 q2
      refine ⟨y1, ?_⟩
      rw [e1, y2]
      show T.heap[q]? = _
      rw [hT]
  cases x with
  | inr v =>
    obtain ⟨t2, a1, b1⟩ := kr v rfl _ _ _ _ hI T' rfl X'
    exact ⟨t2, st _ ((s1 v rfl).trans a1), b1⟩
  | inl q =>
    obtain ⟨t2, a1, b1⟩ := kx q rfl _ _ _ _ hI T' rfl X'
    exact ⟨t2, st _ ((s2 q rfl).trans a1), b1⟩
end CB
section CI
variable {p : Program} {l : Launch} {e : Env} {R : Room} {s : State} {m : MethodId} {args : Array Value} {below : List Frame} {meth : Method} {c : Code} {H : Heap} {locs : List Loc} {cells slots : Nat} {cc : ByteArray} {nL pc : Nat} {ls : Array Slot} {own : String}
/-- a method of an object; x is what the table names (it may be abstract), y what is selected -/
theorem ci_V {C : String} {index : Nat} {y : MethodName} {b : Nat} {As rest st0 : List Value} {bytes : ByteArray} {maxL : Nat} {ret : Option FieldType} (S : CallFix p m c cc nL s args lw_all own) (hlink : Cond.methodLink own index y ∈ lw_all) (hinst : Cond.instanceMethod y ∈ lw_all) (hsel : Cond.selects C y y ∈ lw_all) (hcode : Cond.code y bytes maxL ret ∈ lw_all)
    (hy : y.cls ≠ "java/lang/invoke/MethodHandle" ∧ y.cls ≠ "java/lang/invoke/VarHandle") (hcell : ∃ cellB : Cell, H[b]? = some cellB ∧ cellB.vm.isStatics = false ∧ s.vm.findClass C = some cellB.cls)
    (hlen : (parseMethodDescriptor y.desc).map (fun d => d.parameters.length) = some As.length) (hst : st0 = As.reverse ++ .ref b :: rest) (hdg : decode cc pc = .ok (.invokevirtual index, 3)) :
    CInv p l e R s m args below meth c H locs cells slots (F0 m pc ls st0) rest y (Value.ref b :: As).toArray := by
  subst hst
  obtain ⟨hx, hb, hml, hown, hts⟩ := S
  intro T hT X
  obtain ⟨cellB, hcB, hobj, hcls⟩ := hcell
  obtain ⟨mk, methM, hnamed, hmethM, hstM, habM⟩ := Cond.instanceMethod_spec (hts _ hinst)
  obtain ⟨methM', cM, hmethM', -, -, -, -, -, -, hsigM⟩ := Cond.code_spec hnamed (hts _ hcode)
  cases hmethM.symm.trans hmethM'
  obtain ⟨c2, r2, m2, q1, q2, q3, q4, kP, hkP, hkPi⟩ := Cond.selects_spec (hts _ hsel)
  cases hcls.symm.trans q1
  cases (State.methodFound?_of_named hnamed hy).symm.trans q2
  cases hnamed.symm.trans q3
  have hselP : selectMethod e.platform s.vm cellB.cls mk = .method mk := by rw [Launch.admits_selectMethod X.admits]; exact q4
  have hl9 : As.length = methM.sig.parameters.length := by rw [hsigM] at hlen; exact (Option.some.inj hlen).symm
  obtain ⟨vm₁, X₁, hstep₁⟩ := X.invokevirtual hx hown (hts _ hlink) hnamed hmethM hstM hkP hkPi hy (a := b) (cell := cellB) (by rw [hT]; exact hcB)
    (fun z h => by rw [h] at hobj; cases hobj) hselP hmethM habM hkP hkPi (g := F0 m pc ls (As.reverse ++ .ref b :: rest)) rfl (argsL := As) (rest := rest) hl9 rfl (by rw [hb]; exact hdg)
  exact ⟨vm₁, mk, .invokevirtual index, X₁, X₁.named hnamed, by rw [hb]; exact hdg, fun target h => hstep₁ _ fun acts => by rw [doInvoke_state]; exact h⟩
/-- inherited: the table names it by the heir -/
theorem ci_U {C : String} {index : Nat} {x y : MethodName} {b : Nat} {As rest st0 : List Value} {bytes : ByteArray} {maxL : Nat} {ret : Option FieldType} (S : CallFix p m c cc nL s args lw_all own) (hlink : Cond.methodLink own index x ∈ lw_all) (hsame : Cond.sameMethod x.cls y.cls x.name x.desc ∈ lw_all) (hyx : y = ⟨y.cls, x.name, x.desc⟩) (hinst : Cond.instanceMethod y ∈ lw_all) (hsel : Cond.selects C x y ∈ lw_all) (hcode : Cond.code y bytes maxL ret ∈ lw_all)
    (hy : y.cls ≠ "java/lang/invoke/MethodHandle" ∧ y.cls ≠ "java/lang/invoke/VarHandle") (hcell : ∃ cellB : Cell, H[b]? = some cellB ∧ cellB.vm.isStatics = false ∧ s.vm.findClass C = some cellB.cls)
    (hlen : (parseMethodDescriptor y.desc).map (fun d => d.parameters.length) = some As.length) (hst : st0 = As.reverse ++ .ref b :: rest) (hdg : decode cc pc = .ok (.invokevirtual index, 3)) :
    CInv p l e R s m args below meth c H locs cells slots (F0 m pc ls st0) rest y (Value.ref b :: As).toArray := by
  subst hst
  obtain ⟨hx, hb, hml, hown, hts⟩ := S
  intro T hT X
  obtain ⟨cellB, hcB, hobj, hcls⟩ := hcell
  have hd0 : va_Decl s ⟨y.cls, x.name, x.desc⟩ := by rw [← hyx]; exact va_Decl.of (hts _ hinst) (hts _ hcode)
  obtain ⟨r0, r, hn, hrm, hstR, hsigR⟩ := hd0
  obtain ⟨cn, ck, r1, hcn, hck, hni, hf, hn1⟩ := Cond.sameMethod_found (hts _ hsame)
  cases hn.symm.trans hn1
  obtain ⟨mk, methM, hnamed, hmethM, -, habM⟩ := Cond.instanceMethod_spec (hts _ hinst)
  obtain ⟨c2, r2, m2, q1, q2, q3, q4, kP, hkP, hkPi⟩ := Cond.selects_spec (hts _ hsel)
  cases hcls.symm.trans q1
  cases hf.symm.trans q2
  cases hnamed.symm.trans q3
  have hselP : selectMethod e.platform s.vm cellB.cls r0 = .method mk := by rw [Launch.admits_selectMethod X.admits]; exact q4
  have hl9 : As.length = r.sig.parameters.length := by
    have e9 : y.desc = x.desc := by rw [hyx]
    rw [e9, hsigR] at hlen; exact (Option.some.inj hlen).symm
  obtain ⟨vm₁, X₁, hstep₁⟩ := X.invokevirtualUp hx hown (hts _ hlink) (hts _ hsame) hy hn hrm hstR (a := b) (cell := cellB) (by rw [hT]; exact hcB)
    (fun z h => by rw [h] at hobj; cases hobj) hselP hmethM habM hkP hkPi (g := F0 m pc ls (As.reverse ++ .ref b :: rest)) rfl (argsL := As) (rest := rest) hl9 rfl (by rw [hb]; exact hdg)
  exact ⟨vm₁, mk, .invokevirtual index, X₁, X₁.named hnamed, by rw [hb]; exact hdg, fun target h => hstep₁ _ fun acts => by rw [doInvoke_state]; exact h⟩
/-- static -/
theorem ci_S {index : Nat} {y : MethodName} {As rest st0 : List Value} {bytes : ByteArray} {maxL : Nat} {ret : Option FieldType} (S : CallFix p m c cc nL s args lw_all own) (hlink : Cond.methodLink own index y ∈ lw_all) (hstat : Cond.static y ∈ lw_all) (hinit : Cond.initialized y.cls ∈ lw_all) (hcode : Cond.code y bytes maxL ret ∈ lw_all)
    (hy : y.cls ≠ "java/lang/invoke/MethodHandle" ∧ y.cls ≠ "java/lang/invoke/VarHandle") (hlen : (parseMethodDescriptor y.desc).map (fun d => d.parameters.length) = some As.length) (hst : st0 = As.reverse ++ rest) (hdg : decode cc pc = .ok (.invokestatic index, 3)) :
    CInv p l e R s m args below meth c H locs cells slots (F0 m pc ls st0) rest y As.toArray := by
  subst hst
  obtain ⟨hx, hb, hml, hown, hts⟩ := S
  intro T hT X
  obtain ⟨mk, hnamed⟩ := Cond.code_named (hts _ hcode)
  obtain ⟨methM, cM, hmethM, -, -, -, -, -, -, hsigM⟩ := Cond.code_spec hnamed (hts _ hcode)
  have hstatic : methM.isStatic = true := Cond.static_spec hnamed hmethM (hts _ hstat)
  obtain ⟨kP, hkP, -⟩ := className_of_methodNamed hnamed
  have hinitP : kP.init = .initialized := Cond.initialized_spec (findClass_of_methodNamed hnamed) hkP (hts _ hinit)
  have hl9 : As.length = methM.sig.parameters.length := by rw [hsigM] at hlen; exact (Option.some.inj hlen).symm
  obtain ⟨vm₁, X₁, hstep₁⟩ := X.invokestatic hx hown (hts _ hlink) hnamed hmethM hstatic hkP hinitP hy (g := F0 m pc ls (As.reverse ++ rest)) rfl (argsL := As) (rest := rest) hl9 rfl (by rw [hb]; exact hdg)
  exact ⟨vm₁, mk, .invokestatic index, X₁, X₁.named hnamed, by rw [hb]; exact hdg, fun target h => hstep₁ _ fun acts => by rw [doInvoke_state]; exact h⟩
/-- a nest mate's static method -/
theorem ci_SN {index : Nat} {host : String} {y : MethodName} {As rest st0 : List Value} {bytes : ByteArray} {maxL : Nat} {ret : Option FieldType} (S : CallFix p m c cc nL s args lw_all own) (hlink : va_Nw (Cond.methodLinkNest own index y host) s) (hstat : Cond.static y ∈ lw_all) (hinit : Cond.initialized y.cls ∈ lw_all) (hcode : Cond.code y bytes maxL ret ∈ lw_all)
    (hy : y.cls ≠ "java/lang/invoke/MethodHandle" ∧ y.cls ≠ "java/lang/invoke/VarHandle") (hlen : (parseMethodDescriptor y.desc).map (fun d => d.parameters.length) = some As.length) (hst : st0 = As.reverse ++ rest) (hdg : decode cc pc = .ok (.invokestatic index, 3)) :
    CInv p l e R s m args below meth c H locs cells slots (F0 m pc ls st0) rest y As.toArray := by
  subst hst
  obtain ⟨hx, hb, hml, hown, hts⟩ := S
  intro T hT X
  obtain ⟨mk, hnamed⟩ := Cond.code_named (hts _ hcode)
  obtain ⟨methM, cM, hmethM, -, -, -, -, -, -, hsigM⟩ := Cond.code_spec hnamed (hts _ hcode)
  have hstatic : methM.isStatic = true := Cond.static_spec hnamed hmethM (hts _ hstat)
  obtain ⟨kP, hkP, -⟩ := className_of_methodNamed hnamed
  have hinitP : kP.init = .initialized := Cond.initialized_spec (findClass_of_methodNamed hnamed) hkP (hts _ hinit)
  have hl9 : As.length = methM.sig.parameters.length := by rw [hsigM] at hlen; exact (Option.some.inj hlen).symm
  obtain ⟨vm₁, X₁, hstep₁⟩ := X.invokestaticNest hx hown (va_Nw.use (A := args) rfl hlink) hnamed hmethM hstatic hkP hinitP hy (g := F0 m pc ls (As.reverse ++ rest)) rfl (argsL := As) (rest := rest) hl9 rfl (by rw [hb]; exact hdg)
  exact ⟨vm₁, mk, .invokestatic index, X₁, X₁.named hnamed, by rw [hb]; exact hdg, fun target h => hstep₁ _ fun acts => by rw [doInvoke_state]; exact h⟩
/-- a constructor -/
theorem ci_I {index : Nat} {y : MethodName} {b : Nat} {As rest st0 : List Value} {bytes : ByteArray} {maxL : Nat} (S : CallFix p m c cc nL s args lw_all own) (hy1 : y.name = "<init>") (hlink : Cond.methodLink own index y ∈ lw_all) (hinst : Cond.instanceMethod y ∈ lw_all) (hcode : Cond.code y bytes maxL none ∈ lw_all)
    (hy : y.cls ≠ "java/lang/invoke/MethodHandle" ∧ y.cls ≠ "java/lang/invoke/VarHandle") (hlen : (parseMethodDescriptor y.desc).map (fun d => d.parameters.length) = some As.length) (hst : st0 = As.reverse ++ .ref b :: rest) (hdg : decode cc pc = .ok (.invokespecial index, 3)) :
    CInv p l e R s m args below meth c H locs cells slots (F0 m pc ls st0) rest y (Value.ref b :: As).toArray := by
  subst hst
  obtain ⟨hx, hb, hml, hown, hts⟩ := S
  intro T hT X
  have hpl : e.platform.magicAccessors = ({} : Platform).magicAccessors := by rw [X.admits.platform]
  have hlen' : ∀ sig, parseMethodDescriptor y.desc = some sig → As.length = sig.parameters.length := fun sig h => by rw [h] at hlen; exact (Option.some.inj hlen).symm
  obtain ⟨mk, methM, cM, kP, vm₁, hnamed, hmethM, hcodeM, -, hlocalsM, -, hkP, -, hW₁, hstep₁⟩ := Steps.initColdArgs (e := e) X.here hx X.warmed hpl hown hy1 hy (hts _ hlink) (hts _ hinst) (hts _ hcode) (f := F0 m pc ls (As.reverse ++ .ref b :: rest)) rfl hlen' rfl (by rw [hb]; exact hdg)
  have X₁ := X.noted hW₁
  exact ⟨vm₁, mk, .invokespecial index, X₁, X₁.named hnamed, by rw [hb]; exact hdg, fun target h => hstep₁ _ fun acts => by rw [doInvoke_state]; exact h⟩
/-- a nest mate's constructor -/
theorem ci_IN {index : Nat} {host : String} {y : MethodName} {b : Nat} {As rest st0 : List Value} {bytes : ByteArray} {maxL : Nat} (S : CallFix p m c cc nL s args lw_all own) (hy1 : y.name = "<init>") (hlink : va_Nw (Cond.methodLinkNest own index y host) s) (hinst : Cond.instanceMethod y ∈ lw_all) (hcode : Cond.code y bytes maxL none ∈ lw_all)
    (hy : y.cls ≠ "java/lang/invoke/MethodHandle" ∧ y.cls ≠ "java/lang/invoke/VarHandle") (hlen : (parseMethodDescriptor y.desc).map (fun d => d.parameters.length) = some As.length) (hst : st0 = As.reverse ++ .ref b :: rest) (hdg : decode cc pc = .ok (.invokespecial index, 3)) :
    CInv p l e R s m args below meth c H locs cells slots (F0 m pc ls st0) rest y (Value.ref b :: As).toArray := by
  subst hst
  obtain ⟨hx, hb, hml, hown, hts⟩ := S
  intro T hT X
  have hpl : e.platform.magicAccessors = ({} : Platform).magicAccessors := by rw [X.admits.platform]
  have hlen' : ∀ sig, parseMethodDescriptor y.desc = some sig → As.length = sig.parameters.length := fun sig h => by rw [h] at hlen; exact (Option.some.inj hlen).symm
  obtain ⟨mk, methM, cM, kP, vm₁, hnamed, hmethM, hcodeM, -, hlocalsM, -, hkP, -, hW₁, hstep₁⟩ := Steps.initColdArgsNest (e := e) X.here hx X.warmed hpl hown hy1 hy (va_Nw.use (A := args) rfl hlink) (hts _ hinst) (hts _ hcode) (f := F0 m pc ls (As.reverse ++ .ref b :: rest)) rfl hlen' rfl (by rw [hb]; exact hdg)
  have X₁ := X.noted hW₁
  exact ⟨vm₁, mk, .invokespecial index, X₁, X₁.named hnamed, by rw [hb]; exact hdg, fun target h => hstep₁ _ fun acts => by rw [doInvoke_state]; exact h⟩
end CI
