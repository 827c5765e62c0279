/-! further kinds of calls: a private method of the class above; what is named and what is selected differ; super.m() -/
section CI2
variable {p : Program} {l : Launch} {e : Env} {R : Room} {s : State} {m : MethodId} {args : Array Value} {below : List Frame} {meth : Method} {c : Code} {H : Heap} {locs : List Loc} {cells slots : Nat} {cc : ByteArray} {nL pc : Nat} {ls : Array Slot} {own : String}
theorem ci_P {C : String} {index : Nat} {y : MethodName} {b : Nat} {As rest st0 : List Value} {bytes : ByteArray} {maxL : Nat} {ret : Option FieldType} (S : CallFix p m c cc nL s args lw_all own) (hlink : Cond.methodLink own index y ∈ lw_all) (hsame : Cond.sameMethod y.cls y.cls y.name y.desc ∈ lw_all) (hinst : Cond.instanceMethod y ∈ lw_all) (hpriv : va_Nw (Cond.privateMethod y) s) (hcode : Cond.code y bytes maxL ret ∈ lw_all)
    (hy : y.cls ≠ "java/lang/invoke/MethodHandle" ∧ y.cls ≠ "java/lang/invoke/VarHandle") (hcell : ∃ cellB : Cell, H[b]? = some cellB ∧ cellB.vm.isStatics = false ∧ s.vm.findClass C = some cellB.cls)
    (hlen : (parseMethodDescriptor y.desc).map (fun d => d.parameters.length) = some As.length) (hst : st0 = As.reverse ++ .ref b :: rest) (hdg : decode cc pc = .ok (.invokevirtual index, 3)) :
    CInv p l e R s m args below meth c H locs cells slots (F0 m pc ls st0) rest y (Value.ref b :: As).toArray := by
  subst hst
  obtain ⟨hx, hb, hml, hown, hts⟩ := S
  intro T hT X
  obtain ⟨cellB, hcB, hobj, hcls⟩ := hcell
  obtain ⟨cn, ck, r1, hcn, hck, hni, hf, hn1⟩ := Cond.sameMethod_found (hts _ hsame)
  obtain ⟨mk, methM, hnamed, hmethM, hstM, habM⟩ := Cond.instanceMethod_spec (hts _ hinst)
  obtain ⟨methM', cM, hmethM', -, -, -, -, -, -, hsigM⟩ := Cond.code_spec hnamed (hts _ hcode)
  cases hmethM.symm.trans hmethM'
  have hpv := Cond.privateMethod_at (va_Nw.use (A := args) rfl hpriv) mk methM hnamed hmethM
  have hselP : selectMethod e.platform s.vm cellB.cls mk = .method mk := by rw [Launch.admits_selectMethod X.admits]; exact selectMethod_private hmethM hpv
  have hcm : mk.cls = cn := Option.some.inj ((findClass_of_methodNamed hnamed).symm.trans hcn)
  have hkP : s.vm.classes[mk.cls]? = some ck := by rw [hcm]; exact hck
  have hl9 : As.length = methM.sig.parameters.length := by rw [hsigM] at hlen; exact (Option.some.inj hlen).symm
  obtain ⟨vm₁, X₁, hstep₁⟩ := X.invokevirtual hx hown (hts _ hlink) hnamed hmethM hstM hkP hni hy (a := b) (cell := cellB) (by rw [hT]; exact hcB)
    (fun z h => by rw [h] at hobj; cases hobj) hselP hmethM habM hkP hni (g := F0 m pc ls (As.reverse ++ .ref b :: rest)) rfl (argsL := As) (rest := rest) hl9 rfl (by rw [hb]; exact hdg)
  exact ⟨vm₁, mk, .invokevirtual index, X₁, X₁.named hnamed, by rw [hb]; exact hdg, fun target h => hstep₁ _ fun acts => by rw [doInvoke_state]; exact h⟩
theorem ci_A {C : String} {index : Nat} {x y : MethodName} {b : Nat} {As rest st0 : List Value} {bytes : ByteArray} {maxL : Nat} {ret : Option FieldType} (S : CallFix p m c cc nL s args lw_all own) (hlink : Cond.methodLink own index x ∈ lw_all) (hsame : Cond.sameMethod x.cls x.cls x.name x.desc ∈ lw_all) (hd0 : va_Decl s x) (hinst : Cond.instanceMethod y ∈ lw_all) (hsel : Cond.selects C x y ∈ lw_all)
    (hx9 : x.cls ≠ "java/lang/invoke/MethodHandle" ∧ x.cls ≠ "java/lang/invoke/VarHandle") (hcell : ∃ cellB : Cell, H[b]? = some cellB ∧ cellB.vm.isStatics = false ∧ s.vm.findClass C = some cellB.cls)
    (hlen : (parseMethodDescriptor x.desc).map (fun d => d.parameters.length) = some As.length) (hst : st0 = As.reverse ++ .ref b :: rest) (hdg : decode cc pc = .ok (.invokevirtual index, 3)) :
    CInv p l e R s m args below meth c H locs cells slots (F0 m pc ls st0) rest y (Value.ref b :: As).toArray := by
  subst hst
  obtain ⟨hx, hb, hml, hown, hts⟩ := S
  intro T hT X
  obtain ⟨cellB, hcB, hobj, hcls⟩ := hcell
  obtain ⟨r0, r, hn, hrm, hstR, hsigR⟩ := hd0
  obtain ⟨cn, ck, r1, hcn, hck, hni, hf, hn1⟩ := Cond.sameMethod_found (hts _ hsame)
  have hn' : s.methodNamed? ⟨x.cls, x.name, x.desc⟩ = some r0 := hn
  cases hn'.symm.trans hn1
  obtain ⟨mk, methM, hnamed, hmethM, -, habM⟩ := Cond.instanceMethod_spec (hts _ hinst)
  obtain ⟨c2, r2, m2, q1, q2, q3, q4, kP, hkP, hkPi⟩ := Cond.selects_spec (hts _ hsel)
  cases hcls.symm.trans q1
  cases hf.symm.trans q2
  cases hnamed.symm.trans q3
  have hselP : selectMethod e.platform s.vm cellB.cls r0 = .method mk := by rw [Launch.admits_selectMethod X.admits]; exact q4
  have hl9 : As.length = r.sig.parameters.length := by rw [hsigR] at hlen; exact (Option.some.inj hlen).symm
  obtain ⟨vm₁, X₁, hstep₁⟩ := X.invokevirtualUp hx hown (hts _ hlink) (hts _ hsame) hx9 hn' hrm hstR (a := b) (cell := cellB) (by rw [hT]; exact hcB)
    (fun z h => by rw [h] at hobj; cases hobj) hselP hmethM habM hkP hkPi (g := F0 m pc ls (As.reverse ++ .ref b :: rest)) rfl (argsL := As) (rest := rest) hl9 rfl (by rw [hb]; exact hdg)
  exact ⟨vm₁, mk, .invokevirtual index, X₁, X₁.named hnamed, by rw [hb]; exact hdg, fun target h => hstep₁ _ fun acts => by rw [doInvoke_state]; exact h⟩
theorem ci_SU {C : String} {index : Nat} {y : MethodName} {b : Nat} {As rest st0 : List Value} {bytes : ByteArray} {maxL : Nat} {ret : Option FieldType} (S : CallFix p m c cc nL s args lw_all own) (hlink : Cond.methodLink own index y ∈ lw_all) (hsame : Cond.sameMethod y.cls y.cls y.name y.desc ∈ lw_all) (hsup : Cond.superclass own y.cls ∈ lw_all) (hinst : Cond.instanceMethod y ∈ lw_all) (hcode : Cond.code y bytes maxL ret ∈ lw_all) (hno : y.name ≠ "<init>")
    (hcell : ∃ cellB : Cell, H[b]? = some cellB ∧ cellB.vm.isStatics = false ∧ s.vm.findClass C = some cellB.cls)
    (hlen : (parseMethodDescriptor y.desc).map (fun d => d.parameters.length) = some As.length) (hst : st0 = As.reverse ++ .ref b :: rest) (hdg : decode cc pc = .ok (.invokespecial index, 3)) :
    CInv p l e R s m args below meth c H locs cells slots (F0 m pc ls st0) rest y (Value.ref b :: As).toArray := by
  subst hst
  obtain ⟨hx, hb, hml, hown, hts⟩ := S
  intro T hT X
  obtain ⟨cellB, hcB, hobj, hcls⟩ := hcell
  obtain ⟨kB, hkB, -⟩ := Vm.findClass_spec hcls
  obtain ⟨mk, methM, hnamed, hmethM, hstM, habM⟩ := Cond.instanceMethod_spec (hts _ hinst)
  obtain ⟨methM', cM, hmethM', -, -, -, -, -, -, hsigM⟩ := Cond.code_spec hnamed (hts _ hcode)
  cases hmethM.symm.trans hmethM'
  obtain ⟨ps, dk, kp, hps, hdk, hkp, hsuper, -, -, hnid⟩ := Cond.superclass_spec hown (hts _ hsup)
  have hn : s.methodNamed? ⟨y.cls, y.name, y.desc⟩ = some mk := hnamed
  have hpm : ps = mk.cls := Option.some.inj (hps.symm.trans (findClass_of_methodNamed hnamed))
  have hsub : s.vm.isSubclass ps mk.cls = true := by rw [hpm]; simp [Vm.isSubclass, Vm.isSubclassAux]
  have hl9 : As.length = methM.sig.parameters.length := by rw [hsigM] at hlen; exact (Option.some.inj hlen).symm
  obtain ⟨vm₁, X₁, hstep₁⟩ := X.invokespecialUp hx hown (hts _ hlink) (hts _ hsame) hn hmethM hstM habM hno hdk hnid hps hsuper hsub (a := b) (cell := cellB) (by rw [hT]; exact hcB)
    (fun z h => by rw [h] at hobj; cases hobj) hkB (g := F0 m pc ls (As.reverse ++ .ref b :: rest)) rfl (argsL := As) (rest := rest) hl9 rfl (by rw [hb]; exact hdg)
  exact ⟨vm₁, mk, .invokespecial index, X₁, X₁.named hnamed, by rw [hb]; exact hdg, fun target h => hstep₁ _ (by rw [doInvoke_state]; exact h)⟩
end CI2
def imin (x y : Int32) : Int32 := if y < x then y else x
def imax (x y : Int32) : Int32 := if x < y then y else x
section CMM
variable {p : Program} {l : Launch} {e : Env} {s : State} {m : MethodId} {args : Array Value} {below : List Frame} {meth : Method} {c : Code} {H : Heap} {locs : List Loc} {cells slots FR LO : Nat} {Q : State → Prop} {cc : ByteArray} {nL pc : Nat} {ls : Array Slot} {own : String} {rest : List Value} {D : va_G} {h0 h : HS}
theorem cmmin {index : Nat} {x y : Int32} (S : CallFix p m c cc nL s args lw_all own) (hM : HI D h0 h s.heap H locs cells slots) (hlink : Cond.methodLink own index Lib.Math.min.name ∈ lw_all) (hstat : Cond.static Lib.Math.min.name ∈ lw_all) (hini : Cond.initialized "java/lang/Math" ∈ lw_all) (hcode : Cond.code Lib.Math.min.name Lib.Math.min.code 2 (some .int) ∈ lw_all) (hfr : 1 ≤ FR) (hlo : 21 ≤ LO) (hl : ls.size = nL) (hW : (rest.map fun v => v.category).sum ≤ 8) (hdg : decode cc pc = .ok (.invokestatic index, 3))
    (kk : W p l e (cR FR LO h0) s m args below meth c H locs cells slots Q (F0 m (pc + 3) ls (.int (imin x y) :: rest))) : W p l e (cR FR LO h0) s m args below meth c H locs cells slots Q (F0 m pc ls (.int y :: .int x :: rest)) := by
  obtain ⟨g0, g1, g2, g3, g4, g5, g6, g7, g8⟩ := hM
  exact va_mmin S.1 S.2.1 (S.2.2.1.trans hl.symm) S.2.2.2.1 (S.2.2.2.2 _ hlink) (S.2.2.2.2 _ hstat) (S.2.2.2.2 _ hini) (S.2.2.2.2 _ hcode) hfr (by show _ + 13 ≤ LO; omega) (by show cells ≤ kG h0 1 - kZ h0; omega) (by show slots ≤ kG h0 2 - kW h0; omega) hdg kk
theorem cmmax {index : Nat} {x y : Int32} (S : CallFix p m c cc nL s args lw_all own) (hM : HI D h0 h s.heap H locs cells slots) (hlink : Cond.methodLink own index Lib.Math.max.name ∈ lw_all) (hstat : Cond.static Lib.Math.max.name ∈ lw_all) (hini : Cond.initialized "java/lang/Math" ∈ lw_all) (hcode : Cond.code Lib.Math.max.name Lib.Math.max.code 2 (some .int) ∈ lw_all) (hfr : 1 ≤ FR) (hlo : 21 ≤ LO) (hl : ls.size = nL) (hW : (rest.map fun v => v.category).sum ≤ 8) (hdg : decode cc pc = .ok (.invokestatic index, 3))
    (kk : W p l e (cR FR LO h0) s m args below meth c H locs cells slots Q (F0 m (pc + 3) ls (.int (imax x y) :: rest))) : W p l e (cR FR LO h0) s m args below meth c H locs cells slots Q (F0 m pc ls (.int y :: .int x :: rest)) := by
  obtain ⟨g0, g1, g2, g3, g4, g5, g6, g7, g8⟩ := hM
  exact va_mmax S.1 S.2.1 (S.2.2.1.trans hl.symm) S.2.2.2.1 (S.2.2.2.2 _ hlink) (S.2.2.2.2 _ hstat) (S.2.2.2.2 _ hini) (S.2.2.2.2 _ hcode) hfr (by show _ + 13 ≤ LO; omega) (by show cells ≤ kG h0 1 - kZ h0; omega) (by show slots ≤ kG h0 2 - kW h0; omega) hdg kk
end CMM
section CY2
variable {p : Program} {l : Launch} {e : Env} {R : Room} {s : State} {m : MethodId} {args : Array Value} {below : List Frame} {meth : Method} {c : Code} {H : Heap} {locs : List Loc} {cells slots : Nat} {Q : State → Prop} {cc : ByteArray} {nL pc : Nat} {ls : Array Slot} {own : String} {rest : List Value} {D : va_G} {h0 h : HS}
/-- a cast to a class above two neighbours -/
theorem ccy2 {a ci index : Nat} {nm : String} (S : CallFix p m c cc nL s args lw_all own) (hX : CX D (kG h0) s) (hM : HI D h0 h s.heap H locs cells slots) (hc : ci + 1 < 21) (ht : ci + 1 ≤ kT h a ∧ kT h a ≤ ci + 2) (hlink : Cond.classLink own index nm ∈ lw_all) (c1 : va_Nw (.castable (cN ci) nm) s) (c2 : va_Nw (.castable (cN (ci + 1)) nm) s) (hdg : decode cc pc = .ok (.checkcast index, 3))
    (k : W p l e R s m args below meth c H locs cells slots Q (F0 m (pc + 3) ls (.ref a :: rest))) : W p l e R s m args below meth c H locs cells slots Q (F0 m pc ls (.ref a :: rest)) := by
  by_cases e9 : kT h a = ci + 1
  · exact ccy S hX hM (by omega) e9 hlink c1 hdg k
  · exact ccy S hX hM hc (show kT h a = (ci + 1) + 1 by omega) hlink c2 hdg k
end CY2
