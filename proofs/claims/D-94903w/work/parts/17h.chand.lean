/-! methods with a table of their own -/
section CHA
variable {l : Launch} {D : va_G} {h h' : HS}
/-- a contract out of a walk, the method having handlers -/
theorem CMet.ofWH {y : MethodName} {bytes : ByteArray} {maxL fr lo : Nat} {ret : Option FieldType} {hh : List (Nat × Nat × Nat × Nat)} {As : List Value} {x : Nat ⊕ Option Value} (hy : plainName y.cls = true)
    (body : ∀ p e s m below meth c s₁, BodyLoose p l y (headSpec (wsW_ y bytes maxL ret hh) (cR fr lo h)) bytes maxL ret e s m As.toArray below meth c s₁ → CallFix p m c bytes maxL s As.toArray lw_all y.cls → CX D (kG h) s → HI D h h s.heap s.heap [] 0 0 → meth.sig.returnType = ret → meth.locks = false → c.exceptionTable.toList = tableOf hh → meth.name = y.name →
      W p l e (cR fr lo h) s m As.toArray below meth c s.heap [] 0 0 (cMQ below D h h' x As.toArray s) (entryFrame m As.toArray maxL)) : CMet l y (wsW_ y bytes maxL ret hh) fr lo D As h h' x := by
  refine MetFree.of_bodyS (code := bytes) (maxLocals := maxL) (ret := ret) hy ?_ ?_
  · intro args s m h9 hn
    obtain ⟨m9, meth, c, hn9, h1, h2, h3, h4, -, h5, h6, -⟩ := Cond.codeWith_spec (atoms_spec (ws := wsW_ y bytes maxL ret hh) h9 _ List.mem_cons_self)
    cases hn.symm.trans hn9
    exact ⟨meth, c, h1, h2, h3, h4, h5, h6⟩
  · intro p e s m args below meth c s₁ B hml hP _
    have hh0 : s₁.heap = s.heap := by rw [B.state]; rfl
    obtain ⟨rfl, hP1, hX, hz, hw, hb0⟩ := hP
    have hts := atoms_spec (ws := wsW_ y bytes maxL ret hh) B.pre
    have hts2 : ∀ w ∈ lw_all, w.before As.toArray s = true := fun w h => hts w (List.mem_cons_of_mem _ h)
    have ht : c.exceptionTable.toList = tableOf hh := by
      obtain ⟨m9, meth9, c9, hn9, h1, h2, -, -, h6, -⟩ := Cond.codeWith_spec (hts _ List.mem_cons_self)
      cases Option.some.inj (hn9.symm.trans B.named)
      cases Option.some.inj (h1.symm.trans B.method)
      cases Option.some.inj (h2.symm.trans (Stand.of_body B).code)
      rw [← h6, table_eq]
    have hI : HI D h h s.heap s.heap [] 0 0 := ⟨hP1, rfl, fun _ _ => rfl, fun _ h9 => (by cases h9), rfl, rfl, hz, hw, hb0, fun q _ q2 => ⟨q2, rfl⟩⟩
    obtain ⟨t, a1, o, b1, b2, b3⟩ := body p e s m below meth c s₁ B ⟨B.exec, B.bytes, hml, findClass_of_methodNamed B.named, hts2⟩ hX hI B.returns B.notSynchronized ht (name_of_methodNamed B.named B.method).1 s₁ hh0 (Stand.of_body B)
    exact ⟨t, o, a1, b1, b2, b3⟩
end CHA
