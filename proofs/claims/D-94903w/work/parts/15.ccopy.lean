/-! System.arraycopy between arrays of ints, of bytes -/
def tC (h : HS) (src dst sp dp n : Nat) : HS := (h.1, h.2.1, fun x => if x = dst then va_cpy (h.2.2.1 src) (h.2.2.1 dst) sp dp n else h.2.2.1 x, h.2.2.2)
section KC
variable (h : HS) (src dst sp dp n x j : Nat)
theorem kT_tC : kT (tC h src dst sp dp n) x = kT h x := rfl
theorem kN_tC : kN (tC h src dst sp dp n) x = kN h x := rfl
theorem kR_tC : kR (tC h src dst sp dp n) x j = kR h x j := rfl
theorem kZ_tC : kZ (tC h src dst sp dp n) = kZ h := rfl
theorem kW_tC : kW (tC h src dst sp dp n) = kW h := rfl
theorem kG_tC : kG (tC h src dst sp dp n) = kG h := rfl
theorem kI_tC : kI (tC h src dst sp dp n) x j = if x = dst ∧ dp ≤ j ∧ j < dp + n then kI h src (sp + (j - dp)) else kI h x j := by
  unfold kI tC va_cpy
  by_cases e : x = dst
  · subst e; simp
  · simp [e]
end KC
def xOk (h : HS) (src dst t : Nat) (sp dp n : Int32) : Bool := decide (kT h src = t ∧ kT h dst = t ∧ ¬ sp < 0 ∧ ¬ dp < 0 ∧ ¬ n < 0 ∧ sp.toNatClampNeg + n.toNatClampNeg ≤ kN h src ∧ dp.toNatClampNeg + n.toNatClampNeg ≤ kN h dst ∧ kG h 0 ≤ dst) && (t == 31 || (List.range n.toNatClampNeg).all fun i => fits .byte (.int (kI h src (sp.toNatClampNeg + i))))
def xC (h : HS) (src dst t : Nat) (sp dp n : Int32) : Option HS := if xOk h src dst t sp dp n = true then some (tC h src dst sp.toNatClampNeg dp.toNatClampNeg n.toNatClampNeg) else none
theorem xCe {h h' : HS} {src dst t : Nat} {sp dp n : Int32} (e : xC h src dst t sp dp n = some h') : xOk h src dst t sp dp n = true ∧ tC h src dst sp.toNatClampNeg dp.toNatClampNeg n.toNatClampNeg = h' := by
  unfold xC at e; split at e
  · exact ⟨by assumption, Option.some.inj e⟩
  · cases e
section CCP
variable {p : Program} {l : Launch} {e : Env} {R : Room} {s : State} {m : MethodId} {args : Array Value} {below : List Frame} {meth : Method} {c : Code} {H : Heap} {locs : List Loc} {cells slots : Nat} {Q : State → Prop}
variable {cc : ByteArray} {pc nL : Nat} {ls : Array Slot} {rest : List Value} {D : va_G} {h0 h h' : HS} {own : String}
theorem ccopy0 (S : CallFix p m c cc nL s args lw_all own) (hX : CX D (kG h0) s) (hM : HI D h0 h s.heap H locs cells slots) {index a0 a t pos : Nat} {ty : FieldType} {sp dp n : Int32} (h31 : 31 ≤ t) (h33 : t ≤ 33) (hty : (cTy D)[pos]? = some (D.1 t, ty)) (hprim : refKind ty = false) (hk0 : kT h a0 = t) (hk1 : kT h a = t) (hb0 : kG h 0 ≤ a)
    (h1 : ¬ sp < 0) (h2 : ¬ dp < 0) (h3 : ¬ n < 0) (h4 : sp.toNatClampNeg + n.toNatClampNeg ≤ kN h a0) (h5 : dp.toNatClampNeg + n.toNatClampNeg ≤ kN h a) (hfit : ∀ i, i < n.toNatClampNeg → fits ty (.int (kI h a0 (sp.toNatClampNeg + i))) = true)
    (hlink : Cond.methodLink own index arraycopyName ∈ lw_all) (hnat : Cond.native arraycopyName ∈ lw_all) (hstat : Cond.static arraycopyName ∈ lw_all) (hini : Cond.initialized "java/lang/System" ∈ lw_all)
    (hframes : 1 ≤ R.frames) (hlocals : (rest.map fun v => v.category).sum + (nativeFrameWords "java/lang/System" "arraycopy" 5 + 11) ≤ R.locals) (hl : ls.size = nL) (hdg : decode cc pc = .ok (.invokestatic index, 3))
    (kk : ∀ (H1 : Heap) (locs1 : List Loc), HI D h0 (tC h a0 a sp.toNatClampNeg dp.toNatClampNeg n.toNatClampNeg) s.heap H1 locs1 cells slots → W p l e R s m args below meth c H1 locs1 cells slots Q (F0 m (pc + 3) ls rest)) : W p l e R s m args below meth c H locs cells slots Q (F0 m pc ls (.int n :: .int dp :: .ref a :: .int sp :: .ref a0 :: rest)) := by
  obtain ⟨hexec, hb, hml, hown, hts⟩ := S
  have nn : ∀ z : Int32, ¬ z < 0 → z.toInt = (z.toNatClampNeg : Int) := by
    intro z hz
    have hz0 : (0 : Int) ≤ z.toInt := by
      have := Int32.not_lt.mp hz
      simpa using Int32.le_iff_toInt_le.mp this
    show z.toInt = ((z.toInt.toNat : Nat) : Int)
    omega
  intro T hT X
  have hc0 : H[a0]? = some (vp_cell (D.1 t) (kN h a0, .inl (kI h a0))) := (hM.1.2 a0).2.1 t h31 h33 hk0
  have hc1 : H[a]? = some (vp_cell (D.1 t) (kN h a, .inl (kI h a))) := (hM.1.2 a).2.1 t h31 h33 hk1
  obtain ⟨-, k0, hk0, cm0, hkk0⟩ := (hX.1.2 pos _ hty).1 (kN h a0) (fun j => .int (kI h a0 j))
  obtain ⟨-, k1, hk1', cm1, hkk1⟩ := (hX.1.2 pos _ hty).1 (kN h a) (fun j => .int (kI h a j))
  obtain ⟨vm', X', step⟩ := X.arraycopy hexec hown (hts _ hlink) (hts _ hnat) (hts _ hstat) (hts _ hini) (src := a0) (dst := a) (cs := vp_cell (D.1 t) (kN h a0, .inl (kI h a0))) (cd := vp_cell (D.1 t) (kN h a, .inl (kI h a))) (srcPos := sp) (destPos := dp) (n := n) (by rw [hT]; exact hc0) (by rw [hT]; exact hc1)
    (fun _ h => by cases h) (fun _ h => by cases h) (fun h => by cases h) (fun h => by cases h) hk0 hk1' hkk0 hkk1 (by simp [hprim]) h1 h2 h3
    (by rw [nn sp h1, nn n h3]; show ¬ _ > ((arrV (D.1 t) (kN h a0) (fun j => .int (kI h a0 j))).slots.size : Int); rw [arrV_size]; omega)
    (by rw [nn dp h2, nn n h3]; show ¬ _ > ((arrV (D.1 t) (kN h a) (fun j => .int (kI h a j))).slots.size : Int); rw [arrV_size]; omega)
    (fun vm₁ _ i hi => by
      have e : (vp_cell (D.1 t) (kN h a0, .inl (kI h a0))).slots.getD (sp.toNatClampNeg + i) .null = .int (kI h a0 (sp.toNatClampNeg + i)) := by
        show (arrV (D.1 t) (kN h a0) (fun j => .int (kI h a0 j))).slots.getD _ _ = _
        rw [Array.getD_eq_getD_getElem?, arrV_read _ _ (by omega)]
        rfl
      refine ⟨?_, ?_⟩
      · rw [e]
        exact hfit i hi
      · rw [e]
        exact trivial)
    (g := F0 m pc ls (.int n :: .int dp :: .ref a :: .int sp :: .ref a0 :: rest)) rfl (by rw [hml]; exact hl) (rest := rest) rfl (by rw [hb]; exact hdg) hframes (by show 2 * 0 + _ + _ ≤ _; omega)
  have e1 : copied (vp_cell (D.1 t) (kN h a0, .inl (kI h a0))) (vp_cell (D.1 t) (kN h a, .inl (kI h a))) sp dp n = vp_cell (D.1 t) (kN h a, .inl (va_cpy (kI h a0) (kI h a) sp.toNatClampNeg dp.toNatClampNeg n.toNatClampNeg)) := va_copied (fun z => .int z) (D.1 t) (D.1 t) (kI h a0) (kI h a) h4
  rw [e1] at X' step
  have hla : a < H.size := (Array.getElem?_eq_some_iff.mp hc1).1
  generalize hcell : vp_cell (D.1 t) (kN h a, .inl (va_cpy (kI h a0) (kI h a) sp.toNatClampNeg dp.toNatClampNeg n.toNatClampNeg)) = cell at X' step
  have hheap : ((T.setVm vm').setCell a cell).heap = H.setIfInBounds a cell := by rw [← hT]; rfl
  have oq : ∀ q : Nat, q ≠ a → (H.setIfInBounds a cell)[q]? = H[q]? := fun q hq => by simp [Array.getElem?_setIfInBounds, Ne.symm hq]
  have hat : (H.setIfInBounds a cell)[a]? = some cell := by simp [Array.getElem?_setIfInBounds, hla]
  have hI : HI D h0 (tC h a0 a sp.toNatClampNeg dp.toNatClampNeg n.toNatClampNeg) s.heap (H.setIfInBounds a cell) (locs ++ [⟨a, 0⟩]) cells slots := by
    refine HI_upd hM (HP_upd (a := a) hM.1 rfl (fun _ => rfl) (fun _ => rfl) (fun x hx => by funext j; simp [kI_tC, hx]) (fun x hx => rfl) (by simp) oq ⟨fun ci hc h9 => ?_, fun t9 b1 b2 h9 => ?_, fun t9 b1 b2 h9 => ?_, fun h9 => (by rw [kT_tC] at h9; omega), fun h9 => (by rw [kT_tC] at h9; omega)⟩) rfl rfl rfl oq hb0 (fun _ => rfl) (by omega)
    · rw [kT_tC] at h9; omega
    · rw [kT_tC] at h9
      have e9 : t9 = t := by omega
      subst e9
      rw [hat, ← hcell, vp_cell_i]
      congr 2
      funext q
      simp [kI_tC, va_cpy]
    · rw [kT_tC] at h9; omega
  obtain ⟨g0, g1, g2, g3, g4, g5, g6, g7, g8⟩ := hI
  obtain ⟨t2, a1, b1⟩ := kk _ _ ⟨g0, g1, g2, fun q hq => by
      rcases List.mem_append.mp hq with h | h
      · exact hM.2.2.2.1 q h
      · obtain ⟨z, -, hz⟩ := List.mem_map.mp h
        rw [← hz, ← hM.2.1]
        exact hb0, g4, g5, g6, g7, g8⟩ _ hheap X'
  exact ⟨t2, step t2 a1, b1⟩
theorem ccopyi (S : CallFix p m c cc nL s args lw_all own) (hX : CX D (kG h0) s) (hM : HI D h0 h s.heap H locs cells slots) {index a0 a : Nat} {sp dp n : Int32} (hv : xC h a0 a 31 sp dp n = some h') (hlink : Cond.methodLink own index arraycopyName ∈ lw_all) (hnat : Cond.native arraycopyName ∈ lw_all) (hstat : Cond.static arraycopyName ∈ lw_all) (hini : Cond.initialized "java/lang/System" ∈ lw_all)
    (hframes : 1 ≤ R.frames) (hlocals : (rest.map fun v => v.category).sum + (nativeFrameWords "java/lang/System" "arraycopy" 5 + 11) ≤ R.locals) (hl : ls.size = nL) (hdg : decode cc pc = .ok (.invokestatic index, 3))
    (kk : ∀ (H1 : Heap) (locs1 : List Loc), HI D h0 h' s.heap H1 locs1 cells slots → W p l e R s m args below meth c H1 locs1 cells slots Q (F0 m (pc + 3) ls rest)) : W p l e R s m args below meth c H locs cells slots Q (F0 m pc ls (.int n :: .int dp :: .ref a :: .int sp :: .ref a0 :: rest)) := by
  obtain ⟨hok, rfl⟩ := xCe hv
  unfold xOk at hok
  rw [Bool.and_eq_true, decide_eq_true_eq] at hok
  obtain ⟨⟨g1, g2, g3, g4, g5, g6, g7, g8⟩, -⟩ := hok
  exact ccopy0 S hX hM (t := 31) (pos := 0) (ty := .int) (by decide) (by decide) rfl rfl g1 g2 g8 g3 g4 g5 g6 g7 (fun i hi => rfl) hlink hnat hstat hini hframes hlocals hl hdg kk
theorem ccopyb (S : CallFix p m c cc nL s args lw_all own) (hX : CX D (kG h0) s) (hM : HI D h0 h s.heap H locs cells slots) {index a0 a : Nat} {sp dp n : Int32} (hv : xC h a0 a 32 sp dp n = some h') (hlink : Cond.methodLink own index arraycopyName ∈ lw_all) (hnat : Cond.native arraycopyName ∈ lw_all) (hstat : Cond.static arraycopyName ∈ lw_all) (hini : Cond.initialized "java/lang/System" ∈ lw_all)
    (hframes : 1 ≤ R.frames) (hlocals : (rest.map fun v => v.category).sum + (nativeFrameWords "java/lang/System" "arraycopy" 5 + 11) ≤ R.locals) (hl : ls.size = nL) (hdg : decode cc pc = .ok (.invokestatic index, 3))
    (kk : ∀ (H1 : Heap) (locs1 : List Loc), HI D h0 h' s.heap H1 locs1 cells slots → W p l e R s m args below meth c H1 locs1 cells slots Q (F0 m (pc + 3) ls rest)) : W p l e R s m args below meth c H locs cells slots Q (F0 m pc ls (.int n :: .int dp :: .ref a :: .int sp :: .ref a0 :: rest)) := by
  obtain ⟨hok, rfl⟩ := xCe hv
  unfold xOk at hok
  rw [Bool.and_eq_true, decide_eq_true_eq] at hok
  obtain ⟨⟨g1, g2, g3, g4, g5, g6, g7, g8⟩, g9⟩ := hok
  exact ccopy0 S hX hM (t := 32) (pos := 1) (ty := .byte) (by decide) (by decide) rfl rfl g1 g2 g8 g3 g4 g5 g6 g7 (fun i hi => List.all_eq_true.mp (by simpa using g9) i (List.mem_range.mpr hi)) hlink hnat hstat hini hframes hlocals hl hdg kk
end CCP
