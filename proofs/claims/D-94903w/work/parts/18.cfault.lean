/-! exceptions made: the object's own fields (of a Fault: kind, place); what Throwable keeps isn't looked at (follows vx_ctorMade0 of the kit's exceptions paper) -/
/-- the launch keeps no traces -/
abbrev NoTr (l : Launch) : Prop := Nonempty (l.stackTraces = false)
theorem NoTr.off {l : Launch} [h : NoTr l] : l.stackTraces = false := h.elim id
/-- a thing of another kind: its numbers and references begin at nought -/
def tK (h : HS) (a t : Nat) : HS := (va_up h.1 a t, h.2.1, fun x => if x = a then fun _ => 0 else h.2.2.1 x, fun x => if x = a then fun _ => none else h.2.2.2.1 x, h.2.2.2.2)
def cAt (own : String) (ic : Nat) (C sup : String) (names : List String) : List Cond :=
  Bundle.throwableAtoms ++ Bundle.chain0Atoms sup names ++
  [.methodLink own ic (Bundle.init0 sup), .selects C Bundle.tFill0 Bundle.tFill0, .selects C Bundle.tFill Bundle.tFill,
   .lays C Bundle.tN "cause" "Ljava/lang/Throwable;", .lays C Bundle.tN "stackTrace" Bundle.steD, .lays C Bundle.tN "suppressedExceptions" Bundle.listD, .lays C Bundle.tN "detailMessage" "Ljava/lang/String;",
   .isRef (.static Bundle.tN "UNASSIGNED_STACK" Bundle.steD), .isRef (.static Bundle.tN "SUPPRESSED_SENTINEL" Bundle.listD),
   .fieldLink Bundle.tN 198 Bundle.tN "backtrace" "Ljava/lang/Object;", .lays Bundle.tN Bundle.tN "backtrace" "Ljava/lang/Object;", .lays C Bundle.tN "backtrace" "Ljava/lang/Object;"]
section CFA
variable {p : Program} {l : Launch} {e : Env} {s : State} {m : MethodId} {args : Array Value} {below : List Frame} {meth : Method} {c : Code} {H : Heap} {locs : List Loc} {cells slots FR LO : Nat} {Q : State → Prop} {cc : ByteArray} {nL pc : Nat} {ls : Array Slot} {own : String} {rest : List Value} {D : va_G} {h0 h : HS}
set_option maxHeartbeats 2000000 in
theorem cbare [NoTr l] {ci ic a : Nat} {sup : String} {names : List String} (S : CallFix p m c cc nL s args lw_all own) (hX : CX D (kG h0) s) (hM : HI D h0 h s.heap H locs cells slots)
    (hci : 19 ≤ ci ∧ ci < 21) (ht : kT h a = ci + 1) (hG : kG h 0 ≤ a) (hback : kR h a 4 = none)
    (hsup : Bundle.fit sup = true) (hnames : ∀ n ∈ names, Bundle.fit n = true) (hh : ∀ w ∈ cAt own ic (cN ci) sup names, w.before args s = true)
    (hl : ls.size = nL) (hd6 : decode cc pc = .ok (.invokespecial ic, 3)) (hfr : names.length + 3 < FR) (hlo : (rest.map fun v => v.category).sum + (13 * (names.length + 1) + 41) ≤ LO)
    (kk : ∀ (H1 : Heap) (L : List Loc) (cell ce : Cell), H[a]? = some cell → H1[a]? = some ce → ce.cls = cell.cls → ce.vm = .none → (∀ j, j ≠ D.2 ci 0 → j ≠ D.2 ci 1 → j ≠ D.2 ci 2 → ce.slots[j]? = cell.slots[j]?) → H1.size = H.size → (∀ q : Nat, q ≠ a → H1[q]? = H[q]?) → (∀ y ∈ L, y.base = a) →
      W p l e (cR FR LO h0) s m args below meth c H1 (locs ++ L) cells slots Q (F0 m (pc + 3) ls rest)) :
    W p l e (cR FR LO h0) s m args below meth c H locs cells slots Q (F0 m pc ls (.ref a :: rest)) := by
  intro T hT X
  subst hT
  obtain ⟨hexec, hb, hml, hown, hts⟩ := id S
  have htr : e.platform.stackTraces = false := (show e.platform.stackTraces = l.stackTraces by rw [X.admits.platform]).trans NoTr.off
  have howns : e.platform.frameOwnsMonitors = true := by rw [X.admits.platform]
  have hfin : e.platform.finalization = false := by rw [X.admits.platform]
  have hpl : e.platform.magicAccessors = ({} : Platform).magicAccessors := by rw [X.admits.platform]
  have a' : ∀ x, x ∈ cAt own ic (cN ci) sup names → x.holds args s none s [] = true := fun x hx => hh x hx
  obtain ⟨T0, Z, L, LZ, Y⟩ := ThrowableC.of_atoms (args := args) howns hfin hpl (fun x hx => hh x (by simp [cAt, hx]))
  obtain ⟨P1, Ps, hlen, L1, hL, hP1m, hlink1, hlink⟩ := Bundle.chain0 (args := args) hpl Y.init0 names sup hsup hnames (fun x hx => hh x (by simp [cAt, hx]))
  have hc21 : ci < 21 := hci.2
  obtain ⟨f1, f2, f3, f4⟩ := cfacts ci hc21
  have hap := va_apart (own := "") (D := D) (cl := cCl) (tys := cTy D) hts f2 (cty ci) f3 f4 hX.1 f1
  obtain ⟨cell, q1, q2, q3, q4⟩ := (hM.1.2 a).1 ci hc21 ht
  obtain ⟨hmo, hmc⟩ := (hM.1.2 a).2.2.2.2.1 (by omega) cell q1
  obtain ⟨hS, hfound, kX, hk, hord⟩ := hX.1.1 ci _ f1
  have hcl : cell.cls = D.1 ci := q2
  have hsel0 : selectMethod e.platform s.vm cell.cls T0.fill0 = .method T0.fill0 := by
    obtain ⟨c2, r2, m2, q1, q2, q3, q4, -⟩ := Cond.selects_spec (a' (.selects (cN ci) Bundle.tFill0 Bundle.tFill0) (by simp [cAt]))
    cases Option.some.inj (q1.symm.trans hfound)
    cases Option.some.inj (q2.symm.trans (State.methodFound?_of_named Y.fill0 (by decide)))
    cases Option.some.inj (q3.symm.trans Y.fill0)
    rw [Launch.admits_selectMethod X.admits, hcl]; exact q4
  have hselF : selectMethod e.platform s.vm cell.cls T0.fill = .method T0.fill := by
    obtain ⟨c2, r2, m2, q1, q2, q3, q4, -⟩ := Cond.selects_spec (a' (.selects (cN ci) Bundle.tFill Bundle.tFill) (by simp [cAt]))
    cases Option.some.inj (q1.symm.trans hfound)
    cases Option.some.inj (q2.symm.trans (State.methodFound?_of_named Y.fill (by decide)))
    cases Option.some.inj (q3.symm.trans Y.fill)
    rw [Launch.admits_selectMethod X.admits, hcl]; exact q4
  obtain ⟨cellS0, hcS0, hiss⟩ := Y.statics
  obtain ⟨u0, hu0⟩ := Cond.staticRefV Y.unassigned L.unassignedStatic L.statics hcS0 hiss (a' (.isRef (.static Bundle.tN "UNASSIGNED_STACK" Bundle.steD)) (by simp [cAt]))
  obtain ⟨sen, hsen⟩ := Cond.staticRefV Y.sentinel L.sentinelStatic L.statics hcS0 hiss (a' (.isRef (.static Bundle.tN "SUPPRESSED_SENTINEL" Bundle.listD)) (by simp [cAt]))
  obtain ⟨ci198, i198, fB, hk198, hg198, ha198, hsB, -, hnB, htB, hffB⟩ := Cond.ownField (t := .object "java/lang/Object") Y.found L.cls (by decide +kernel) (a' (.fieldLink Bundle.tN 198 Bundle.tN "backtrace" "Ljava/lang/Object;") (by simp [cAt])) (a' (.lays Bundle.tN Bundle.tN "backtrace" "Ljava/lang/Object;") (by simp [cAt])) e.platform hpl
  -- the statics lie below
  have haS : T0.aS < kG h0 0 := by
    obtain ⟨c9, k9, i9, f9, a9, cell9, g1, g2, g3, g4, g5, g6, g7, g8, g9, g10⟩ := hX.2.2.2.2.2.1
    have g2' := g2.symm.trans Y.unassigned
    simp only [Option.some.injEq, Prod.mk.injEq] at g2'
    obtain ⟨-, rfl, -, -⟩ := g2'
    have e9 : T0.aS = a9 := Option.some.inj (L.statics.symm.trans g4)
    rw [e9]; exact Nat.lt_of_not_le g10
  have hGe : kG h = kG h0 := hM.2.1
  have hneS : T0.aS ≠ a := fun e9 => by rw [hGe, ← e9] at hG; exact absurd haS (Nat.not_lt.mpr hG)
  have hcellS : T.heap[T0.aS]? = some cellS0 := (hM.2.2.1 _ haS).trans hcS0
  have hknownS : cellS0.vm ≠ .unknown := by
    intro hu
    rw [show cellS0.vm = .unknown from hu] at hiss
    cases hiss
  obtain ⟨tyC, dC, hdC, hdnC⟩ := Cond.laysAt hfound hk Y.cause (a' (.lays (cN ci) Bundle.tN "cause" "Ljava/lang/Throwable;") (by simp [cAt]))
  obtain ⟨tyS, dS, hdS, hdnS⟩ := Cond.laysAt hfound hk Y.stack (a' (.lays (cN ci) Bundle.tN "stackTrace" Bundle.steD) (by simp [cAt]))
  obtain ⟨tyP, dP, hdP, hdnP⟩ := Cond.laysAt hfound hk Y.supp (a' (.lays (cN ci) Bundle.tN "suppressedExceptions" Bundle.listD) (by simp [cAt]))
  -- the slots by their numbers
  have h4 : 5 ≤ cnf ci := by
    have : ci = 19 ∨ ci = 20 := by omega
    rcases this with rfl | rfl <;> decide
  have sl : ∀ k, k < 5 → ∀ {cf kf fi f}, s.fieldFound? (cT ci k).1 (cT ci k).2.1 (cT ci k).2.2.1 = some (cf, kf, fi, f) → f.slot = D.2 ci k := fun k hk5 cf kf fi f hf => by
    obtain ⟨cf', kf', fi', f', hi, hsl⟩ := hS k (Nat.lt_of_lt_of_le hk5 h4)
    have := hf.symm.trans hi
    simp only [Option.some.injEq, Prod.mk.injEq] at this
    rw [this.2.2.2]; exact hsl
  have tT : cT ci 0 = (Bundle.tN, "cause", "Ljava/lang/Throwable;", false) ∧ cT ci 1 = (Bundle.tN, "stackTrace", Bundle.steD, false) ∧ cT ci 2 = (Bundle.tN, "suppressedExceptions", Bundle.listD, false) ∧ cT ci 4 = (Bundle.tN, "backtrace", "Ljava/lang/Object;", false) := by
    have : ci = 19 ∨ ci = 20 := by omega
    rcases this with rfl | rfl <;> exact ⟨rfl, rfl, rfl, rfl⟩
  have sC : T0.fCause.slot = D.2 ci 0 := sl 0 (by omega) (by rw [tT.1]; exact Y.cause)
  have sS : T0.fStack.slot = D.2 ci 1 := sl 1 (by omega) (by rw [tT.2.1]; exact Y.stack)
  have sP : T0.fSupp.slot = D.2 ci 2 := sl 2 (by omega) (by rw [tT.2.2.1]; exact Y.supp)
  have sB : fB.slot = D.2 ci 4 := sl 4 (by omega) (by rw [tT.2.2.2]; exact hffB)
  have has : ∀ k, k < 5 → D.2 ci k < cell.slots.size := fun k hk5 => k2_hasslot (q4 k (by omega))
  have tk : ∀ {f : Field} {v : Value} {k : Nat}, k < 5 → f.slot = D.2 ci k → kX.instanceTypes[f.slot]? = some f.type → fits f.type v = true → Takes s cell f v := fun {f v k} hk5 hs hty hv => by
    have h9 := Takes.of_laid (s := s) (c := D.1 ci) hk hord hty hv
    refine ⟨by rw [hs]; exact has k hk5, ?_⟩
    rw [hcl, q3]; exact h9.2
  have nB : cell.slots[fB.slot]? = some .null := by
    rw [sB, q4 4 (by omega)]
    have hi : irt (cty ci 4) = true := by
      have : ci = 19 ∨ ci = 20 := by omega
      rcases this with rfl | rfl <;> rfl
    unfold cfv
    rw [if_pos hi, hback]; rfl
  have ap : ∀ i j, i < 5 → j < 5 → i ≠ j → D.2 ci i ≠ D.2 ci j := fun i j hi hj hn => hap i j (by omega) (by omega) hn
  have hskip : SkipFacts T0 e.platform s (fun u => u) u0 ((preparedCellV T0.toThrowableT cell a u0 sen).withEntry T.cur) :=
    ⟨{ ci198 := ci198, i198 := i198, fBack := fB }, ⟨hk198, hg198, ha198, hsB⟩, by
      rw [sB] at nB
      simpa [preparedCellV, Cell.setSlot, Cell.withEntry, Array.getElem?_setIfInBounds, sC, sS, sP, sB, ap 0 4 (by omega) (by omega) (by omega), ap 1 4 (by omega) (by omega) (by omega), ap 2 4 (by omega) (by omega) (by omega)] using nB, fun _ _ => rfl⟩
  obtain ⟨tm, methC, cdC, kC, vm₁, hnC, -, -, -, -, -, -, -, hW₁, st1⟩ := Steps.initCold (tb := p.tables) (e := e) (below := below) (s := s) (U := T) X.here hexec X.warmed hpl hown (t := Bundle.init0 sup) rfl rfl (Bundle.fit_spec hsup).2
    (a' (.methodLink own ic (Bundle.init0 sup)) (by simp [cAt])) (hh (.instanceMethod (Bundle.init0 sup)) (by cases names <;> simp [cAt, Bundle.chain0Atoms, Bundle.passAtoms])) (bytes := Bundle.five) (maxL := 1) (hh (.code (Bundle.init0 sup) Bundle.five 1 none) (by cases names <;> simp [cAt, Bundle.chain0Atoms, Bundle.passAtoms]))
    (f := F0 m pc ls (.ref a :: rest)) rfl (a := a) (rest := rest) rfl (by rw [hb]; exact hd6)
  cases Option.some.inj (hnC.symm.trans hP1m)
  have X₁ := X.noted hW₁
  obtain ⟨vm₂, X₂, st2⟩ := X₁.ctorPlainOffV hexec (g := F0 m pc ls rest) rfl (by rw [hml]; exact hl) T0 L Z LZ (P1 :: Ps)
    (fun P hP => by rcases List.mem_cons.mp hP with rfl | hP; exact L1; exact hL P hP) ⟨hlink1, hlink⟩ (u0 := u0) (sen := sen) (self := a) (cell := cell) (cellS := cellS0)
    q1 (fun k => by rw [q3]; exact fun h => (by cases h)) (by rw [q3]; exact fun h => (by cases h)) hmo hmc hsel0 hselF hcellS hneS hknownS hu0 hsen
    (tk (by omega) sC tyC (by rw [Y.causeType]; rfl)) (tk (by omega) sS tyS (by rw [Y.stackType]; exact fits_refV_array _ u0)) (tk (by omega) sP tyP (by rw [Y.suppType]; exact fits_refV_object _ sen)) Y.objLocals hskip htr [] (by rw [hb]; exact hd6)
    (by
      simp only [List.length_cons, hlen]
      show names.length + 1 + 2 < FR
      omega) (by
      simp only [List.length_cons, hlen]
      show 2 * 0 + (rest.map fun v => v.category).sum + (13 * (names.length + 1) + 41) ≤ LO
      omega)
  have hlt : a < T.heap.size := (Array.getElem?_eq_some_iff.mp q1).1
  generalize hce : (preparedCellV T0.toThrowableT cell a u0 sen).setSlot T0.fStack.slot u0.v = ce at X₂ st2
  have hheap : (((T.setVm vm₁).setVm vm₂).setCell a ce).heap = T.heap.setIfInBounds a ce := rfl
  have e1 : (T.heap.setIfInBounds a ce)[a]? = some ce := by simp [Array.getElem?_setIfInBounds, hlt]
  have oq : ∀ q : Nat, q ≠ a → (T.heap.setIfInBounds a ce)[q]? = T.heap[q]? := fun q hq => by simp [Array.getElem?_setIfInBounds, Ne.symm hq]
  obtain ⟨t, w1, w2⟩ := kk (T.heap.setIfInBounds a ce) _ cell ce q1 e1 (by rw [← hce]; rfl) (by rw [← hce]; exact q3) (fun j j0 j1 j2 => by
      rw [← hce]
      simp [preparedCellV, Cell.setSlot, Array.getElem?_setIfInBounds, sC, sS, sP, Ne.symm j0, Ne.symm j1, Ne.symm j2]) (by simp) oq (fun y hy => by
      simp only [List.mem_cons, List.not_mem_nil, or_false] at hy
      rcases hy with rfl | rfl | rfl | rfl <;> rfl) _ hheap X₂
  refine ⟨t, st1 _ (fun acts => ?_), w2⟩
  rw [doInvoke_state]
  exact st2 _ w1
end CFA
abbrev cAtB : List Cond := [.laysStatic Bundle.tN "UNASSIGNED_STACK" Bundle.steD, .laysStatic Bundle.tN "SUPPRESSED_SENTINEL" Bundle.listD, .isRef (.static Bundle.tN "UNASSIGNED_STACK" Bundle.steD), .isRef (.static Bundle.tN "SUPPRESSED_SENTINEL" Bundle.listD), .declares ⟨"java/lang/Throwable", "<init>", "()V"⟩, .declares ⟨"java/lang/Exception", "<init>", "()V"⟩]
theorem cAt_all {D : va_G} {G : Nat → Nat} {s : State} {args : Array Value} {L : List Cond} (hg : ∀ w ∈ L.filter goodWord, w ∈ lw_all) (hb : L.all (fun w => goodWord w || decide (w ∈ cAtB)) = true) (hts : ∀ w ∈ lw_all, w.before args s = true) (hX : CX D G s) : ∀ w ∈ L, w.before args s = true := by
  intro w hw
  by_cases g : goodWord w = true
  · exact hts w (hg w (List.mem_filter.mpr ⟨hw, g⟩))
  · have h9 := List.all_eq_true.mp hb w hw
    simp only [Bool.or_eq_true, decide_eq_true_eq] at h9
    rcases h9 with h9 | h9
    · exact absurd h9 g
    · simp only [cAtB, List.mem_cons, List.not_mem_nil, or_false] at h9
      rcases h9 with rfl | rfl | rfl | rfl | rfl | rfl
      · exact cLy.word hX.2.2.2.2.2.1
      · exact cLy.word hX.2.2.2.2.2.2
      · exact cIsRq hX.2.2.2.1
      · exact cIsRq hX.2.2.2.2.1
      · exact va_Nw.use rfl (uq746 hX)
      · exact va_Nw.use rfl (uq744 hX)
abbrev cAtF : List Cond := cAt RX8 1 RX8 "java/lang/Exception" []
abbrev cAtN : List Cond := cAt RJ18 1 RJ18 "java/lang/RuntimeException" ["java/lang/Exception"]
theorem cAtF_g : ∀ w ∈ cAtF.filter goodWord, w ∈ lw_all := lw_in (cAtF.filter goodWord) [123, 761, 770, 773, 776, 778, 762, 763, 148, 149, 764, 769, 774, 791, 751, 792, 753, 793, 755, 765, 767, 757, 783, 784, 785, 762, 782, 748, 749, 750, 752, 754, 756, 760, 759, 758] (by decide +kernel) (by decide +kernel)
theorem cAtF_b : cAtF.all (fun w => goodWord w || decide (w ∈ cAtB)) = true := by decide +kernel
theorem cAtN_g : ∀ w ∈ cAtN.filter goodWord, w ∈ lw_all := lw_in (cAtN.filter goodWord) [123, 761, 770, 773, 776, 778, 762, 763, 148, 149, 764, 769, 774, 791, 751, 792, 753, 793, 755, 765, 767, 757, 1710, 1711, 1712, 783, 783, 784, 785, 762, 1709, 1700, 772, 1701, 1702, 1703, 1704, 760, 759, 1705] (by decide +kernel) (by decide +kernel)
theorem cAtN_b : cAtN.all (fun w => goodWord w || decide (w ∈ cAtB)) = true := by decide +kernel
theorem HI_tK {D : va_G} {h0 h : HS} {H0 H H1 : Heap} {locs L : List Loc} {cells slots a ci : Nat} (hM : HI D h0 h H0 H locs cells slots) (hc : ci < 19) (hG : kG h 0 ≤ a) (hka : kT h a ≠ 0)
    (ho : t_OB a (D.1 ci) (cnf ci) (D.2 ci) H1 (cfv ci (fun _ => 0) (fun _ => none))) (z : H1.size = H.size) (oq : ∀ q : Nat, q ≠ a → H1[q]? = H[q]?) (hL : ∀ y ∈ L, y.base = a) : HI D h0 (tK h a (ci + 1)) H0 H1 (locs ++ L) cells slots := by
  obtain ⟨g0, g1, g2, g3, g4, g5, g6, g7, g8⟩ := hM
  rw [g1] at hG
  refine ⟨⟨by rw [z]; exact g0.1, fun x => ?_⟩, g1, fun q hq => ?_, fun x hx => ?_, g4, g5, g6, g7, g8.1, fun q q1 q2 => ?_⟩
  · by_cases hx : x = a
    · subst hx
      have e0 : kT (tK h x (ci + 1)) x = ci + 1 := by simp [kT, tK, va_up]
      have e1 : kI (tK h x (ci + 1)) x = fun _ => 0 := by funext j; simp [kI, tK]
      have e2 : kR (tK h x (ci + 1)) x = fun _ => none := by funext j; simp [kR, tK]
      rw [e0, e1, e2]
      refine ⟨fun cj hj e9 => ?_, fun t b1 b2 e9 => (by omega), fun t b1 b2 e9 => (by omega), by omega, fun h9 => (by omega), fun h9 => (by omega)⟩
      have e8 : cj = ci := by omega
      subst e8; exact ho
    · have e0 : kT (tK h a (ci + 1)) x = kT h x := by simp [kT, tK, va_up, hx]
      have e1 : kI (tK h a (ci + 1)) x = kI h x := by funext j; simp [kI, tK, hx]
      have e2 : kR (tK h a (ci + 1)) x = kR h x := by funext j; simp [kR, tK, hx]
      have e3 : kN (tK h a (ci + 1)) x = kN h x := rfl
      obtain ⟨h1, h2, h3, h4, h5⟩ := g0.2 x
      rw [e0, e1, e2, e3, oq x hx]
      refine ⟨fun cj hj e9 => ?_, h2, h3, h4, h5⟩
      exact (h1 cj hj e9).kept (oq x hx)
  · rw [oq q (by omega)]; exact g2 q hq
  · rcases List.mem_append.mp hx with h9 | h9
    · exact g3 x h9
    · rw [hL x h9]; exact hG
  · obtain ⟨y1, y2⟩ := g8.2 q q1 q2
    have hne : q ≠ a := fun e => hka (e ▸ y1)
    exact ⟨by simp only [kT, tK, va_up]; rw [if_neg hne]; exact y1, by rw [oq q hne]; exact y2⟩
def fX8_init (_F : Nat) (σ : HS) (x0 : Nat) (x1 x2 : Int32) : Option HS := if kT σ x0 = 20 ∧ kG σ 0 ≤ x0 ∧ kR σ x0 4 = none ∧ kI σ x0 6 = 0 ∧ kI σ x0 7 = 0 then some (tI (tI (tK σ x0 8) x0 0 x1) x0 1 x2) else none
theorem hyX8_init : yX8_init.cls ≠ "java/lang/invoke/MethodHandle" ∧ yX8_init.cls ≠ "java/lang/invoke/VarHandle" := by decide +kernel
theorem hlX8_init : (parseMethodDescriptor yX8_init.desc).map (fun d => d.parameters.length) = some 2 := by decide +kernel
theorem metX8_init (l : Launch) [NoTr l] (F : Nat) (D : va_G) (σ : HS) (x0 : Nat) (x1 x2 : Int32) (r : HS) (hF : fX8_init F σ x0 x1 x2 = some r) : CMet l yX8_init (ws_ yX8_init cX8_init 3 none) 8 200 D [.ref x0, .int x1, .int x2] σ r (.inr none) := by
  unfold fX8_init at hF
  split at hF
  case isFalse => cases hF
  case isTrue hc =>
  obtain ⟨ht, hG, hbk, hk6, hk7⟩ := hc
  refine CMet.ofW (by decide) ?_
  intro p e s m below meth c s₁ B S hX hM hr hlocks hnt hin
  obtain ⟨hx, hb, hml, hown, hts⟩ := id S
  have hl := lv_entry ([.ref x0, .int x1, .int x2]) (n := 3) (Nat.le_of_ble_eq_true rfl)
  rw [lg_entry_eq]
  generalize (lg_sl ([.ref x0, .int x1, .int x2]) ++ List.replicate (3 - (lg_sl ([.ref x0, .int x1, .int x2])).length) Slot.unset).toArray = ls at hl ⊢
  have hl : lv_has ls 3 [(0, .ref x0), (1, .int x1), (2, .int x2)] := hl
  refine lv_aload_n hx hb dX8_init_0 rfl (lv_at hl 0 rfl) ?_
  refine cbare (ci := 19) (sup := "java/lang/Exception") (names := []) S hX hM (by decide) ht hG hbk (by decide +kernel) (fun _ h => nomatch h) (cAt_all cAtF_g cAtF_b hts hX) hl.1 dX8_init_1 (by decide) (by decide) (fun H L cell ce c1 e1 e2 e3 e4 z oq hL => ?_)
  have hM := HI_tK (ci := 7) hM (by decide) hG (by omega) (by
    obtain ⟨f1, f2, f3, f4⟩ := cfacts 19 (by decide)
    obtain ⟨g1, g2, g3, g4⟩ := cfacts 7 (by decide)
    have hap := va_apart (own := "") (D := D) (cl := cCl) (tys := cTy D) hts f2 (cty 19) f3 f4 hX.1 f1
    obtain ⟨cell', q1, q2, q3, q4⟩ := (hM.1.2 x0).1 19 (by decide) ht
    have e9 : cell' = cell := Option.some.inj (q1.symm.trans c1)
    subst e9
    obtain ⟨hS, hfound, kX, hk, hord⟩ := hX.1.1 19 _ f1
    obtain ⟨hS', hfound', -⟩ := hX.1.1 7 _ g1
    have ed : D.1 7 = D.1 19 := Option.some.inj (hfound'.symm.trans hfound)
    have es : ∀ k, k < 2 → D.2 7 k = D.2 19 (k + 6) := fun k hk2 => by
      obtain ⟨cf, kf, fi, f, hi, hsl⟩ := hS' k hk2
      obtain ⟨cf', kf', fi', f', hi', hsl'⟩ := hS (k + 6) (by show k + 6 < 8; omega)
      have e8 : cT 7 k = cT 19 (k + 6) := by
        have : k = 0 ∨ k = 1 := by omega
        rcases this with rfl | rfl <;> rfl
      have hi2 : s.fieldFound? (cT 19 (k + 6)).1 (cT 19 (k + 6)).2.1 (cT 19 (k + 6)).2.2.1 = some (cf, kf, fi, f) := by rw [← e8]; exact hi
      have := hi2.symm.trans hi'
      simp only [Option.some.injEq, Prod.mk.injEq] at this
      rw [← hsl, ← hsl', this.2.2.2]
    refine ⟨ce, e1, by rw [e2, q2, ed], e3, fun k hk2 => ?_⟩
    have hk2 : k < 2 := hk2
    rw [es k hk2, e4 _ (hap _ _ (by show k + 6 < 8; omega) (by decide) (by omega)) (hap _ _ (by show k + 6 < 8; omega) (by decide) (by omega)) (hap _ _ (by show k + 6 < 8; omega) (by decide) (by omega)), q4 (k + 6) (by show k + 6 < 8; omega)]
    have : k = 0 ∨ k = 1 := by omega
    rcases this with rfl | rfl
    · show some (Value.int (kI σ x0 6)) = some (.int 0); rw [hk6]
    · show some (Value.int (kI σ x0 7)) = some (.int 0); rw [hk7]) z oq hL
  refine lv_aload_n hx hb dX8_init_4 rfl (lv_at hl 0 rfl) ?_
  refine lv_iload_n hx hb dX8_init_5 rfl (lv_at hl 1 rfl) ?_
  refine cpiF (t1 := 8) (t2 := 8) (k := 0) (h' := tI (tK σ x0 8) x0 0 x1) S hX hM (by unfold pI; rw [if_pos ⟨by simp [kT, tK, va_up], hG⟩]) (show cchk 8 8 0 "RugReader$Fault" "kind" "I" false = true by decide +kernel) (show cchw 8 8 0 .int true = true by decide +kernel) rfl rfl q786 hin dX8_init_6 (fun H locs hM => ?_)
  refine lv_aload_n hx hb dX8_init_9 rfl (lv_at hl 0 rfl) ?_
  refine lv_iload_n hx hb dX8_init_10 rfl (lv_at hl 2 rfl) ?_
  refine cpiF (t1 := 8) (t2 := 8) (k := 1) (h' := tI (tI (tK σ x0 8) x0 0 x1) x0 1 x2) S hX hM (by unfold pI; rw [if_pos ⟨by simp [kT, tI, tK, va_up], hG⟩]) (show cchk 8 8 1 "RugReader$Fault" "place" "I" false = true by decide +kernel) (show cchw 8 8 1 .int true = true by decide +kernel) rfl rfl q788 hin dX8_init_11 (fun H locs hM => ?_)
  have hz := (Option.some.inj hF)
  subst hz
  exact crv S hM hr hlocks dX8_init_14
def fJ18_init (_F : Nat) (σ : HS) (x0 : Nat) : Option HS := if kT σ x0 = 21 ∧ kG σ 0 ≤ x0 ∧ kR σ x0 4 = none then some (tK σ x0 19) else none
theorem hyJ18_init : yJ18_init.cls ≠ "java/lang/invoke/MethodHandle" ∧ yJ18_init.cls ≠ "java/lang/invoke/VarHandle" := by decide +kernel
theorem hlJ18_init : (parseMethodDescriptor yJ18_init.desc).map (fun d => d.parameters.length) = some 0 := by decide +kernel
theorem metJ18_init (l : Launch) [NoTr l] (F : Nat) (D : va_G) (σ : HS) (x0 : Nat) (r : HS) (hF : fJ18_init F σ x0 = some r) : CMet l yJ18_init (ws_ yJ18_init cJ18_init 1 none) 8 200 D [.ref x0] σ r (.inr none) := by
  unfold fJ18_init at hF
  split at hF
  case isFalse => cases hF
  case isTrue hc =>
  obtain ⟨ht, hG, hbk⟩ := hc
  refine CMet.ofW (by decide) ?_
  intro p e s m below meth c s₁ B S hX hM hr hlocks hnt hin
  obtain ⟨hx, hb, hml, hown, hts⟩ := id S
  have hl := lv_entry ([.ref x0]) (n := 1) (Nat.le_of_ble_eq_true rfl)
  rw [lg_entry_eq]
  generalize (lg_sl ([.ref x0]) ++ List.replicate (1 - (lg_sl ([.ref x0])).length) Slot.unset).toArray = ls at hl ⊢
  have hl : lv_has ls 1 [(0, .ref x0)] := hl
  refine lv_aload_n hx hb dJ18_init_0 rfl (lv_at hl 0 rfl) ?_
  refine cbare (ci := 20) (sup := "java/lang/RuntimeException") (names := ["java/lang/Exception"]) S hX hM (by decide) ht hG hbk (by decide +kernel) (by decide +kernel) (cAt_all cAtN_g cAtN_b hts hX) hl.1 dJ18_init_1 (by decide) (by decide) (fun H L cell ce c1 e1 e2 e3 e4 z oq hL => ?_)
  have hM := HI_tK (ci := 18) hM (by decide) hG (by omega) (by
    obtain ⟨f1, f2, f3, f4⟩ := cfacts 20 (by decide)
    obtain ⟨g1, g2, g3, g4⟩ := cfacts 18 (by decide)
    obtain ⟨cell', q1, q2, q3, q4⟩ := (hM.1.2 x0).1 20 (by decide) ht
    have e9 : cell' = cell := Option.some.inj (q1.symm.trans c1)
    subst e9
    obtain ⟨hS, hfound, kX, hk, hord⟩ := hX.1.1 20 _ f1
    obtain ⟨hS', hfound', -⟩ := hX.1.1 18 _ g1
    have ed : D.1 18 = D.1 20 := Option.some.inj (hfound'.symm.trans hfound)
    exact ⟨ce, e1, by rw [e2, q2, ed], e3, fun k hk2 => absurd hk2 (Nat.not_lt_zero k)⟩) z oq hL
  have hz := (Option.some.inj hF)
  subst hz
  exact crv S hM hr hlocks dJ18_init_4
