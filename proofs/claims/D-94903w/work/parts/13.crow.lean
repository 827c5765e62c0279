/-! rows of the component: one an instruction, over HI -/
def cchk (t1 t2 k : Nat) (dcl name desc : String) (rf : Bool) : Bool := (List.range (t2 + 1 - t1)).all fun i => decide (1 ≤ t1 + i) && decide (t1 + i ≤ 21) && decide (k < cnf (t1 + i - 1)) && decide ((cT (t1 + i - 1) k).1 = dcl) && decide ((cT (t1 + i - 1) k).2.1 = name) && decide ((cT (t1 + i - 1) k).2.2.1 = desc) && (irt (cty (t1 + i - 1) k) == rf)
def cchw (t1 t2 k : Nat) (ty : FieldType) (fin : Bool) : Bool := (List.range (t2 + 1 - t1)).all fun i => decide (cty (t1 + i - 1) k = ty) && ((cT (t1 + i - 1) k).2.2.2 == fin)
theorem cchk_at {t1 t2 k t : Nat} {dcl name desc : String} {rf : Bool} (h : cchk t1 t2 k dcl name desc rf = true) (h1 : t1 ≤ t) (h2 : t ≤ t2) : 1 ≤ t ∧ t ≤ 21 ∧ k < cnf (t - 1) ∧ (cT (t - 1) k).1 = dcl ∧ (cT (t - 1) k).2.1 = name ∧ (cT (t - 1) k).2.2.1 = desc ∧ irt (cty (t - 1) k) = rf := by
  have h9 := List.all_eq_true.mp h (t - t1) (List.mem_range.mpr (by omega))
  rw [show t1 + (t - t1) = t by omega] at h9
  simpa [and_assoc] using h9
theorem cchw_at {t1 t2 k t : Nat} {ty : FieldType} {fin : Bool} (h : cchw t1 t2 k ty fin = true) (h1 : t1 ≤ t) (h2 : t ≤ t2) : cty (t - 1) k = ty ∧ (cT (t - 1) k).2.2.2 = fin := by
  have h9 := List.all_eq_true.mp h (t - t1) (List.mem_range.mpr (by omega))
  rw [show t1 + (t - t1) = t by omega] at h9
  simpa using h9
theorem HP_upd {D : va_G} {h h' : HS} {H H' : Heap} {a : Nat} (hP : HP D h H) (hz : kZ h' = kZ h) (hT : ∀ x, kT h' x = kT h x) (hN : ∀ x, kN h' x = kN h x) (hI : ∀ x, x ≠ a → kI h' x = kI h x) (hR : ∀ x, x ≠ a → kR h' x = kR h x) (z : H'.size = H.size) (oq : ∀ q : Nat, q ≠ a → H'[q]? = H[q]?)
    (ha : (∀ ci, ci < 21 → kT h' a = ci + 1 → t_OB a (D.1 ci) (cnf ci) (D.2 ci) H' (cfv ci (kI h' a) (kR h' a))) ∧ (∀ t, 31 ≤ t → t ≤ 33 → kT h' a = t → H'[a]? = some (arrV (D.1 t) (kN h' a) (fun j => .int (kI h' a j)))) ∧ (∀ t, 34 ≤ t → t ≤ 40 → kT h' a = t → H'[a]? = some (arrV (D.1 t) (kN h' a) (fun j => va_rf (kR h' a j)))) ∧ (20 ≤ kT h' a ∧ kT h' a ≤ 21 → ∀ cell, H'[a]? = some cell → mFree cell) ∧ (kT h' a = 41 → H'[a]? = some (arrV (D.1 41) (kN h' a) (fun j => .long (kI h' a j).toInt64)))) : HP D h' H' := by
  refine ⟨by rw [z, hz]; exact hP.1, fun x => ?_⟩
  obtain ⟨h1, h2, h3, h4, h5⟩ := hP.2 x
  by_cases hx : x = a
  · subst hx
    exact ⟨ha.1, ha.2.1, ha.2.2.1, by rw [hT]; exact h4, ha.2.2.2⟩
  · refine ⟨fun ci hc ht => ?_, fun t b1 b2 ht => ?_, fun t b1 b2 ht => ?_, by rw [hT]; exact h4, fun ht => by rw [hT] at ht; rw [oq x hx]; exact h5.1 ht, fun ht => by rw [hT] at ht; rw [oq x hx, hN, hI x hx]; exact h5.2 ht⟩
    · obtain ⟨cell, q, r⟩ := h1 ci hc (by rw [← hT]; exact ht)
      rw [hI x hx, hR x hx]
      exact ⟨cell, by rw [oq x hx]; exact q, r⟩
    · rw [oq x hx, hN, hI x hx]; exact h2 t b1 b2 (by rw [← hT]; exact ht)
    · rw [oq x hx, hN, hR x hx]; exact h3 t b1 b2 (by rw [← hT]; exact ht)
theorem HI_upd {D : va_G} {h0 h h' : HS} {H0 H H' : Heap} {locs : List Loc} {cells slots a k : Nat} (hM : HI D h0 h H0 H locs cells slots) (hP : HP D h' H') (hG : kG h' = kG h) (hz : kZ h' = kZ h) (hw : kW h' = kW h) (oq : ∀ q : Nat, q ≠ a → H'[q]? = H[q]?) (ha : kG h 0 ≤ a) (hT : ∀ x, kT h' x = kT h x) (hka : kT h a ≠ 0) : HI D h0 h' H0 H' (locs ++ [⟨a, k⟩]) cells slots := by
  obtain ⟨-, g1, g2, g3, g4, g5, g6, g7, g8⟩ := hM
  rw [g1] at ha
  refine ⟨hP, hG.trans g1, fun q hq => ?_, fun x hx => ?_, by omega, by omega, by omega, by omega, g8.1, fun q q1 q2 => ?_⟩
  · rw [oq q (by omega)]; exact g2 q hq
  · rcases List.mem_append.mp hx with h9 | h9
    · exact g3 x h9
    · rw [List.mem_singleton.mp h9]; exact ha
  · obtain ⟨y1, y2⟩ := g8.2 q q1 q2
    have hne : q ≠ a := fun e => hka (e ▸ y1)
    exact ⟨by rw [hT]; exact y1, by rw [oq q hne]; exact y2⟩
theorem cfv_tI {h : HS} {ci a k : Nat} {v : Int32} (hk : irt (cty ci k) = false) (j : Nat) : cfv ci (kI (tI h a k v) a) (kR (tI h a k v) a) j = updV (cfv ci (kI h a) (kR h a)) k (.int v) j := by
  unfold updV cfv
  by_cases e : j = k
  · subst e; simp [hk, kI_tI]
  · simp [e, kI_tI, kR_tI]
theorem cfv_tR {h : HS} {ci a k : Nat} {v : Option Nat} (hk : irt (cty ci k) = true) (j : Nat) : cfv ci (kI (tR h a k v) a) (kR (tR h a k v) a) j = updV (cfv ci (kI h a) (kR h a)) k (va_rf v) j := by
  unfold updV cfv
  by_cases e : j = k
  · subst e; simp [hk, kR_tR]
  · simp [e, kR_tR, kI_tR]
section CRO
variable {p : Program} {l : Launch} {e : Env} {R : Room} {s : State} {m : MethodId} {args : Array Value} {below : List Frame} {meth : Method} {c : Code} {H : Heap} {locs : List Loc} {cells slots : Nat} {Q : State → Prop}
variable {cc : ByteArray} {pc nL : Nat} {ls : Array Slot} {rest : List Value} {D : va_G} {h0 h h' : HS} {own : String}
theorem HI.cell {a ci : Nat} (hX : CX D (kG h0) s) (hM : HI D h0 h s.heap H locs cells slots) (hc : ci < 21) (ht : kT h a = ci + 1) : ∃ cellB : Cell, H[a]? = some cellB ∧ cellB.vm.isStatics = false ∧ s.vm.findClass (cN ci) = some cellB.cls := by
  obtain ⟨cell, q1, q2, q3, -⟩ := (hM.1.2 a).1 ci hc ht
  obtain ⟨-, hfc, -⟩ := hX.1.1 ci _ (cfacts ci hc).1
  exact ⟨cell, q1, by rw [q3]; rfl, by rw [q2]; exact hfc⟩
/-- a field read: what the row of the machine asks -/
theorem cget0 (hts : ∀ w ∈ lw_all, w.before args s = true) (hX : CX D (kG h0) s) (hM : HI D h0 h s.heap H locs cells slots) {a t1 t2 k : Nat} {dcl name desc : String} {rf : Bool} (hk : t1 ≤ kT h a ∧ kT h a ≤ t2) (hf : cchk t1 t2 k dcl name desc rf = true) :
    ∃ (cf fi : Nat) (kf : Class) (f : Field) (cell : Cell), s.fieldFound? dcl name desc = some (cf, kf, fi, f) ∧ f.isStatic = false ∧ H[a]? = some cell ∧ cell.vm ≠ .unknown ∧ cell.slots[f.slot]? = some (if rf = true then va_rf (kR h a k) else .int (kI h a k)) := by
  obtain ⟨b1, b2, b3, b4, b5, b6, b7⟩ := cchk_at hf hk.1 hk.2
  have hc : kT h a - 1 < 21 := by omega
  obtain ⟨f1, f2, f3, f4⟩ := cfacts _ hc
  obtain ⟨cell, q1, q2, q3, q4⟩ := (hM.1.2 a).1 _ hc (by omega)
  obtain ⟨hS, hfc, kC, hkC, hkind⟩ := hX.1.1 _ _ f1
  obtain ⟨cf, kf, fi, f, hi, hsl⟩ := hS k b3
  have hst := (u_facts hfc hkC (u_lays hts f2 b3) hi).1
  rw [b4, b5, b6] at hi
  refine ⟨cf, fi, kf, f, cell, hi, hst, q1, (by rw [q3]; exact fun h => (by cases h)), ?_⟩
  rw [hsl, q4 k b3]
  unfold cfv
  rw [b7]
theorem cgi (S : CallFix p m c cc nL s args lw_all own) (hX : CX D (kG h0) s) (hM : HI D h0 h s.heap H locs cells slots) {a t1 t2 k index : Nat} {dcl ref name desc : String} {v : Int32} (hv : oI h a t1 t2 k = some v) (hf : cchk t1 t2 k dcl name desc false = true) (hlink : Cond.fieldLink own index ref name desc ∈ lw_all) (hsame : ∀ x, s.fieldFound? dcl name desc = some x → s.fieldFound? ref name desc = some x) (hdg : decode cc pc = .ok (.getfield index, 3))
    (kk : W p l e R s m args below meth c H locs cells slots Q (F0 m (pc + 3) ls (.int v :: rest))) : W p l e R s m args below meth c H locs cells slots Q (F0 m pc ls (.ref a :: rest)) := by
  obtain ⟨hk, rfl⟩ := oIe hv
  obtain ⟨cf, fi, kf, f, cell, g1, g2, g3, g4, g5⟩ := cget0 S.2.2.2.2 hX hM hk hf
  exact W.getf S.1 S.2.1 S.2.2.2.1 (S.2.2.2.2 _ hlink) (hsame _ g1) g2 g3 g4 g5 rfl rfl hdg kk
theorem cgiN (S : CallFix p m c cc nL s args lw_all own) (hX : CX D (kG h0) s) (hM : HI D h0 h s.heap H locs cells slots) {a t1 t2 k index : Nat} {name desc ref host : String} {v : Int32} (hv : oI h a t1 t2 k = some v) (hf : cchk t1 t2 k ref name desc false = true) (hlink : (Cond.fieldLinkNest own index ref name desc host).before args s = true) (hdg : decode cc pc = .ok (.getfield index, 3))
    (kk : W p l e R s m args below meth c H locs cells slots Q (F0 m (pc + 3) ls (.int v :: rest))) : W p l e R s m args below meth c H locs cells slots Q (F0 m pc ls (.ref a :: rest)) := by
  obtain ⟨hk, rfl⟩ := oIe hv
  obtain ⟨cf, fi, kf, f, cell, g1, g2, g3, g4, g5⟩ := cget0 S.2.2.2.2 hX hM hk hf
  exact va_Wgetf S.1 S.2.1 S.2.2.2.1 hlink g1 g2 g3 g4 g5 rfl rfl hdg kk
theorem cgr (S : CallFix p m c cc nL s args lw_all own) (hX : CX D (kG h0) s) (hM : HI D h0 h s.heap H locs cells slots) {a t1 t2 k index : Nat} {dcl ref name desc : String} {v : Option Nat} (hv : oR h a t1 t2 k = some v) (hf : cchk t1 t2 k dcl name desc true = true) (hlink : Cond.fieldLink own index ref name desc ∈ lw_all) (hsame : ∀ x, s.fieldFound? dcl name desc = some x → s.fieldFound? ref name desc = some x) (hdg : decode cc pc = .ok (.getfield index, 3))
    (kk : W p l e R s m args below meth c H locs cells slots Q (F0 m (pc + 3) ls (va_rf v :: rest))) : W p l e R s m args below meth c H locs cells slots Q (F0 m pc ls (.ref a :: rest)) := by
  obtain ⟨hk, rfl⟩ := oRe hv
  obtain ⟨cf, fi, kf, f, cell, g1, g2, g3, g4, g5⟩ := cget0 S.2.2.2.2 hX hM hk hf
  exact W.getf S.1 S.2.1 S.2.2.2.1 (S.2.2.2.2 _ hlink) (hsame _ g1) g2 g3 g4 g5 rfl rfl hdg kk
theorem cgrN (S : CallFix p m c cc nL s args lw_all own) (hX : CX D (kG h0) s) (hM : HI D h0 h s.heap H locs cells slots) {a t1 t2 k index : Nat} {name desc ref host : String} {v : Option Nat} (hv : oR h a t1 t2 k = some v) (hf : cchk t1 t2 k ref name desc true = true) (hlink : (Cond.fieldLinkNest own index ref name desc host).before args s = true) (hdg : decode cc pc = .ok (.getfield index, 3))
    (kk : W p l e R s m args below meth c H locs cells slots Q (F0 m (pc + 3) ls (va_rf v :: rest))) : W p l e R s m args below meth c H locs cells slots Q (F0 m pc ls (.ref a :: rest)) := by
  obtain ⟨hk, rfl⟩ := oRe hv
  obtain ⟨cf, fi, kf, f, cell, g1, g2, g3, g4, g5⟩ := cget0 S.2.2.2.2 hX hM hk hf
  exact va_Wgetf S.1 S.2.1 S.2.2.2.1 hlink g1 g2 g3 g4 g5 rfl rfl hdg kk
theorem fR_oR {a t1 t2 k v : Nat} (hv : fR h a t1 t2 k = some v) : oR h a t1 t2 k = some (some v) := by
  obtain ⟨h1, h2⟩ := fRe hv
  unfold oR; rw [if_pos h1, h2]
theorem cgn (S : CallFix p m c cc nL s args lw_all own) (hX : CX D (kG h0) s) (hM : HI D h0 h s.heap H locs cells slots) {a t1 t2 k index v : Nat} {dcl ref name desc : String} (hv : fR h a t1 t2 k = some v) (hf : cchk t1 t2 k dcl name desc true = true) (hlink : Cond.fieldLink own index ref name desc ∈ lw_all) (hsame : ∀ x, s.fieldFound? dcl name desc = some x → s.fieldFound? ref name desc = some x) (hdg : decode cc pc = .ok (.getfield index, 3))
    (kk : W p l e R s m args below meth c H locs cells slots Q (F0 m (pc + 3) ls (.ref v :: rest))) : W p l e R s m args below meth c H locs cells slots Q (F0 m pc ls (.ref a :: rest)) := cgr S hX hM (fR_oR hv) hf hlink hsame hdg kk
theorem cgnN (S : CallFix p m c cc nL s args lw_all own) (hX : CX D (kG h0) s) (hM : HI D h0 h s.heap H locs cells slots) {a t1 t2 k index v : Nat} {name desc ref host : String} (hv : fR h a t1 t2 k = some v) (hf : cchk t1 t2 k ref name desc true = true) (hlink : (Cond.fieldLinkNest own index ref name desc host).before args s = true) (hdg : decode cc pc = .ok (.getfield index, 3))
    (kk : W p l e R s m args below meth c H locs cells slots Q (F0 m (pc + 3) ls (.ref v :: rest))) : W p l e R s m args below meth c H locs cells slots Q (F0 m pc ls (.ref a :: rest)) := cgrN S hX hM (fR_oR hv) hf hlink hdg kk
/-- a field written: the facts, and the heap behind it -/
theorem cput0 (hts : ∀ w ∈ lw_all, w.before args s = true) (hX : CX D (kG h0) s) (hM : HI D h0 h s.heap H locs cells slots) {a t1 t2 k : Nat} {dcl name desc : String} {rf fin : Bool} {ty : FieldType} {v : Value} (hk : (t1 ≤ kT h a ∧ kT h a ≤ t2) ∧ kG h 0 ≤ a) (hf : cchk t1 t2 k dcl name desc rf = true) (hw : cchw t1 t2 k ty fin = true) (hn : narrow ty v = v) (hfit : fits ty v = true)
    (hG : kG h' = kG h) (hz : kZ h' = kZ h) (hwz : kW h' = kW h) (hT : ∀ x, kT h' x = kT h x) (hN : ∀ x, kN h' x = kN h x) (hI : ∀ x, x ≠ a → kI h' x = kI h x) (hR : ∀ x, x ≠ a → kR h' x = kR h x) (hv : ∀ ci, irt (cty ci k) = rf → ∀ j, cfv ci (kI h' a) (kR h' a) j = updV (cfv ci (kI h a) (kR h a)) k v j) :
    ∃ (cf fi : Nat) (kf : Class) (f : Field) (cell : Cell), s.fieldFound? dcl name desc = some (cf, kf, fi, f) ∧ f.isStatic = false ∧ H[a]? = some cell ∧ cell.vm = .none ∧ f.slot < cell.slots.size ∧ (narrow f.type v = v ∧ s.fitsSlot cell.cls .none f.slot v = true) ∧ (fin = false → k2_Sd s f cell.cls v) ∧ (fin = true → s.vm.findClass dcl = some cf) ∧
      ∀ (H' : Heap), H'[a]? = some (cell.setSlot f.slot v) → H'.size = H.size → (∀ q : Nat, q ≠ a → H'[q]? = H[q]?) → HI D h0 h' s.heap H' (locs ++ [⟨a, f.slot⟩]) cells slots := by
  obtain ⟨b1, b2, b3, b4, b5, b6, b7⟩ := cchk_at hf hk.1.1 hk.1.2
  obtain ⟨d1, d2⟩ := cchw_at hw hk.1.1 hk.1.2
  have hc : kT h a - 1 < 21 := by omega
  obtain ⟨f1, f2, f3, f4⟩ := cfacts _ hc
  have hap := va_apart (own := "") (D := D) (cl := cCl) (tys := cTy D) hts f2 (cty (kT h a - 1)) f3 f4 hX.1 f1
  obtain ⟨cell, q1, q2, q3, q4⟩ := (hM.1.2 a).1 _ hc (by omega)
  obtain ⟨hS, hfc, kC, hkC, hkind⟩ := hX.1.1 _ _ f1
  obtain ⟨cf, kf, fi, f, hi, hsl⟩ := hS k b3
  have hst := (u_facts hfc hkC (u_lays hts f2 b3) hi).1
  have hlay := hts _ (f2 _ (u_in_lay b3))
  have hd : parseFieldDescriptor (cT (kT h a - 1) k).2.2.1 = some ty := by rw [f3 k b3, d1]
  have hfit9 := u_fits hfc hkC hkind (u_lays hts f2 b3) hi hd hn hfit
  have hsd : fin = false → k2_Sd s f cell.cls v := fun e => by
    unfold u_lay at hlay
    rw [if_neg (by rw [d2, e]; decide)] at hlay
    rw [q2]
    exact u_store hfc hkC hkind hlay hi hd hn hfit
  have hcf : fin = true → s.vm.findClass dcl = some cf := fun e => by
    unfold u_lay at hlay
    rw [if_pos (by rw [d2, e])] at hlay
    obtain ⟨_, _, c', _, _, _, -, -, hf', -, -, -, hown2, -⟩ := Cond.laysFinal_spec hlay
    have e1 : c' = cf := by have := hi.symm.trans hf'; simp at this; exact this.1.symm
    rw [← e1, ← b4]; exact hown2
  rw [b4, b5, b6] at hi
  refine ⟨cf, fi, kf, f, cell, hi, hst, q1, q3, by rw [hsl]; exact k2_hasslot (q4 k b3), by rw [q2]; exact hfit9, hsd, hcf, fun H' e1 e2 e3 => ?_⟩
  refine HI_upd hM (HP_upd (a := a) hM.1 hz hT hN hI hR e2 e3 ⟨fun ci hci ht => ?_, fun t g1 g2 ht => ?_, fun t g1 g2 ht => ?_, fun ht c9 e9 => ?_, fun ht => (by rw [hT] at ht; omega)⟩) hG hz hwz e3 hk.2 hT (by omega)
  · rw [hT] at ht
    have e9 : ci = kT h a - 1 := by omega
    subst e9
    rw [hsl] at e1
    exact t_OB.to (V := updV (cfv (kT h a - 1) (kI h a) (kR h a)) k v) ⟨_, e1, q2, q3, t_set q4 hap b3 v⟩ (fun j _ => (hv _ b7 j).symm)
  · rw [hT] at ht; omega
  · rw [hT] at ht; omega
  · rw [hT] at ht
    rw [e1] at e9; cases e9
    exact (hM.1.2 a).2.2.2.2.1 ht cell q1
theorem tI_ne (h : HS) (a k : Nat) (v : Int32) : (∀ x, x ≠ a → kI (tI h a k v) x = kI h x) ∧ ∀ x, x ≠ a → kR (tI h a k v) x = kR h x := ⟨fun x hx => by funext j; simp [kI_tI, hx], fun x _ => rfl⟩
theorem tR_ne (h : HS) (a k : Nat) (v : Option Nat) : (∀ x, x ≠ a → kI (tR h a k v) x = kI h x) ∧ ∀ x, x ≠ a → kR (tR h a k v) x = kR h x := ⟨fun x _ => rfl, fun x hx => by funext j; simp [kR_tR, hx]⟩
theorem cpi (S : CallFix p m c cc nL s args lw_all own) (hX : CX D (kG h0) s) (hM : HI D h0 h s.heap H locs cells slots) {a t1 t2 k index : Nat} {dcl ref name desc : String} {v : Int32} (hv : pI h a t1 t2 k v = some h') (hf : cchk t1 t2 k dcl name desc false = true) {ty : FieldType} (hw : cchw t1 t2 k ty false = true) (hn : narrow ty (.int v) = .int v) (hfit : fits ty (.int v) = true) (hlink : Cond.fieldLink own index ref name desc ∈ lw_all) (hsame : ∀ x, s.fieldFound? dcl name desc = some x → s.fieldFound? ref name desc = some x) (hdg : decode cc pc = .ok (.putfield index, 3))
    (kk : ∀ (H1 : Heap) (locs1 : List Loc), HI D h0 h' s.heap H1 locs1 cells slots → W p l e R s m args below meth c H1 locs1 cells slots Q (F0 m (pc + 3) ls rest)) : W p l e R s m args below meth c H locs cells slots Q (F0 m pc ls (.int v :: .ref a :: rest)) := by
  obtain ⟨hk, rfl⟩ := pIe hv
  obtain ⟨cf, fi, kf, f, cell, g1, g2, g3, g4, g5, -, g6, -, g7⟩ := cput0 (h' := tI h a k v) S.2.2.2.2 hX hM hk hf hw hn hfit rfl rfl rfl (fun _ => rfl) (fun _ => rfl) (tI_ne h a k v).1 (tI_ne h a k v).2 (fun ci hc j => cfv_tI hc j)
  exact W.putK S.1 S.2.1 (f := f) ⟨S.2.2.2.1, S.2.2.2.2 _ hlink, ⟨_, _, _, hsame _ g1⟩, g2⟩ (g6 rfl) g3 g4 g5 rfl rfl hdg fun H' e1 e2 e3 => kk H' _ (g7 H' e1 e2 e3)
theorem cpiN (S : CallFix p m c cc nL s args lw_all own) (hX : CX D (kG h0) s) (hM : HI D h0 h s.heap H locs cells slots) {a t1 t2 k index : Nat} {ref name desc host : String} {v : Int32} (hv : pI h a t1 t2 k v = some h') (hf : cchk t1 t2 k ref name desc false = true) {ty : FieldType} (hw : cchw t1 t2 k ty false = true) (hn : narrow ty (.int v) = .int v) (hfit : fits ty (.int v) = true) (hlink : (Cond.fieldLinkNest own index ref name desc host).before args s = true) (hdg : decode cc pc = .ok (.putfield index, 3))
    (kk : ∀ (H1 : Heap) (locs1 : List Loc), HI D h0 h' s.heap H1 locs1 cells slots → W p l e R s m args below meth c H1 locs1 cells slots Q (F0 m (pc + 3) ls rest)) : W p l e R s m args below meth c H locs cells slots Q (F0 m pc ls (.int v :: .ref a :: rest)) := by
  obtain ⟨hk, rfl⟩ := pIe hv
  obtain ⟨cf, fi, kf, f, cell, g1, g2, g3, g4, g5, -, g6, -, g7⟩ := cput0 (h' := tI h a k v) S.2.2.2.2 hX hM hk hf hw hn hfit rfl rfl rfl (fun _ => rfl) (fun _ => rfl) (tI_ne h a k v).1 (tI_ne h a k v).2 (fun ci hc j => cfv_tI hc j)
  exact va_WputK S.1 S.2.1 (f := f) S.2.2.2.1 hlink g1 g2 (g6 rfl) g3 g4 g5 rfl rfl hdg fun H' e1 e2 e3 => kk H' _ (g7 H' e1 e2 e3)
theorem cpiF (S : CallFix p m c cc nL s args lw_all own) (hX : CX D (kG h0) s) (hM : HI D h0 h s.heap H locs cells slots) {a t1 t2 k index : Nat} {name desc : String} {v : Int32} (hv : pI h a t1 t2 k v = some h') (hf : cchk t1 t2 k own name desc false = true) {ty : FieldType} (hw : cchw t1 t2 k ty true = true) (hn : narrow ty (.int v) = .int v) (hfit : fits ty (.int v) = true) (hlink : Cond.fieldLink own index own name desc ∈ lw_all) (hin : meth.name = "<init>") (hdg : decode cc pc = .ok (.putfield index, 3))
    (kk : ∀ (H1 : Heap) (locs1 : List Loc), HI D h0 h' s.heap H1 locs1 cells slots → W p l e R s m args below meth c H1 locs1 cells slots Q (F0 m (pc + 3) ls rest)) : W p l e R s m args below meth c H locs cells slots Q (F0 m pc ls (.int v :: .ref a :: rest)) := by
  obtain ⟨hk, rfl⟩ := pIe hv
  obtain ⟨cf, fi, kf, f, cell, g1, g2, g3, g4, g5, gf, -, g6, g7⟩ := cput0 (h' := tI h a k v) S.2.2.2.2 hX hM hk hf hw hn hfit rfl rfl rfl (fun _ => rfl) (fun _ => rfl) (tI_ne h a k v).1 (tI_ne h a k v).2 (fun ci hc j => cfv_tI hc j)
  exact W.putFinK S.1 S.2.1 S.2.2.2.1 (S.2.2.2.2 _ hlink) g1 g2 (Option.some.inj (S.2.2.2.1.symm.trans (g6 rfl))) hin gf g3 g4 g5 rfl rfl hdg fun H' e1 e2 e3 => kk H' _ (g7 H' e1 e2 e3)
theorem rf_n (ty : FieldType) (h : irt ty = true) (v : Option Nat) : narrow ty (va_rf v) = va_rf v ∧ fits ty (va_rf v) = true := by
  cases ty <;> simp [irt] at h <;> cases v <;> exact ⟨rfl, rfl⟩
theorem cpr (S : CallFix p m c cc nL s args lw_all own) (hX : CX D (kG h0) s) (hM : HI D h0 h s.heap H locs cells slots) {a t1 t2 k index : Nat} {dcl ref name desc : String} {v : Option Nat} (hv : pR h a t1 t2 k v = some h') (hf : cchk t1 t2 k dcl name desc true = true) {ty : FieldType} (hw : cchw t1 t2 k ty false = true) (hty : irt ty = true) (hlink : Cond.fieldLink own index ref name desc ∈ lw_all) (hsame : ∀ x, s.fieldFound? dcl name desc = some x → s.fieldFound? ref name desc = some x) (hdg : decode cc pc = .ok (.putfield index, 3))
    (kk : ∀ (H1 : Heap) (locs1 : List Loc), HI D h0 h' s.heap H1 locs1 cells slots → W p l e R s m args below meth c H1 locs1 cells slots Q (F0 m (pc + 3) ls rest)) : W p l e R s m args below meth c H locs cells slots Q (F0 m pc ls (va_rf v :: .ref a :: rest)) := by
  obtain ⟨hk, rfl⟩ := pRe hv
  obtain ⟨cf, fi, kf, f, cell, g1, g2, g3, g4, g5, -, g6, -, g7⟩ := cput0 (h' := tR h a k v) S.2.2.2.2 hX hM hk hf hw (rf_n ty hty v).1 (rf_n ty hty v).2 rfl rfl rfl (fun _ => rfl) (fun _ => rfl) (tR_ne h a k v).1 (tR_ne h a k v).2 (fun ci hc j => cfv_tR hc j)
  exact W.putK S.1 S.2.1 (f := f) ⟨S.2.2.2.1, S.2.2.2.2 _ hlink, ⟨_, _, _, hsame _ g1⟩, g2⟩ (g6 rfl) g3 g4 g5 rfl rfl hdg fun H' e1 e2 e3 => kk H' _ (g7 H' e1 e2 e3)
theorem cprN (S : CallFix p m c cc nL s args lw_all own) (hX : CX D (kG h0) s) (hM : HI D h0 h s.heap H locs cells slots) {a t1 t2 k index : Nat} {ref name desc host : String} {v : Option Nat} (hv : pR h a t1 t2 k v = some h') (hf : cchk t1 t2 k ref name desc true = true) {ty : FieldType} (hw : cchw t1 t2 k ty false = true) (hty : irt ty = true) (hlink : (Cond.fieldLinkNest own index ref name desc host).before args s = true) (hdg : decode cc pc = .ok (.putfield index, 3))
    (kk : ∀ (H1 : Heap) (locs1 : List Loc), HI D h0 h' s.heap H1 locs1 cells slots → W p l e R s m args below meth c H1 locs1 cells slots Q (F0 m (pc + 3) ls rest)) : W p l e R s m args below meth c H locs cells slots Q (F0 m pc ls (va_rf v :: .ref a :: rest)) := by
  obtain ⟨hk, rfl⟩ := pRe hv
  obtain ⟨cf, fi, kf, f, cell, g1, g2, g3, g4, g5, -, g6, -, g7⟩ := cput0 (h' := tR h a k v) S.2.2.2.2 hX hM hk hf hw (rf_n ty hty v).1 (rf_n ty hty v).2 rfl rfl rfl (fun _ => rfl) (fun _ => rfl) (tR_ne h a k v).1 (tR_ne h a k v).2 (fun ci hc j => cfv_tR hc j)
  exact va_WputK S.1 S.2.1 (f := f) S.2.2.2.1 hlink g1 g2 (g6 rfl) g3 g4 g5 rfl rfl hdg fun H' e1 e2 e3 => kk H' _ (g7 H' e1 e2 e3)
theorem cprF (S : CallFix p m c cc nL s args lw_all own) (hX : CX D (kG h0) s) (hM : HI D h0 h s.heap H locs cells slots) {a t1 t2 k index : Nat} {name desc : String} {v : Option Nat} (hv : pR h a t1 t2 k v = some h') (hf : cchk t1 t2 k own name desc true = true) {ty : FieldType} (hw : cchw t1 t2 k ty true = true) (hty : irt ty = true) (hlink : Cond.fieldLink own index own name desc ∈ lw_all) (hin : meth.name = "<init>") (hdg : decode cc pc = .ok (.putfield index, 3))
    (kk : ∀ (H1 : Heap) (locs1 : List Loc), HI D h0 h' s.heap H1 locs1 cells slots → W p l e R s m args below meth c H1 locs1 cells slots Q (F0 m (pc + 3) ls rest)) : W p l e R s m args below meth c H locs cells slots Q (F0 m pc ls (va_rf v :: .ref a :: rest)) := by
  obtain ⟨hk, rfl⟩ := pRe hv
  obtain ⟨cf, fi, kf, f, cell, g1, g2, g3, g4, g5, gf, -, g6, g7⟩ := cput0 (h' := tR h a k v) S.2.2.2.2 hX hM hk hf hw (rf_n ty hty v).1 (rf_n ty hty v).2 rfl rfl rfl (fun _ => rfl) (fun _ => rfl) (tR_ne h a k v).1 (tR_ne h a k v).2 (fun ci hc j => cfv_tR hc j)
  exact W.putFinK S.1 S.2.1 S.2.2.2.1 (S.2.2.2.2 _ hlink) g1 g2 (Option.some.inj (S.2.2.2.1.symm.trans (g6 rfl))) hin gf g3 g4 g5 rfl rfl hdg fun H' e1 e2 e3 => kk H' _ (g7 H' e1 e2 e3)
end CRO
