/-! rows of the component: arrays, new things, ends, throws -/
theorem HP_new {D : va_G} {h : HS} {H H' : Heap} {t n sl : Nat} (hP : HP D h H) (z : H'.size = H.size + 1) (oq : ∀ q : Nat, q < H.size → H'[q]? = H[q]?) (ht : (1 ≤ t ∧ t ≤ 21) ∨ (31 ≤ t ∧ t ≤ 41))
    (ha : (∀ ci, ci < 21 → t = ci + 1 → t_OB H.size (D.1 ci) (cnf ci) (D.2 ci) H' (cfv ci (fun _ => 0) (fun _ => none))) ∧ (∀ u, 31 ≤ u → u ≤ 33 → t = u → H'[H.size]? = some (arrV (D.1 u) n (fun _ => .int 0))) ∧ (∀ u, 34 ≤ u → u ≤ 40 → t = u → H'[H.size]? = some (arrV (D.1 u) n (fun _ => .null))) ∧ (20 ≤ t ∧ t ≤ 21 → ∀ cell, H'[H.size]? = some cell → mFree cell) ∧ (t = 41 → H'[H.size]? = some (arrV (D.1 41) n (fun _ => .long 0)))) : HP D (tA h t n sl) H' := by
  have hz := hP.1
  refine ⟨by rw [z, kZ_tA, hz], fun x => ?_⟩
  by_cases hx : x = kZ h
  · subst hx
    rw [hz] at ha
    have e1 : kI (tA h t n sl) (kZ h) = fun _ => 0 := by funext j; simp [kI_tA]
    have e2 : kR (tA h t n sl) (kZ h) = fun _ => none := by funext j; simp [kR_tA]
    refine ⟨fun ci hc h9 => ?_, fun u b1 b2 h9 => ?_, fun u b1 b2 h9 => ?_, ?_, fun h9 => (by rw [kT_tA, if_pos rfl] at h9; exact ha.2.2.2.1 h9), fun h9 => (by rw [e1, kN_tA, if_pos rfl]; rw [kT_tA, if_pos rfl] at h9; exact ha.2.2.2.2 h9)⟩
    · rw [e1, e2]; rw [kT_tA, if_pos rfl] at h9; exact ha.1 ci hc h9
    · rw [e1, kN_tA, if_pos rfl]; rw [kT_tA, if_pos rfl] at h9; exact ha.2.1 u b1 b2 h9
    · rw [e2, kN_tA, if_pos rfl]; rw [kT_tA, if_pos rfl] at h9; exact ha.2.2.1 u b1 b2 h9
    · rw [kT_tA, if_pos rfl]; omega
  · obtain ⟨h1, h2, h3, h4, h5⟩ := hP.2 x
    have e1 : kI (tA h t n sl) x = kI h x := by funext j; simp [kI_tA, hx]
    have e2 : kR (tA h t n sl) x = kR h x := by funext j; simp [kR_tA, hx]
    have e3 : kT (tA h t n sl) x = kT h x := by simp [kT_tA, hx]
    have e4 : kN (tA h t n sl) x = kN h x := by simp [kN_tA, hx]
    have lt : kT h x ≠ 0 → x < H.size := fun q => by rw [hz]; exact hP.lt q
    refine ⟨fun ci hc h9 => ?_, fun u b1 b2 h9 => ?_, fun u b1 b2 h9 => ?_, by rw [e3]; exact h4, fun h9 => (by rw [e3] at h9; rw [oq x (lt (by omega))]; exact h5.1 h9), fun h9 => (by rw [e3] at h9; rw [e1, e4, oq x (lt (by omega))]; exact h5.2 h9)⟩
    · rw [e3] at h9
      obtain ⟨cell, q, r⟩ := h1 ci hc h9
      rw [e1, e2]
      exact ⟨cell, by rw [oq x (lt (by omega))]; exact q, r⟩
    · rw [e3] at h9
      rw [e1, e4, oq x (lt (by omega))]; exact h2 u b1 b2 h9
    · rw [e3] at h9
      rw [e2, e4, oq x (lt (by omega))]; exact h3 u b1 b2 h9
theorem HI_new {D : va_G} {h0 h : HS} {H0 H H' : Heap} {locs : List Loc} {cells slots t n sl : Nat} (hM : HI D h0 h H0 H locs cells slots) (hr : kZ h + 1 ≤ kG h 1 ∧ kW h + sl ≤ kG h 2) (oq : ∀ q : Nat, q < H.size → H'[q]? = H[q]?) (hP : HP D (tA h t n sl) H') : HI D h0 (tA h t n sl) H0 H' locs (cells + 1) (slots + sl) := by
  obtain ⟨g0, g1, g2, g3, g4, g5, g6, g7, g8⟩ := hM
  rw [g1] at hr
  refine ⟨hP, g1, fun q hq => ?_, g3, by rw [kZ_tA]; omega, by rw [kW_tA]; omega, by rw [kZ_tA]; exact hr.1, by rw [kW_tA]; exact hr.2, g8.1, fun q q1 q2 => ?_⟩
  · rw [oq q (by rw [g0.1]; have := g8.1; omega)]; exact g2 q hq
  · obtain ⟨y1, y2⟩ := g8.2 q q1 q2
    exact ⟨by rw [kT_tA, if_neg (by omega)]; exact y1, by rw [oq q (by rw [g0.1]; omega)]; exact y2⟩
theorem HI_room {D : va_G} {h0 h : HS} {H0 H : Heap} {locs : List Loc} {cells slots sl FR LO : Nat} (hM : HI D h0 h H0 H locs cells slots) (hr : kZ h + 1 ≤ kG h 1 ∧ kW h + sl ≤ kG h 2) : cells + 1 ≤ (cR FR LO h0).cells ∧ slots + sl ≤ (cR FR LO h0).slots := by
  obtain ⟨g0, g1, g2, g3, g4, g5, g6, g7, g8⟩ := hM
  rw [g1] at hr
  constructor
  · show cells + 1 ≤ kG h0 1 - kZ h0; omega
  · show slots + sl ≤ kG h0 2 - kW h0; omega
def cdef (ci : Nat) : Bool := (List.range (cnf ci)).all fun k => irt (cty ci k) || decide (cty ci k = .int) || decide (cty ci k = .boolean) || decide (cty ci k = .byte)
theorem cdef_ok : ∀ ci, ci < 21 → cdef ci = true := by decide +kernel
theorem cdef_at {ci k : Nat} (hc : ci < 21) (hk : k < cnf ci) : defaultValue (cty ci k) = cfv ci (fun _ => 0) (fun _ => none) k := by
  have h := List.all_eq_true.mp (cdef_ok ci hc) k (List.mem_range.mpr hk)
  unfold cfv
  by_cases e : irt (cty ci k) = true
  · rw [if_pos e]
    cases hty : cty ci k <;> rw [hty] at e <;> simp [irt] at e <;> rfl
  · rw [if_neg e]
    simp [e] at h
    rcases h with (h | h) | h <;> rw [h] <;> rfl
/-- what a body that may throw owes at its end -/
def cMQ (below : List Frame) (D : va_G) (h0 h' : HS) (x : Nat ⊕ Option Value) (a : Array Value) (s : State) : State → Prop := fun t => ∃ o, t.status = .running ∧ Ended t below o ∧ cQ D h0 h' x a s o t
section CR2
variable {p : Program} {l : Launch} {e : Env} {R : Room} {s : State} {m : MethodId} {args : Array Value} {below : List Frame} {meth : Method} {c : Code} {H : Heap} {locs : List Loc} {cells slots FR LO : Nat} {Q : State → Prop}
variable {cc : ByteArray} {pc nL : Nat} {ls : Array Slot} {rest : List Value} {D : va_G} {h0 h h' : HS} {own : String}
theorem cai (S : CallFix p m c cc nL s args lw_all own) (hX : CX D (kG h0) s) (hM : HI D h0 h s.heap H locs cells slots) {a : Nat} {i v : Int32} (hv : aI h a 31 i = some v) (hdg : decode cc pc = .ok (.iaload, 1))
    (kk : W p l e R s m args below meth c H locs cells slots Q (F0 m (pc + 1) ls (.int v :: rest))) : W p l e R s m args below meth c H locs cells slots Q (F0 m pc ls (.int i :: .ref a :: rest)) := by
  obtain ⟨⟨ht, hin⟩, rfl⟩ := aIe hv
  have hlt : i.toNatClampNeg < kN h a := Nat.not_le.mp fun q => hin (Or.inr q)
  exact W.iald (v := .int (kI h a i.toNatClampNeg)) S.1 S.2.1 ((hM.1.2 a).2.1 31 (by decide) (by decide) ht) ((hX.1.2 0 _ rfl).1 (kN h a) (fun j => .int (kI h a j))) (fun q => by cases q) (by show ¬ (i < 0 ∨ (arrV _ _ _).slots.size ≤ _); rw [arrV_size]; exact hin) (by show (arrV _ _ _).slots[_]? = _; rw [arrV_read _ _ hlt]) rfl rfl hdg kk
theorem cab (S : CallFix p m c cc nL s args lw_all own) (hX : CX D (kG h0) s) (hM : HI D h0 h s.heap H locs cells slots) {a : Nat} {i v : Int32} (hv : aI h a 32 i = some v) (hdg : decode cc pc = .ok (.baload, 1))
    (kk : W p l e R s m args below meth c H locs cells slots Q (F0 m (pc + 1) ls (.int v :: rest))) : W p l e R s m args below meth c H locs cells slots Q (F0 m pc ls (.int i :: .ref a :: rest)) := by
  obtain ⟨⟨ht, hin⟩, rfl⟩ := aIe hv
  have hlt : i.toNatClampNeg < kN h a := Nat.not_le.mp fun q => hin (Or.inr q)
  exact W.bald (v := .int (kI h a i.toNatClampNeg)) S.1 S.2.1 ((hM.1.2 a).2.1 32 (by decide) (by decide) ht) ((hX.1.2 1 _ rfl).1 (kN h a) (fun j => .int (kI h a j))) (fun q => by cases q) (by show ¬ (i < 0 ∨ (arrV _ _ _).slots.size ≤ _); rw [arrV_size]; exact hin) (by show (arrV _ _ _).slots[_]? = _; rw [arrV_read _ _ hlt]) rfl rfl hdg kk
theorem caz (S : CallFix p m c cc nL s args lw_all own) (hX : CX D (kG h0) s) (hM : HI D h0 h s.heap H locs cells slots) {a : Nat} {i v : Int32} (hv : aI h a 33 i = some v) (hdg : decode cc pc = .ok (.baload, 1))
    (kk : W p l e R s m args below meth c H locs cells slots Q (F0 m (pc + 1) ls (.int v :: rest))) : W p l e R s m args below meth c H locs cells slots Q (F0 m pc ls (.int i :: .ref a :: rest)) := by
  obtain ⟨⟨ht, hin⟩, rfl⟩ := aIe hv
  have hlt : i.toNatClampNeg < kN h a := Nat.not_le.mp fun q => hin (Or.inr q)
  exact W.zald (v := .int (kI h a i.toNatClampNeg)) S.1 S.2.1 ((hM.1.2 a).2.1 33 (by decide) (by decide) ht) ((hX.1.2 2 _ rfl).1 (kN h a) (fun j => .int (kI h a j))) (fun q => by cases q) (by show ¬ (i < 0 ∨ (arrV _ _ _).slots.size ≤ _); rw [arrV_size]; exact hin) (by show (arrV _ _ _).slots[_]? = _; rw [arrV_read _ _ hlt]) rfl rfl hdg kk
theorem cwi (S : CallFix p m c cc nL s args lw_all own) (hX : CX D (kG h0) s) (hM : HI D h0 h s.heap H locs cells slots) {a : Nat} {i x : Int32} (hv : wI h a 31 i x = some h') (hdg : decode cc pc = .ok (.iastore, 1))
    (kk : ∀ (H1 : Heap) (locs1 : List Loc), HI D h0 h' s.heap H1 locs1 cells slots → W p l e R s m args below meth c H1 locs1 cells slots Q (F0 m (pc + 1) ls rest)) : W p l e R s m args below meth c H locs cells slots Q (F0 m pc ls (.int x :: .int i :: .ref a :: rest)) := by
  obtain ⟨⟨⟨ht, hin⟩, hb0⟩, rfl⟩ := wIe hv
  refine W.iast S.1 S.2.1 ((hM.1.2 a).2.1 31 (by decide) (by decide) ht) ((hX.1.2 0 _ rfl).1 (kN h a) (fun j => .int (kI h a j))) (fun q => by cases q) (by show ¬ (i < 0 ∨ (arrV _ _ _).slots.size ≤ _); rw [arrV_size]; exact hin) rfl rfl hdg fun H1 e z oq => ?_
  refine kk H1 _ (HI_upd hM (HP_upd (a := a) hM.1 rfl (fun _ => rfl) (fun _ => rfl) (tI_ne h a _ _).1 (tI_ne h a _ _).2 z oq ⟨fun ci hc h9 => ?_, fun t9 b1 b2 h9 => ?_, fun t9 b1 b2 h9 => ?_, fun h9 => (by rw [kT_tI] at h9; omega), fun h9 => (by rw [kT_tI] at h9; omega)⟩) rfl rfl rfl oq hb0 (fun _ => rfl) (by omega))
  · rw [kT_tI] at h9; omega
  · rw [kT_tI] at h9
    have e9 : t9 = 31 := by omega
    subst e9
    rw [e]
    show some ((arrV _ _ _).setSlot _ _) = _
    rw [arrV_store]
    congr 2
    funext q
    by_cases hq : q = i.toNatClampNeg
    · subst hq
      simp [updV, kI_tI, vp_nar]
      try rfl
    · simp [updV, kI_tI, hq]
  · rw [kT_tI] at h9; omega
theorem cwb (S : CallFix p m c cc nL s args lw_all own) (hX : CX D (kG h0) s) (hM : HI D h0 h s.heap H locs cells slots) {a : Nat} {i x : Int32} (hv : wI h a 32 i (vp_nar .byte x) = some h') (hdg : decode cc pc = .ok (.bastore, 1))
    (kk : ∀ (H1 : Heap) (locs1 : List Loc), HI D h0 h' s.heap H1 locs1 cells slots → W p l e R s m args below meth c H1 locs1 cells slots Q (F0 m (pc + 1) ls rest)) : W p l e R s m args below meth c H locs cells slots Q (F0 m pc ls (.int x :: .int i :: .ref a :: rest)) := by
  obtain ⟨⟨⟨ht, hin⟩, hb0⟩, rfl⟩ := wIe hv
  refine W.bast S.1 S.2.1 ((hM.1.2 a).2.1 32 (by decide) (by decide) ht) ((hX.1.2 1 _ rfl).1 (kN h a) (fun j => .int (kI h a j))) (fun q => by cases q) (by show ¬ (i < 0 ∨ (arrV _ _ _).slots.size ≤ _); rw [arrV_size]; exact hin) rfl rfl hdg fun H1 e z oq => ?_
  refine kk H1 _ (HI_upd hM (HP_upd (a := a) hM.1 rfl (fun _ => rfl) (fun _ => rfl) (tI_ne h a _ _).1 (tI_ne h a _ _).2 z oq ⟨fun ci hc h9 => ?_, fun t9 b1 b2 h9 => ?_, fun t9 b1 b2 h9 => ?_, fun h9 => (by rw [kT_tI] at h9; omega), fun h9 => (by rw [kT_tI] at h9; omega)⟩) rfl rfl rfl oq hb0 (fun _ => rfl) (by omega))
  · rw [kT_tI] at h9; omega
  · rw [kT_tI] at h9
    have e9 : t9 = 32 := by omega
    subst e9
    rw [e]
    show some ((arrV _ _ _).setSlot _ _) = _
    rw [arrV_store]
    congr 2
    funext q
    by_cases hq : q = i.toNatClampNeg
    · subst hq
      simp [updV, kI_tI, vp_nar]
      try rfl
    · simp [updV, kI_tI, hq]
  · rw [kT_tI] at h9; omega
theorem cwz (S : CallFix p m c cc nL s args lw_all own) (hX : CX D (kG h0) s) (hM : HI D h0 h s.heap H locs cells slots) {a : Nat} {i x : Int32} (hv : wI h a 33 i (vp_nar .boolean x) = some h') (hdg : decode cc pc = .ok (.bastore, 1))
    (kk : ∀ (H1 : Heap) (locs1 : List Loc), HI D h0 h' s.heap H1 locs1 cells slots → W p l e R s m args below meth c H1 locs1 cells slots Q (F0 m (pc + 1) ls rest)) : W p l e R s m args below meth c H locs cells slots Q (F0 m pc ls (.int x :: .int i :: .ref a :: rest)) := by
  obtain ⟨⟨⟨ht, hin⟩, hb0⟩, rfl⟩ := wIe hv
  refine W.zast S.1 S.2.1 ((hM.1.2 a).2.1 33 (by decide) (by decide) ht) ((hX.1.2 2 _ rfl).1 (kN h a) (fun j => .int (kI h a j))) (fun q => by cases q) (by show ¬ (i < 0 ∨ (arrV _ _ _).slots.size ≤ _); rw [arrV_size]; exact hin) rfl rfl hdg fun H1 e z oq => ?_
  refine kk H1 _ (HI_upd hM (HP_upd (a := a) hM.1 rfl (fun _ => rfl) (fun _ => rfl) (tI_ne h a _ _).1 (tI_ne h a _ _).2 z oq ⟨fun ci hc h9 => ?_, fun t9 b1 b2 h9 => ?_, fun t9 b1 b2 h9 => ?_, fun h9 => (by rw [kT_tI] at h9; omega), fun h9 => (by rw [kT_tI] at h9; omega)⟩) rfl rfl rfl oq hb0 (fun _ => rfl) (by omega))
  · rw [kT_tI] at h9; omega
  · rw [kT_tI] at h9
    have e9 : t9 = 33 := by omega
    subst e9
    rw [e]
    show some ((arrV _ _ _).setSlot _ _) = _
    rw [arrV_store]
    congr 2
    funext q
    by_cases hq : q = i.toNatClampNeg
    · subst hq
      simp [updV, kI_tI, vp_nar]
      try rfl
    · simp [updV, kI_tI, hq]
  · rw [kT_tI] at h9; omega
theorem car34 (S : CallFix p m c cc nL s args lw_all own) (hX : CX D (kG h0) s) (hM : HI D h0 h s.heap H locs cells slots) {a : Nat} {i : Int32} {v : Option Nat} (hv : aR h a 34 i = some v) (hdg : decode cc pc = .ok (.aaload, 1))
    (kk : W p l e R s m args below meth c H locs cells slots Q (F0 m (pc + 1) ls (va_rf v :: rest))) : W p l e R s m args below meth c H locs cells slots Q (F0 m pc ls (.int i :: .ref a :: rest)) := by
  obtain ⟨⟨ht, hin⟩, rfl⟩ := aRe hv
  have hlt : i.toNatClampNeg < kN h a := Nat.not_le.mp fun q => hin (Or.inr q)
  exact W.aald (v := va_rf (kR h a i.toNatClampNeg)) (ty := .array .int) S.1 S.2.1 ((hM.1.2 a).2.2.1 34 (by decide) (by decide) ht) ((hX.1.2 3 _ rfl).1 (kN h a) (fun j => va_rf (kR h a j))) rfl (fun q => by cases q) (by show ¬ (i < 0 ∨ (arrV _ _ _).slots.size ≤ _); rw [arrV_size]; exact hin) (by show (arrV _ _ _).slots[_]? = _; rw [arrV_read _ _ hlt]) rfl rfl hdg kk
theorem can34 (S : CallFix p m c cc nL s args lw_all own) (hX : CX D (kG h0) s) (hM : HI D h0 h s.heap H locs cells slots) {a v : Nat} {i : Int32} (hv : fA h a 34 i = some v) (hdg : decode cc pc = .ok (.aaload, 1))
    (kk : W p l e R s m args below meth c H locs cells slots Q (F0 m (pc + 1) ls (.ref v :: rest))) : W p l e R s m args below meth c H locs cells slots Q (F0 m pc ls (.int i :: .ref a :: rest)) :=
  car34 S hX hM (v := some v) (by obtain ⟨h1, h2⟩ := fAe hv; unfold aR; rw [if_pos h1, h2]) hdg kk
theorem car35 (S : CallFix p m c cc nL s args lw_all own) (hX : CX D (kG h0) s) (hM : HI D h0 h s.heap H locs cells slots) {a : Nat} {i : Int32} {v : Option Nat} (hv : aR h a 35 i = some v) (hdg : decode cc pc = .ok (.aaload, 1))
    (kk : W p l e R s m args below meth c H locs cells slots Q (F0 m (pc + 1) ls (va_rf v :: rest))) : W p l e R s m args below meth c H locs cells slots Q (F0 m pc ls (.int i :: .ref a :: rest)) := by
  obtain ⟨⟨ht, hin⟩, rfl⟩ := aRe hv
  have hlt : i.toNatClampNeg < kN h a := Nat.not_le.mp fun q => hin (Or.inr q)
  exact W.aald (v := va_rf (kR h a i.toNatClampNeg)) (ty := .array (.array .int)) S.1 S.2.1 ((hM.1.2 a).2.2.1 35 (by decide) (by decide) ht) ((hX.1.2 4 _ rfl).1 (kN h a) (fun j => va_rf (kR h a j))) rfl (fun q => by cases q) (by show ¬ (i < 0 ∨ (arrV _ _ _).slots.size ≤ _); rw [arrV_size]; exact hin) (by show (arrV _ _ _).slots[_]? = _; rw [arrV_read _ _ hlt]) rfl rfl hdg kk
theorem can35 (S : CallFix p m c cc nL s args lw_all own) (hX : CX D (kG h0) s) (hM : HI D h0 h s.heap H locs cells slots) {a v : Nat} {i : Int32} (hv : fA h a 35 i = some v) (hdg : decode cc pc = .ok (.aaload, 1))
    (kk : W p l e R s m args below meth c H locs cells slots Q (F0 m (pc + 1) ls (.ref v :: rest))) : W p l e R s m args below meth c H locs cells slots Q (F0 m pc ls (.int i :: .ref a :: rest)) :=
  car35 S hX hM (v := some v) (by obtain ⟨h1, h2⟩ := fAe hv; unfold aR; rw [if_pos h1, h2]) hdg kk
theorem car36 (S : CallFix p m c cc nL s args lw_all own) (hX : CX D (kG h0) s) (hM : HI D h0 h s.heap H locs cells slots) {a : Nat} {i : Int32} {v : Option Nat} (hv : aR h a 36 i = some v) (hdg : decode cc pc = .ok (.aaload, 1))
    (kk : W p l e R s m args below meth c H locs cells slots Q (F0 m (pc + 1) ls (va_rf v :: rest))) : W p l e R s m args below meth c H locs cells slots Q (F0 m pc ls (.int i :: .ref a :: rest)) := by
  obtain ⟨⟨ht, hin⟩, rfl⟩ := aRe hv
  have hlt : i.toNatClampNeg < kN h a := Nat.not_le.mp fun q => hin (Or.inr q)
  exact W.aald (v := va_rf (kR h a i.toNatClampNeg)) (ty := .object "RugReader$Rug") S.1 S.2.1 ((hM.1.2 a).2.2.1 36 (by decide) (by decide) ht) ((hX.1.2 5 _ rfl).1 (kN h a) (fun j => va_rf (kR h a j))) rfl (fun q => by cases q) (by show ¬ (i < 0 ∨ (arrV _ _ _).slots.size ≤ _); rw [arrV_size]; exact hin) (by show (arrV _ _ _).slots[_]? = _; rw [arrV_read _ _ hlt]) rfl rfl hdg kk
theorem can36 (S : CallFix p m c cc nL s args lw_all own) (hX : CX D (kG h0) s) (hM : HI D h0 h s.heap H locs cells slots) {a v : Nat} {i : Int32} (hv : fA h a 36 i = some v) (hdg : decode cc pc = .ok (.aaload, 1))
    (kk : W p l e R s m args below meth c H locs cells slots Q (F0 m (pc + 1) ls (.ref v :: rest))) : W p l e R s m args below meth c H locs cells slots Q (F0 m pc ls (.int i :: .ref a :: rest)) :=
  car36 S hX hM (v := some v) (by obtain ⟨h1, h2⟩ := fAe hv; unfold aR; rw [if_pos h1, h2]) hdg kk
theorem car37 (S : CallFix p m c cc nL s args lw_all own) (hX : CX D (kG h0) s) (hM : HI D h0 h s.heap H locs cells slots) {a : Nat} {i : Int32} {v : Option Nat} (hv : aR h a 37 i = some v) (hdg : decode cc pc = .ok (.aaload, 1))
    (kk : W p l e R s m args below meth c H locs cells slots Q (F0 m (pc + 1) ls (va_rf v :: rest))) : W p l e R s m args below meth c H locs cells slots Q (F0 m pc ls (.int i :: .ref a :: rest)) := by
  obtain ⟨⟨ht, hin⟩, rfl⟩ := aRe hv
  have hlt : i.toNatClampNeg < kN h a := Nat.not_le.mp fun q => hin (Or.inr q)
  exact W.aald (v := va_rf (kR h a i.toNatClampNeg)) (ty := .object "RugReader$Kept") S.1 S.2.1 ((hM.1.2 a).2.2.1 37 (by decide) (by decide) ht) ((hX.1.2 6 _ rfl).1 (kN h a) (fun j => va_rf (kR h a j))) rfl (fun q => by cases q) (by show ¬ (i < 0 ∨ (arrV _ _ _).slots.size ≤ _); rw [arrV_size]; exact hin) (by show (arrV _ _ _).slots[_]? = _; rw [arrV_read _ _ hlt]) rfl rfl hdg kk
theorem can37 (S : CallFix p m c cc nL s args lw_all own) (hX : CX D (kG h0) s) (hM : HI D h0 h s.heap H locs cells slots) {a v : Nat} {i : Int32} (hv : fA h a 37 i = some v) (hdg : decode cc pc = .ok (.aaload, 1))
    (kk : W p l e R s m args below meth c H locs cells slots Q (F0 m (pc + 1) ls (.ref v :: rest))) : W p l e R s m args below meth c H locs cells slots Q (F0 m pc ls (.int i :: .ref a :: rest)) :=
  car37 S hX hM (v := some v) (by obtain ⟨h1, h2⟩ := fAe hv; unfold aR; rw [if_pos h1, h2]) hdg kk
theorem car38 (S : CallFix p m c cc nL s args lw_all own) (hX : CX D (kG h0) s) (hM : HI D h0 h s.heap H locs cells slots) {a : Nat} {i : Int32} {v : Option Nat} (hv : aR h a 38 i = some v) (hdg : decode cc pc = .ok (.aaload, 1))
    (kk : W p l e R s m args below meth c H locs cells slots Q (F0 m (pc + 1) ls (va_rf v :: rest))) : W p l e R s m args below meth c H locs cells slots Q (F0 m pc ls (.int i :: .ref a :: rest)) := by
  obtain ⟨⟨ht, hin⟩, rfl⟩ := aRe hv
  have hlt : i.toNatClampNeg < kN h a := Nat.not_le.mp fun q => hin (Or.inr q)
  exact W.aald (v := va_rf (kR h a i.toNatClampNeg)) (ty := .array .boolean) S.1 S.2.1 ((hM.1.2 a).2.2.1 38 (by decide) (by decide) ht) ((hX.1.2 7 _ rfl).1 (kN h a) (fun j => va_rf (kR h a j))) rfl (fun q => by cases q) (by show ¬ (i < 0 ∨ (arrV _ _ _).slots.size ≤ _); rw [arrV_size]; exact hin) (by show (arrV _ _ _).slots[_]? = _; rw [arrV_read _ _ hlt]) rfl rfl hdg kk
theorem can38 (S : CallFix p m c cc nL s args lw_all own) (hX : CX D (kG h0) s) (hM : HI D h0 h s.heap H locs cells slots) {a v : Nat} {i : Int32} (hv : fA h a 38 i = some v) (hdg : decode cc pc = .ok (.aaload, 1))
    (kk : W p l e R s m args below meth c H locs cells slots Q (F0 m (pc + 1) ls (.ref v :: rest))) : W p l e R s m args below meth c H locs cells slots Q (F0 m pc ls (.int i :: .ref a :: rest)) :=
  car38 S hX hM (v := some v) (by obtain ⟨h1, h2⟩ := fAe hv; unfold aR; rw [if_pos h1, h2]) hdg kk
theorem car39 (S : CallFix p m c cc nL s args lw_all own) (hX : CX D (kG h0) s) (hM : HI D h0 h s.heap H locs cells slots) {a : Nat} {i : Int32} {v : Option Nat} (hv : aR h a 39 i = some v) (hdg : decode cc pc = .ok (.aaload, 1))
    (kk : W p l e R s m args below meth c H locs cells slots Q (F0 m (pc + 1) ls (va_rf v :: rest))) : W p l e R s m args below meth c H locs cells slots Q (F0 m pc ls (.int i :: .ref a :: rest)) := by
  obtain ⟨⟨ht, hin⟩, rfl⟩ := aRe hv
  have hlt : i.toNatClampNeg < kN h a := Nat.not_le.mp fun q => hin (Or.inr q)
  exact W.aald (v := va_rf (kR h a i.toNatClampNeg)) (ty := .object "java/lang/Object") S.1 S.2.1 ((hM.1.2 a).2.2.1 39 (by decide) (by decide) ht) ((hX.1.2 8 _ rfl).1 (kN h a) (fun j => va_rf (kR h a j))) rfl (fun q => by cases q) (by show ¬ (i < 0 ∨ (arrV _ _ _).slots.size ≤ _); rw [arrV_size]; exact hin) (by show (arrV _ _ _).slots[_]? = _; rw [arrV_read _ _ hlt]) rfl rfl hdg kk
theorem can39 (S : CallFix p m c cc nL s args lw_all own) (hX : CX D (kG h0) s) (hM : HI D h0 h s.heap H locs cells slots) {a v : Nat} {i : Int32} (hv : fA h a 39 i = some v) (hdg : decode cc pc = .ok (.aaload, 1))
    (kk : W p l e R s m args below meth c H locs cells slots Q (F0 m (pc + 1) ls (.ref v :: rest))) : W p l e R s m args below meth c H locs cells slots Q (F0 m pc ls (.int i :: .ref a :: rest)) :=
  car39 S hX hM (v := some v) (by obtain ⟨h1, h2⟩ := fAe hv; unfold aR; rw [if_pos h1, h2]) hdg kk
theorem car40 (S : CallFix p m c cc nL s args lw_all own) (hX : CX D (kG h0) s) (hM : HI D h0 h s.heap H locs cells slots) {a : Nat} {i : Int32} {v : Option Nat} (hv : aR h a 40 i = some v) (hdg : decode cc pc = .ok (.aaload, 1))
    (kk : W p l e R s m args below meth c H locs cells slots Q (F0 m (pc + 1) ls (va_rf v :: rest))) : W p l e R s m args below meth c H locs cells slots Q (F0 m pc ls (.int i :: .ref a :: rest)) := by
  obtain ⟨⟨ht, hin⟩, rfl⟩ := aRe hv
  have hlt : i.toNatClampNeg < kN h a := Nat.not_le.mp fun q => hin (Or.inr q)
  exact W.aald (v := va_rf (kR h a i.toNatClampNeg)) (ty := .object "java/lang/Integer") S.1 S.2.1 ((hM.1.2 a).2.2.1 40 (by decide) (by decide) ht) ((hX.1.2 9 _ rfl).1 (kN h a) (fun j => va_rf (kR h a j))) rfl (fun q => by cases q) (by show ¬ (i < 0 ∨ (arrV _ _ _).slots.size ≤ _); rw [arrV_size]; exact hin) (by show (arrV _ _ _).slots[_]? = _; rw [arrV_read _ _ hlt]) rfl rfl hdg kk
theorem can40 (S : CallFix p m c cc nL s args lw_all own) (hX : CX D (kG h0) s) (hM : HI D h0 h s.heap H locs cells slots) {a v : Nat} {i : Int32} (hv : fA h a 40 i = some v) (hdg : decode cc pc = .ok (.aaload, 1))
    (kk : W p l e R s m args below meth c H locs cells slots Q (F0 m (pc + 1) ls (.ref v :: rest))) : W p l e R s m args below meth c H locs cells slots Q (F0 m pc ls (.int i :: .ref a :: rest)) :=
  car40 S hX hM (v := some v) (by obtain ⟨h1, h2⟩ := fAe hv; unfold aR; rw [if_pos h1, h2]) hdg kk
theorem cwr_end {a t v i : Nat} {H1 : Heap} (hM : HI D h0 h s.heap H locs cells slots) (ht : kT h a = t) (h34 : 34 ≤ t) (h40 : t ≤ 40) (hb0 : kG h 0 ≤ a) (e : H1[a]? = some ((arrV (D.1 t) (kN h a) (fun j => va_rf (kR h a j))).setSlot i (.ref v))) (z : H1.size = H.size) (oq : ∀ q : Nat, q ≠ a → H1[q]? = H[q]?) : HI D h0 (tR h a i (some v)) s.heap H1 (locs ++ [⟨a, i⟩]) cells slots := by
  refine HI_upd hM (HP_upd (a := a) hM.1 rfl (fun _ => rfl) (fun _ => rfl) (tR_ne h a _ _).1 (tR_ne h a _ _).2 z oq ⟨fun ci hc h9 => ?_, fun t9 b1 b2 h9 => ?_, fun t9 b1 b2 h9 => ?_, fun h9 => (by rw [kT_tR] at h9; omega), fun h9 => (by rw [kT_tR] at h9; omega)⟩) rfl rfl rfl oq hb0 (fun _ => rfl) (by omega)
  · rw [kT_tR] at h9; omega
  · rw [kT_tR] at h9; omega
  · rw [kT_tR] at h9
    have e9 : t9 = t := by omega
    subst e9
    rw [e, arrV_store]
    congr 2
    funext q
    by_cases hq : q = i
    · subst hq
      simp [updV, kR_tR]
      rfl
    · simp [updV, kR_tR, hq]
theorem cwr36 (S : CallFix p m c cc nL s args lw_all own) (hX : CX D (kG h0) s) (hM : HI D h0 h s.heap H locs cells slots) {a v : Nat} {i : Int32} (hv : wR h a 36 i (some v) = some h') (hdg : decode cc pc = .ok (.aastore, 1))
    (kk : ∀ (H1 : Heap) (locs1 : List Loc), HI D h0 h' s.heap H1 locs1 cells slots → W p l e R s m args below meth c H1 locs1 cells slots Q (F0 m (pc + 1) ls rest)) : W p l e R s m args below meth c H locs cells slots Q (F0 m pc ls (.ref v :: .int i :: .ref a :: rest)) := by
  obtain ⟨⟨⟨⟨ht, hin⟩, hb0⟩, hok⟩, rfl⟩ := wRe hv
  have hlt : i.toNatClampNeg < kN h a := Nat.not_le.mp fun q => hin (Or.inr q)
  have hi0 : ¬ i < 0 := fun q => hin (Or.inl q)
  have hvt : kT h v = 3 := by simpa [wOk] using hok
  obtain ⟨cellV, g1, g2, g3, -⟩ := (hM.1.2 v).1 2 (by decide) hvt
  have hcls := (hX.1.1 2 _ rfl).2
  obtain ⟨kA, comp, k1, k2, k3, -⟩ := (hX.1.2 5 _ rfl).2
  have hcomp : comp = D.1 2 := Option.some.inj (k3.symm.trans hcls.1)
  subst hcomp
  obtain ⟨kC, hkC, -⟩ := hcls.2
  refine W.aast S.1 S.2.1 ((hM.1.2 a).2.2.1 36 (by decide) (by decide) ht) (fun q h => by cases h) (fun h => by cases h) k1 k2 rfl hkC ⟨hi0, by show _ < (arrV _ _ _).slots.size; rw [arrV_size]; exact hlt⟩ g1 (fun q h => by rw [g3] at h; cases h) (by rw [g2]; exact hkC) (by rw [g2]; exact va_assign hcls) rfl rfl hdg fun H1 e z oq => ?_
  exact kk H1 _ (cwr_end hM ht (by decide) (by decide) hb0 e z oq)
theorem cwr37 (S : CallFix p m c cc nL s args lw_all own) (hX : CX D (kG h0) s) (hM : HI D h0 h s.heap H locs cells slots) {a v : Nat} {i : Int32} (hv : wR h a 37 i (some v) = some h') (hdg : decode cc pc = .ok (.aastore, 1))
    (kk : ∀ (H1 : Heap) (locs1 : List Loc), HI D h0 h' s.heap H1 locs1 cells slots → W p l e R s m args below meth c H1 locs1 cells slots Q (F0 m (pc + 1) ls rest)) : W p l e R s m args below meth c H locs cells slots Q (F0 m pc ls (.ref v :: .int i :: .ref a :: rest)) := by
  obtain ⟨⟨⟨⟨ht, hin⟩, hb0⟩, hok⟩, rfl⟩ := wRe hv
  have hlt : i.toNatClampNeg < kN h a := Nat.not_le.mp fun q => hin (Or.inr q)
  have hi0 : ¬ i < 0 := fun q => hin (Or.inl q)
  have hvt : kT h v = 4 := by simpa [wOk] using hok
  obtain ⟨cellV, g1, g2, g3, -⟩ := (hM.1.2 v).1 3 (by decide) hvt
  have hcls := (hX.1.1 3 _ rfl).2
  obtain ⟨kA, comp, k1, k2, k3, -⟩ := (hX.1.2 6 _ rfl).2
  have hcomp : comp = D.1 3 := Option.some.inj (k3.symm.trans hcls.1)
  subst hcomp
  obtain ⟨kC, hkC, -⟩ := hcls.2
  refine W.aast S.1 S.2.1 ((hM.1.2 a).2.2.1 37 (by decide) (by decide) ht) (fun q h => by cases h) (fun h => by cases h) k1 k2 rfl hkC ⟨hi0, by show _ < (arrV _ _ _).slots.size; rw [arrV_size]; exact hlt⟩ g1 (fun q h => by rw [g3] at h; cases h) (by rw [g2]; exact hkC) (by rw [g2]; exact va_assign hcls) rfl rfl hdg fun H1 e z oq => ?_
  exact kk H1 _ (cwr_end hM ht (by decide) (by decide) hb0 e z oq)
theorem cwr39 (S : CallFix p m c cc nL s args lw_all own) (hX : CX D (kG h0) s) (hM : HI D h0 h s.heap H locs cells slots) {a v : Nat} {i : Int32} (hv : wR h a 39 i (some v) = some h') (hdg : decode cc pc = .ok (.aastore, 1))
    (kk : ∀ (H1 : Heap) (locs1 : List Loc), HI D h0 h' s.heap H1 locs1 cells slots → W p l e R s m args below meth c H1 locs1 cells slots Q (F0 m (pc + 1) ls rest)) : W p l e R s m args below meth c H locs cells slots Q (F0 m pc ls (.ref v :: .int i :: .ref a :: rest)) := by
  obtain ⟨⟨⟨⟨ht, hin⟩, hb0⟩, hok⟩, rfl⟩ := wRe hv
  have hlt : i.toNatClampNeg < kN h a := Nat.not_le.mp fun q => hin (Or.inr q)
  have hi0 : ¬ i < 0 := fun q => hin (Or.inl q)
  have hvt : kT h v = 9 ∨ kT h v = 10 ∨ kT h v = 18 := by simpa [wOk, or_assoc] using hok
  obtain ⟨cellV, g1, g3, cO, hcO, kC, hkC, has⟩ : ∃ cellV : Cell, H[v]? = some cellV ∧ cellV.vm = .none ∧ ∃ cO, s.vm.findClass "java/lang/Object" = some cO ∧ ∃ kC, s.vm.classes[cellV.cls]? = some kC ∧ s.vm.assignable cellV.cls cO = true := by
    have go : ∀ ci : Nat, ci < 21 → kT h v = ci + 1 → va_Nw (Cond.castable (cN ci) "java/lang/Object") s → ∃ cellV : Cell, H[v]? = some cellV ∧ cellV.vm = .none ∧ ∃ cO, s.vm.findClass "java/lang/Object" = some cO ∧ ∃ kC, s.vm.classes[cellV.cls]? = some kC ∧ s.vm.assignable cellV.cls cO = true := by
      intro ci hc hk hca
      obtain ⟨cellV, g1, g2, g3, -⟩ := (hM.1.2 v).1 ci hc hk
      have hcls := (hX.1.1 ci _ (cfacts ci hc).1).2
      obtain ⟨c0, t1, f1, f2, f3⟩ := Cond.castable_spec (va_Nw.use (A := args) rfl hca)
      cases hcls.1.symm.trans f1
      obtain ⟨kC, hkC, -⟩ := hcls.2
      exact ⟨cellV, g1, g3, t1, f2, kC, by rw [g2]; exact hkC, by rw [g2]; exact f3⟩
    rcases hvt with hk | hk | hk
    · exact go 8 (by decide) hk (uq2367 hX)
    · exact go 9 (by decide) hk (uq2369 hX)
    · exact go 17 (by decide) hk (uq2368 hX)
  obtain ⟨kA, comp, k1, k2, k3, -⟩ := (hX.1.2 8 _ rfl).2
  obtain ⟨kE, hkE, -⟩ := Vm.findClass_spec k3
  cases k3.symm.trans hcO
  refine W.aast S.1 S.2.1 ((hM.1.2 a).2.2.1 39 (by decide) (by decide) ht) (fun q h => by cases h) (fun h => by cases h) k1 k2 rfl hkE ⟨hi0, by show _ < (arrV _ _ _).slots.size; rw [arrV_size]; exact hlt⟩ g1 (fun q h => by rw [g3] at h; cases h) hkC has rfl rfl hdg fun H1 e z oq => ?_
  exact kk H1 _ (cwr_end hM ht (by decide) (by decide) hb0 e z oq)
theorem cal (S : CallFix p m c cc nL s args lw_all own) (hX : CX D (kG h0) s) (hM : HI D h0 h s.heap H locs cells slots) {a t1 t2 : Nat} {v : Int32} (hv : aL h a t1 t2 = some v) (h31 : 31 ≤ t1) (h40 : t2 ≤ 40) (hdg : decode cc pc = .ok (.arraylength, 1))
    (kk : W p l e R s m args below meth c H locs cells slots Q (F0 m (pc + 1) ls (.int v :: rest))) : W p l e R s m args below meth c H locs cells slots Q (F0 m pc ls (.ref a :: rest)) := by
  obtain ⟨hk, rfl⟩ := aLe hv
  have go : ∀ (f : Nat → Value) (pos : Nat) (ty : FieldType), (cTy D)[pos]? = some (D.1 (kT h a), ty) → H[a]? = some (arrV (D.1 (kT h a)) (kN h a) f) → W p l e R s m args below meth c H locs cells slots Q (F0 m pc ls (.ref a :: rest)) := by
    intro f pos ty hp hc
    exact W.alen S.1 S.2.1 hc ((hX.1.2 pos _ hp).1 (kN h a) f) (by show (arrV _ _ _).slots.size.toInt32 = _; rw [arrV_size]) rfl rfl hdg kk
  by_cases c33 : kT h a ≤ 33
  · have hc := (hM.1.2 a).2.1 (kT h a) (by omega) c33 rfl
    have : kT h a = 31 ∨ kT h a = 32 ∨ kT h a = 33 := by omega
    rcases this with e | e | e
    · exact go _ 0 .int (by rw [e]; rfl) hc
    · exact go _ 1 .byte (by rw [e]; rfl) hc
    · exact go _ 2 .boolean (by rw [e]; rfl) hc
  · have hc := (hM.1.2 a).2.2.1 (kT h a) (by omega) (by omega) rfl
    have : kT h a = 34 ∨ kT h a = 35 ∨ kT h a = 36 ∨ kT h a = 37 ∨ kT h a = 38 ∨ kT h a = 39 ∨ kT h a = 40 := by omega
    rcases this with e | e | e | e | e | e | e
    · exact go _ 3 (.array .int) (by rw [e]; rfl) hc
    · exact go _ 4 (.array (.array .int)) (by rw [e]; rfl) hc
    · exact go _ 5 (.object "RugReader$Rug") (by rw [e]; rfl) hc
    · exact go _ 6 (.object "RugReader$Kept") (by rw [e]; rfl) hc
    · exact go _ 7 (.array .boolean) (by rw [e]; rfl) hc
    · exact go _ 8 (.object "java/lang/Object") (by rw [e]; rfl) hc
    · exact go _ 9 (.object "java/lang/Integer") (by rw [e]; rfl) hc
theorem cno (S : CallFix p m c cc nL s args lw_all own) (hX : CX D (kG h0) s) (hM : HI D h0 h s.heap H locs cells slots) {ci n index : Nat} {r : Nat × HS} (hv : nO h (ci + 1) n = some r) (hc : ci < 21) (hclink : Cond.classLink own index (cN ci) ∈ lw_all) (hins : Cond.instantiable (cN ci) n ∈ lw_all) (hini : Cond.initialized (cN ci) ∈ lw_all) (hdg : decode cc pc = .ok (.new index, 3))
    (kk : ∀ (H1 : Heap) (c1 s1 : Nat), HI D h0 r.2 s.heap H1 locs c1 s1 → W p l e (cR FR LO h0) s m args below meth c H1 locs c1 s1 Q (F0 m (pc + 3) ls (.ref r.1 :: rest))) : W p l e (cR FR LO h0) s m args below meth c H locs cells slots Q (F0 m pc ls rest) := by
  obtain ⟨hr, rfl⟩ := nOe hv
  obtain ⟨f1, f2, f3, f4⟩ := cfacts ci hc
  have hroom := HI_room (FR := FR) (LO := LO) hM hr
  have hz := hM.1.1
  refine W.newc S.1 S.2.1 S.2.2.2.1 (S.2.2.2.2 _ hclink) (S.2.2.2.2 _ hins) (S.2.2.2.2 _ hini) rfl hdg hroom.1 hroom.2 fun cC kC h1 h2 h3 h4 => ?_
  have hKn := hX.1.1 ci _ f1
  have e1 : D.1 ci = cC := Option.some.inj (hKn.2.1.symm.trans h1)
  generalize hH : H.push ({ cls := cC, slots := kC.instanceTypes.map defaultValue, vm := .none } : Cell) = H1
  have hcell : H1[H.size]? = some (blank cC kC) := by rw [← hH, Array.getElem?_push_size]; rfl
  have hlow : ∀ q : Nat, q < H.size → H1[q]? = H[q]? := fun q hq => by rw [← hH, Array.getElem?_push, if_neg (Nat.ne_of_lt hq)]
  have hsz : H1.size = H.size + 1 := by rw [← hH, Array.size_push]
  have hborn := u_born (o := H.size) (H := H1) (cty ci) S.2.2.2.2 f2 hKn (by rw [e1]; exact h2) (by rw [e1]; exact hcell) f3
  have hP : HP D (tA h (ci + 1) 0 n) H1 := by
    refine HP_new hM.1 hsz hlow (by omega) ⟨fun cj hj e9 => ?_, fun u b1 b2 e9 => (by omega), fun u b1 b2 e9 => (by omega), fun _ c9 e9 => (by rw [hcell] at e9; cases e9; exact ⟨rfl, rfl⟩), fun h9 => (by omega)⟩
    have e8 : cj = ci := by omega
    subst e8
    exact t_OB.to hborn (fun k hk => cdef_at hc hk)
  rw [hz]
  exact kk H1 _ _ (HI_new hM hr hlow hP)
theorem cnai (S : CallFix p m c cc nL s args lw_all own) (hX : CX D (kG h0) s) (hM : HI D h0 h s.heap H locs cells slots) {i : Int32} {r : Nat × HS} (hv : nA h 31 i = some r) (hdg : decode cc pc = .ok (.newarray .int, 2))
    (kk : ∀ (H1 : Heap) (c1 s1 : Nat), HI D h0 r.2 s.heap H1 locs c1 s1 → W p l e (cR FR LO h0) s m args below meth c H1 locs c1 s1 Q (F0 m (pc + 2) ls (.ref r.1 :: rest))) : W p l e (cR FR LO h0) s m args below meth c H locs cells slots Q (F0 m pc ls (.int i :: rest)) := by
  obtain ⟨⟨hn, hlim, hr⟩, rfl⟩ := nAe hv
  have hroom := HI_room (FR := FR) (LO := LO) hM hr
  have hz := hM.1.1
  refine va_newaK (atype := .int) S.1 S.2.1 (S.2.2.2.2 _ q288) rfl hdg rfl hn rfl (by show _ * 4 ≤ _; omega) hroom.1 hroom.2 rfl fun H1 cA e1 e2 e3 e4 e5 => ?_
  have ecA : D.1 31 = cA := by
    have h9 : s.vm.findClass ("[" ++ (FieldType.int).toString) = some (D.1 31) := (hX.1.2 0 _ rfl).2
    exact Option.some.inj (h9.symm.trans e5)
  have hP : HP D (tA h 31 i.toNatClampNeg i.toNatClampNeg) H1 := HP_new hM.1 e2 e3 (by decide) ⟨fun cj hj e9 => (by omega), fun u b1 b2 e9 => (by subst e9; rw [ecA]; exact e1), fun u b1 b2 e9 => (by omega), fun h9 => (by omega), fun h9 => (by omega)⟩
  rw [hz]
  exact kk H1 _ _ (HI_new hM hr e3 hP)
theorem cnab (S : CallFix p m c cc nL s args lw_all own) (hX : CX D (kG h0) s) (hM : HI D h0 h s.heap H locs cells slots) {i : Int32} {r : Nat × HS} (hv : nA h 32 i = some r) (hdg : decode cc pc = .ok (.newarray .byte, 2))
    (kk : ∀ (H1 : Heap) (c1 s1 : Nat), HI D h0 r.2 s.heap H1 locs c1 s1 → W p l e (cR FR LO h0) s m args below meth c H1 locs c1 s1 Q (F0 m (pc + 2) ls (.ref r.1 :: rest))) : W p l e (cR FR LO h0) s m args below meth c H locs cells slots Q (F0 m pc ls (.int i :: rest)) := by
  obtain ⟨⟨hn, hlim, hr⟩, rfl⟩ := nAe hv
  have hroom := HI_room (FR := FR) (LO := LO) hM hr
  have hz := hM.1.1
  refine va_newaK (atype := .byte) S.1 S.2.1 (S.2.2.2.2 _ q182) rfl hdg rfl hn rfl (by show _ * 1 ≤ _; omega) hroom.1 hroom.2 rfl fun H1 cA e1 e2 e3 e4 e5 => ?_
  have ecA : D.1 32 = cA := by
    have h9 : s.vm.findClass ("[" ++ (FieldType.byte).toString) = some (D.1 32) := (hX.1.2 1 _ rfl).2
    exact Option.some.inj (h9.symm.trans e5)
  have hP : HP D (tA h 32 i.toNatClampNeg i.toNatClampNeg) H1 := HP_new hM.1 e2 e3 (by decide) ⟨fun cj hj e9 => (by omega), fun u b1 b2 e9 => (by subst e9; rw [ecA]; exact e1), fun u b1 b2 e9 => (by omega), fun h9 => (by omega), fun h9 => (by omega)⟩
  rw [hz]
  exact kk H1 _ _ (HI_new hM hr e3 hP)
theorem cnaz (S : CallFix p m c cc nL s args lw_all own) (hX : CX D (kG h0) s) (hM : HI D h0 h s.heap H locs cells slots) {i : Int32} {r : Nat × HS} (hv : nA h 33 i = some r) (hdg : decode cc pc = .ok (.newarray .boolean, 2))
    (kk : ∀ (H1 : Heap) (c1 s1 : Nat), HI D h0 r.2 s.heap H1 locs c1 s1 → W p l e (cR FR LO h0) s m args below meth c H1 locs c1 s1 Q (F0 m (pc + 2) ls (.ref r.1 :: rest))) : W p l e (cR FR LO h0) s m args below meth c H locs cells slots Q (F0 m pc ls (.int i :: rest)) := by
  obtain ⟨⟨hn, hlim, hr⟩, rfl⟩ := nAe hv
  have hroom := HI_room (FR := FR) (LO := LO) hM hr
  have hz := hM.1.1
  refine va_newaK (atype := .boolean) S.1 S.2.1 (S.2.2.2.2 _ q242) rfl hdg rfl hn rfl (by show _ * 1 ≤ _; omega) hroom.1 hroom.2 rfl fun H1 cA e1 e2 e3 e4 e5 => ?_
  have ecA : D.1 33 = cA := by
    have h9 : s.vm.findClass ("[" ++ (FieldType.boolean).toString) = some (D.1 33) := (hX.1.2 2 _ rfl).2
    exact Option.some.inj (h9.symm.trans e5)
  have hP : HP D (tA h 33 i.toNatClampNeg i.toNatClampNeg) H1 := HP_new hM.1 e2 e3 (by decide) ⟨fun cj hj e9 => (by omega), fun u b1 b2 e9 => (by subst e9; rw [ecA]; exact e1), fun u b1 b2 e9 => (by omega), fun h9 => (by omega), fun h9 => (by omega)⟩
  rw [hz]
  exact kk H1 _ _ (HI_new hM hr e3 hP)
theorem cna36 (S : CallFix p m c cc nL s args lw_all own) (hX : CX D (kG h0) s) (hM : HI D h0 h s.heap H locs cells slots) {index : Nat} {i : Int32} {r : Nat × HS} (hv : nA h 36 i = some r) (hclink : Cond.classLink own index "RugReader$Rug" ∈ lw_all) (hdg : decode cc pc = .ok (.anewarray index, 3))
    (kk : ∀ (H1 : Heap) (c1 s1 : Nat), HI D h0 r.2 s.heap H1 locs c1 s1 → W p l e (cR FR LO h0) s m args below meth c H1 locs c1 s1 Q (F0 m (pc + 3) ls (.ref r.1 :: rest))) : W p l e (cR FR LO h0) s m args below meth c H locs cells slots Q (F0 m pc ls (.int i :: rest)) := by
  obtain ⟨⟨hn, hlim, hr⟩, rfl⟩ := nAe hv
  have hroom := HI_room (FR := FR) (LO := LO) hM hr
  have hz := hM.1.1
  refine W.anew S.1 S.2.1 S.2.2.2.1 (S.2.2.2.2 _ hclink) (va_AO.use (hX.2.1.2.2.2.2.1 (.object "RugReader$Rug") (List.mem_of_getElem? (i := 2) rfl))) rfl hdg rfl hn (by omega) hroom.1 hroom.2 fun cA kA comp f1 f2 f3 f4 => ?_
  have ecA : D.1 36 = cA := by
    obtain ⟨_, _, _, _, _, h9⟩ := (hX.1.2 5 _ rfl).2
    exact Option.some.inj (h9.symm.trans f1)
  generalize hH : H.push ({ cls := cA, slots := Array.replicate i.toNatClampNeg .null, vm := .none } : Cell) = H1
  have e1 : H1[H.size]? = some (arrV cA i.toNatClampNeg (fun _ => .null)) := by rw [← hH, Array.getElem?_push_size, ← arrV_new]
  have e2 : H1.size = H.size + 1 := by rw [← hH, Array.size_push]
  have e3 : ∀ q : Nat, q < H.size → H1[q]? = H[q]? := fun q hq => by rw [← hH, Array.getElem?_push, if_neg (Nat.ne_of_lt hq)]
  have hP : HP D (tA h 36 i.toNatClampNeg i.toNatClampNeg) H1 := HP_new hM.1 e2 e3 (by decide) ⟨fun cj hj e9 => (by omega), fun u b1 b2 e9 => (by omega), fun u b1 b2 e9 => (by subst e9; rw [ecA]; exact e1), fun h9 => (by omega), fun h9 => (by omega)⟩
  rw [hz]
  exact kk H1 _ _ (HI_new hM hr e3 hP)
theorem cna37 (S : CallFix p m c cc nL s args lw_all own) (hX : CX D (kG h0) s) (hM : HI D h0 h s.heap H locs cells slots) {index : Nat} {i : Int32} {r : Nat × HS} (hv : nA h 37 i = some r) (hclink : Cond.classLink own index "RugReader$Kept" ∈ lw_all) (hdg : decode cc pc = .ok (.anewarray index, 3))
    (kk : ∀ (H1 : Heap) (c1 s1 : Nat), HI D h0 r.2 s.heap H1 locs c1 s1 → W p l e (cR FR LO h0) s m args below meth c H1 locs c1 s1 Q (F0 m (pc + 3) ls (.ref r.1 :: rest))) : W p l e (cR FR LO h0) s m args below meth c H locs cells slots Q (F0 m pc ls (.int i :: rest)) := by
  obtain ⟨⟨hn, hlim, hr⟩, rfl⟩ := nAe hv
  have hroom := HI_room (FR := FR) (LO := LO) hM hr
  have hz := hM.1.1
  refine W.anew S.1 S.2.1 S.2.2.2.1 (S.2.2.2.2 _ hclink) (va_AO.use (hX.2.1.2.2.2.2.1 (.object "RugReader$Kept") (List.mem_of_getElem? (i := 4) rfl))) rfl hdg rfl hn (by omega) hroom.1 hroom.2 fun cA kA comp f1 f2 f3 f4 => ?_
  have ecA : D.1 37 = cA := by
    obtain ⟨_, _, _, _, _, h9⟩ := (hX.1.2 6 _ rfl).2
    exact Option.some.inj (h9.symm.trans f1)
  generalize hH : H.push ({ cls := cA, slots := Array.replicate i.toNatClampNeg .null, vm := .none } : Cell) = H1
  have e1 : H1[H.size]? = some (arrV cA i.toNatClampNeg (fun _ => .null)) := by rw [← hH, Array.getElem?_push_size, ← arrV_new]
  have e2 : H1.size = H.size + 1 := by rw [← hH, Array.size_push]
  have e3 : ∀ q : Nat, q < H.size → H1[q]? = H[q]? := fun q hq => by rw [← hH, Array.getElem?_push, if_neg (Nat.ne_of_lt hq)]
  have hP : HP D (tA h 37 i.toNatClampNeg i.toNatClampNeg) H1 := HP_new hM.1 e2 e3 (by decide) ⟨fun cj hj e9 => (by omega), fun u b1 b2 e9 => (by omega), fun u b1 b2 e9 => (by subst e9; rw [ecA]; exact e1), fun h9 => (by omega), fun h9 => (by omega)⟩
  rw [hz]
  exact kk H1 _ _ (HI_new hM hr e3 hP)
theorem cna39 (S : CallFix p m c cc nL s args lw_all own) (hX : CX D (kG h0) s) (hM : HI D h0 h s.heap H locs cells slots) {index : Nat} {i : Int32} {r : Nat × HS} (hv : nA h 39 i = some r) (hclink : Cond.classLink own index "java/lang/Object" ∈ lw_all) (hdg : decode cc pc = .ok (.anewarray index, 3))
    (kk : ∀ (H1 : Heap) (c1 s1 : Nat), HI D h0 r.2 s.heap H1 locs c1 s1 → W p l e (cR FR LO h0) s m args below meth c H1 locs c1 s1 Q (F0 m (pc + 3) ls (.ref r.1 :: rest))) : W p l e (cR FR LO h0) s m args below meth c H locs cells slots Q (F0 m pc ls (.int i :: rest)) := by
  obtain ⟨⟨hn, hlim, hr⟩, rfl⟩ := nAe hv
  have hroom := HI_room (FR := FR) (LO := LO) hM hr
  have hz := hM.1.1
  refine W.anew S.1 S.2.1 S.2.2.2.1 (S.2.2.2.2 _ hclink) (va_AO.use (hX.2.1.2.2.2.2.1 (.object "java/lang/Object") (List.mem_of_getElem? (i := 5) rfl))) rfl hdg rfl hn (by omega) hroom.1 hroom.2 fun cA kA comp f1 f2 f3 f4 => ?_
  have ecA : D.1 39 = cA := by
    obtain ⟨_, _, _, _, _, h9⟩ := (hX.1.2 8 _ rfl).2
    exact Option.some.inj (h9.symm.trans f1)
  generalize hH : H.push ({ cls := cA, slots := Array.replicate i.toNatClampNeg .null, vm := .none } : Cell) = H1
  have e1 : H1[H.size]? = some (arrV cA i.toNatClampNeg (fun _ => .null)) := by rw [← hH, Array.getElem?_push_size, ← arrV_new]
  have e2 : H1.size = H.size + 1 := by rw [← hH, Array.size_push]
  have e3 : ∀ q : Nat, q < H.size → H1[q]? = H[q]? := fun q hq => by rw [← hH, Array.getElem?_push, if_neg (Nat.ne_of_lt hq)]
  have hP : HP D (tA h 39 i.toNatClampNeg i.toNatClampNeg) H1 := HP_new hM.1 e2 e3 (by decide) ⟨fun cj hj e9 => (by omega), fun u b1 b2 e9 => (by omega), fun u b1 b2 e9 => (by subst e9; rw [ecA]; exact e1), fun h9 => (by omega), fun h9 => (by omega)⟩
  rw [hz]
  exact kk H1 _ _ (HI_new hM hr e3 hP)
theorem cend0 {Qc : Array Value → State → Outcome → State → Prop} {free : Addr → Prop} {x : Nat ⊕ Option Value} {g : JFrame} (hM : HI D h0 h s.heap H locs cells slots) (hq : ∀ t o, Qc args s o t → o = cOut x ∧ t.heap = H) (hf : ∀ q, free q → kG h0 0 ≤ q)
    (k : W p l e R s m args below meth c H locs cells slots (MQ below Qc args s cells slots free) g) : W p l e R s m args below meth c H locs cells slots (cMQ below D h0 h x args s) g := by
  intro T hT X
  obtain ⟨t, a1, o, b1, b2, b3, L, ⟨-, hW, hsm⟩, hL⟩ := k T hT X
  obtain ⟨g0, g1, g2, g3, g4, g5, g6, g7, g8⟩ := hM
  obtain ⟨e1, e2⟩ := hq t o b3
  refine ⟨t, a1, o, b1, b2, e1, by rw [e2]; exact g0, g1, fun q hq9 => by rw [e2]; exact g2 q hq9, by omega, by omega, g6, ⟨g7, by rw [e2]; exact g8.2⟩, L, hW, ?_, fun q hq9 => hf _ (hL q hq9)⟩
  rw [show kZ h - kZ h0 = cells by omega, show kW h - kW h0 = slots by omega]
  exact hsm
def c1Q (x : Nat ⊕ Option Value) (H : Heap) : Array Value → State → Outcome → State → Prop := fun _ _ o t => o = cOut x ∧ t.heap = H
theorem cri {v : Int32} (S : CallFix p m c cc nL s args lw_all own) (hM : HI D h0 h s.heap H locs cells slots) (hr : meth.sig.returnType = some .int) (hlocks : meth.locks = false) (hdg : decode cc pc = .ok (.ireturn, 1)) : W p l e R s m args below meth c H locs cells slots (cMQ below D h0 h (.inr (some (.int v))) args s) (F0 m pc ls [.int v]) :=
  cend0 (Qc := c1Q (.inr (some (.int v))) H) (free := fun q => kG h0 0 ≤ q) hM (fun _ _ q => q) (fun _ q => q) (W.iret S.1 S.2.1 hr (fun t ht _ => ⟨rfl, ht⟩) hM.2.2.2.1 hdg)
theorem crz {v : Int32} {ty : FieldType} (S : CallFix p m c cc nL s args lw_all own) (hM : HI D h0 h s.heap H locs cells slots) (hr : meth.sig.returnType = some ty) (hlocks : meth.locks = false) (hv : narrow ty (.int v) = .int v) (hdg : decode cc pc = .ok (.ireturn, 1)) : W p l e R s m args below meth c H locs cells slots (cMQ below D h0 h (.inr (some (.int v))) args s) (F0 m pc ls [.int v]) :=
  cend0 (Qc := c1Q (.inr (some (.int v))) H) (free := fun q => kG h0 0 ≤ q) hM (fun _ _ q => q) (fun _ q => q) (W.zret S.1 S.2.1 hr hv (fun t ht _ => ⟨rfl, ht⟩) hM.2.2.2.1 hdg)
theorem crv (S : CallFix p m c cc nL s args lw_all own) (hM : HI D h0 h s.heap H locs cells slots) (hr : meth.sig.returnType = none) (hlocks : meth.locks = false) (hdg : decode cc pc = .ok (.return_, 1)) : W p l e R s m args below meth c H locs cells slots (cMQ below D h0 h (.inr none) args s) (F0 m pc ls []) :=
  cend0 (Qc := c1Q (.inr none) H) (free := fun q => kG h0 0 ≤ q) hM (fun _ _ q => q) (fun _ q => q) (W.vret S.1 S.2.1 hr (fun t ht _ => ⟨rfl, ht⟩) hM.2.2.2.1 hdg)
theorem cra {v : Nat} {rt : FieldType} (S : CallFix p m c cc nL s args lw_all own) (hM : HI D h0 h s.heap H locs cells slots) (hr : meth.sig.returnType = some rt) (hrt : (∃ n, rt = .object n) ∨ ∃ t, rt = .array t) (hlocks : meth.locks = false) (hdg : decode cc pc = .ok (.areturn, 1)) : W p l e R s m args below meth c H locs cells slots (cMQ below D h0 h (.inr (some (.ref v))) args s) (F0 m pc ls [.ref v]) :=
  cend0 (Qc := c1Q (.inr (some (.ref v))) H) (free := fun q => kG h0 0 ≤ q) hM (fun _ _ q => q) (fun _ q => q) (W.aret S.1 S.2.1 hr hrt (Or.inr ⟨v, rfl⟩) (fun t ht _ => ⟨rfl, ht⟩) hM.2.2.2.1 hdg)
theorem cathrow (S : CallFix p m c cc nL s args lw_all own) {q : Addr} (hdg : decode cc pc = .ok (.athrow, 1)) (k : cX p l e R s m args below meth c H locs cells slots Q (F0 m pc ls rest) q) : W p l e R s m args below meth c H locs cells slots Q (F0 m pc ls (.ref q :: rest)) := by
  intro T hT X
  obtain ⟨t, st, hq⟩ := k T hT X
  refine ⟨t, ?_, hq⟩
  have hdg' : decode c.code pc = .ok (.athrow, 1) := by rw [S.2.1]; exact hdg
  have hexec := S.1
  jvm_step X.here [X.here.top, hexec, hdg', athrow.wp_sem]
  exact st
/-- not caught here: it goes on to the caller -/
theorem cxout {q : Addr} (hM : HI D h0 h s.heap H locs cells slots) (hout : ∀ x ∈ c.exceptionTable.toList, covers x pc = false) (hlocks : meth.locks = false) : cX p l e R s m args below meth c H locs cells slots (cMQ below D h0 h (.inl q) args s) (F0 m pc ls rest) q := by
  intro T hT X
  obtain ⟨st1, hrun, hend, hW, hsm⟩ := X.leaveThrown q (g := F0 m pc ls rest) rfl rfl rfl hout hlocks
  obtain ⟨g0, g1, g2, g3, g4, g5, g6, g7, g8⟩ := hM
  refine ⟨_, st1, .threw q, hrun, hend, rfl, by show HP D h T.heap; rw [hT]; exact g0, g1, fun z hz => by show T.heap[z]? = _; rw [hT]; exact g2 z hz, by omega, by omega, g6, ⟨g7, by show fzz h0 h s.heap T.heap; rw [hT]; exact g8.2⟩, locs, hW, ?_, g3⟩
  rw [show kZ h - kZ h0 = cells by omega, show kW h - kW h0 = slots by omega]
  exact hsm
/-- caught by the only row of this method's table -/
theorem cxcatch {q ci : Nat} {x : ExceptionTableEntry} {nm : String} (S : CallFix p m c cc nL s args lw_all own) (hX : CX D (kG h0) s) (hM : HI D h0 h s.heap H locs cells slots) (hc : ci < 21) (ht : kT h q = ci + 1) (htab : c.exceptionTable.toList = [x]) (hx : covers x pc = true) (hct : x.catchType ≠ 0) (hlink : Cond.classLink own x.catchType (cN ci) ∈ lw_all)
    (kk : W p l e R s m args below meth c H locs cells slots Q (F0 m x.handlerPc ls [.ref q])) : cX p l e R s m args below meth c H locs cells slots Q (F0 m pc ls rest) q := by
  intro T hT X
  have hpl : e.platform.magicAccessors = ({} : Platform).magicAccessors := by rw [X.admits.platform]
  obtain ⟨cell, q1, q2, q3, -⟩ := (hM.1.2 q).1 ci hc ht
  have hcls := (hX.1.1 ci _ (cfacts ci hc).1).2
  obtain ⟨c5, hc5, hcl5⟩ := Cond.classLink_spec S.2.2.2.1 (S.2.2.2.2 _ hlink) e.platform hpl
  have e5 : c5 = D.1 ci := Option.some.inj (hc5.symm.trans hcls.1)
  subst e5
  have hasg : s.vm.assignable cell.cls (D.1 ci) = true := by rw [q2]; exact va_assign hcls
  obtain ⟨vm', X', st⟩ := X.thenCaughtThrough q (g := F0 m pc ls rest) rfl (Steps.refl _) (by rw [hT]; exact q1) (by rw [q3]; rfl) (by obtain ⟨k9, h9, -⟩ := hcls.2; exact ⟨k9, by rw [q2]; exact h9⟩) [] x [] htab
    (fun z hz => by cases hz) hx (Or.inr ⟨hct, _, hcl5, hasg⟩)
  obtain ⟨t, a1, b1⟩ := kk (T.setVm vm') hT X'
  exact ⟨t, st.trans a1, b1⟩
/-- a cast to the thing's own class -/
theorem ccs (S : CallFix p m c cc nL s args lw_all own) (hX : CX D (kG h0) s) (hM : HI D h0 h s.heap H locs cells slots) {a ci index : Nat} (hc : ci < 21) (ht : kT h a = ci + 1) (hlink : Cond.classLink own index (cN ci) ∈ lw_all) (hdg : decode cc pc = .ok (.checkcast index, 3))
    (k : W p l e R s m args below meth c H locs cells slots Q (F0 m (pc + 3) ls (.ref a :: rest))) : W p l e R s m args below meth c H locs cells slots Q (F0 m pc ls (.ref a :: rest)) :=
  va_castS S.1 S.2.1 S.2.2.2.1 (S.2.2.2.2 _ hlink) (hX.1.1 ci _ (cfacts ci hc).1).2 (HI.cell hX hM hc ht) hdg k
theorem ccis (S : CallFix p m c cc nL s args lw_all own) (hX : CX D (kG h0) s) (hM : HI D h0 h s.heap H locs cells slots) {a ci index : Nat} (hc : ci < 21) (ht : kT h a = ci + 1) (hlink : Cond.classLink own index (cN ci) ∈ lw_all) (hdg : decode cc pc = .ok (.instanceof index, 3))
    (k : W p l e R s m args below meth c H locs cells slots Q (F0 m (pc + 3) ls (.int 1 :: rest))) : W p l e R s m args below meth c H locs cells slots Q (F0 m pc ls (.ref a :: rest)) :=
  va_instS S.1 S.2.1 S.2.2.2.1 (S.2.2.2.2 _ hlink) (hX.1.1 ci _ (cfacts ci hc).1).2 (HI.cell hX hM hc ht) hdg k
theorem ccy (S : CallFix p m c cc nL s args lw_all own) (hX : CX D (kG h0) s) (hM : HI D h0 h s.heap H locs cells slots) {a ci index : Nat} {nm : String} (hc : ci < 21) (ht : kT h a = ci + 1) (hlink : Cond.classLink own index nm ∈ lw_all) (hca : va_Nw (.castable (cN ci) nm) s) (hdg : decode cc pc = .ok (.checkcast index, 3))
    (k : W p l e R s m args below meth c H locs cells slots Q (F0 m (pc + 3) ls (.ref a :: rest))) : W p l e R s m args below meth c H locs cells slots Q (F0 m pc ls (.ref a :: rest)) :=
  va_castY S.1 S.2.1 S.2.2.2.1 (S.2.2.2.2 _ hlink) hca (HI.cell hX hM hc ht) hdg k
/-- a static that stays -/
theorem cst {C n d ref : String} {v : Value} {index : Nat} (S : CallFix p m c cc nL s args lw_all own) (hM : HI D h0 h s.heap H locs cells slots) (hZ : va_Z C n d v (fun q => kG h0 0 ≤ q) s s.heap) (hlink : Cond.fieldLink own index C n d ∈ lw_all) (hdg : decode cc pc = .ok (.getstatic index, 3))
    (kk : W p l e R s m args below meth c H locs cells slots Q (F0 m (pc + 3) ls (v :: rest))) : W p l e R s m args below meth c H locs cells slots Q (F0 m pc ls rest) := by
  obtain ⟨cf, kf, fi, f, a, cell, h1, h2, h3, h4, h5, h6, h7, h8⟩ := hZ
  exact W.gets S.1 S.2.1 S.2.2.2.1 (S.2.2.2.2 _ hlink) h1 h2 h3 h4 (by rw [hM.2.2.1 a (by omega)]; exact h5) (fun e => by rw [e] at h6; cases h6) h7 rfl hdg kk
theorem cstN {C n d host : String} {v : Value} {index : Nat} (S : CallFix p m c cc nL s args lw_all own) (hM : HI D h0 h s.heap H locs cells slots) (hZ : va_Z C n d v (fun q => kG h0 0 ≤ q) s s.heap) (hlink : (Cond.fieldLinkNest own index C n d host).before args s = true) (hdg : decode cc pc = .ok (.getstatic index, 3))
    (kk : W p l e R s m args below meth c H locs cells slots Q (F0 m (pc + 3) ls (v :: rest))) : W p l e R s m args below meth c H locs cells slots Q (F0 m pc ls rest) := by
  obtain ⟨cf, kf, fi, f, a, cell, h1, h2, h3, h4, h5, h6, h7, h8⟩ := hZ
  exact va_WgetsN S.1 S.2.1 S.2.2.2.1 hlink h1 h2 h3 h4 (by rw [hM.2.2.1 a (by omega)]; exact h5) (fun e => by rw [e] at h6; cases h6) h7 rfl hdg kk
/-- a call of a method that returns -/
theorem ccr {y : MethodName} {bytes : ByteArray} {maxL fr lo : Nat} {ret : Option FieldType} {As st0 st1 : List Value} {rv : Option Value} (S : CallFix p m c cc nL s args lw_all own) (hX : CX D (kG h0) s) (hM : HI D h0 h s.heap H locs cells slots) (hMet : CMet l y (ws_ y bytes maxL ret) fr lo D As h h' (.inr rv)) (hi : CInv p l e (cR FR LO h0) s m args below meth c H locs cells slots (F0 m pc ls st0) rest y As.toArray)
    (hc : Cond.code y bytes maxL ret ∈ lw_all) (hin : Cond.initialized y.cls ∈ lw_all) (hfr : fr + 1 ≤ FR) (hlo : 8 + (maxL + 11) + lo ≤ LO) (hl : ls.size = nL) (hW : (rest.map fun v => v.category).sum ≤ 8) (hst1 : rv.toList ++ rest = st1)
    (kk : ∀ (H1 : Heap) (locs1 : List Loc) (c1 s1 : Nat), HI D h0 h' s.heap H1 locs1 c1 s1 → W p l e (cR FR LO h0) s m args below meth c H1 locs1 c1 s1 Q (F0 m (pc + 3) ls st1)) : W p l e (cR FR LO h0) s m args below meth c H locs cells slots Q (F0 m pc ls st0) := by
  refine cc_core hM hX hMet hi (pay_in S.2.2.2.2 (lw_meth hc)) (CodeOK.of S.2.2.2.2 hc) (fun a' U hW9 => word_at hW9 (lw_self _ hin).2 (S.2.2.2.2 _ hin)) hfr hlo rfl (hl.trans S.2.2.1.symm) (lv_room hW) (fun v ev H1 locs1 c1 s1 hM1 => ?_) (fun q eq => by cases eq)
  cases ev
  subst hst1
  exact kk H1 locs1 c1 s1 hM1
/-- a call of a method that returns or throws -/
theorem cct {y : MethodName} {bytes : ByteArray} {maxL fr lo : Nat} {ret : Option FieldType} {As st0 : List Value} {x : Nat ⊕ Option Value} (S : CallFix p m c cc nL s args lw_all own) (hX : CX D (kG h0) s) (hM : HI D h0 h s.heap H locs cells slots) (hMet : CMet l y (ws_ y bytes maxL ret) fr lo D As h h' x) (hi : CInv p l e (cR FR LO h0) s m args below meth c H locs cells slots (F0 m pc ls st0) rest y As.toArray)
    (hc : Cond.code y bytes maxL ret ∈ lw_all) (hin : Cond.initialized y.cls ∈ lw_all) (hfr : fr + 1 ≤ FR) (hlo : 8 + (maxL + 11) + lo ≤ LO) (hl : ls.size = nL) (hW : (rest.map fun v => v.category).sum ≤ 8)
    (kr : ∀ v, x = .inr v → ∀ (H1 : Heap) (locs1 : List Loc) (c1 s1 : Nat), HI D h0 h' s.heap H1 locs1 c1 s1 → W p l e (cR FR LO h0) s m args below meth c H1 locs1 c1 s1 Q (F0 m (pc + 3) ls (v.toList ++ rest)))
    (kx : ∀ q, x = .inl q → ∀ (H1 : Heap) (locs1 : List Loc) (c1 s1 : Nat), HI D h0 h' s.heap H1 locs1 c1 s1 → cX p l e (cR FR LO h0) s m args below meth c H1 locs1 c1 s1 Q (F0 m pc ls rest) q) : W p l e (cR FR LO h0) s m args below meth c H locs cells slots Q (F0 m pc ls st0) :=
  cc_core hM hX hMet hi (pay_in S.2.2.2.2 (lw_meth hc)) (CodeOK.of S.2.2.2.2 hc) (fun a' U hW9 => word_at hW9 (lw_self _ hin).2 (S.2.2.2.2 _ hin)) hfr hlo rfl (hl.trans S.2.2.1.symm) (lv_room hW) kr kx
/-- a contract out of a walk -/
theorem CMet.ofW {y : MethodName} {bytes : ByteArray} {maxL fr lo : Nat} {ret : Option FieldType} {As : List Value} {x : Nat ⊕ Option Value} (hy : plainName y.cls = true)
    (body : ∀ p e s m below meth c s₁, BodyLoose p l y (headSpec (ws_ y bytes maxL ret) (cR fr lo h)) bytes maxL ret e s m As.toArray below meth c s₁ → CallFix p m c bytes maxL s As.toArray lw_all y.cls → CX D (kG h) s → HI D h h s.heap s.heap [] 0 0 → meth.sig.returnType = ret → meth.locks = false → (∀ x ∈ c.exceptionTable.toList, False) → meth.name = y.name →
      W p l e (cR fr lo h) s m As.toArray below meth c s.heap [] 0 0 (cMQ below D h h' x As.toArray s) (entryFrame m As.toArray maxL)) : CMet l y (ws_ y bytes maxL ret) fr lo D As h h' x := by
  refine MetFree.of_bodyS (code := bytes) (maxLocals := maxL) (ret := ret) hy ?_ ?_
  · intro args s m h9 hn
    obtain ⟨meth, c, h1, h2, h3, h4, h5, h6, -, -⟩ := Cond.code_spec hn (atoms_spec (ws := ws_ y bytes maxL ret) h9 _ List.mem_cons_self)
    exact ⟨meth, c, h1, h2, h3, h4, h5, h6⟩
  · intro p e s m args below meth c s₁ B hml hP _
    have hh0 : s₁.heap = s.heap := by rw [B.state]; rfl
    obtain ⟨rfl, hP1, hX, hz, hw, hb0⟩ := hP
    have hts := atoms_spec (ws := ws_ y bytes maxL ret) B.pre
    have hts2 : ∀ w ∈ lw_all, w.before As.toArray s = true := fun w h => hts w (List.mem_cons_of_mem _ h)
    have ht : ∀ x ∈ c.exceptionTable.toList, False := by
      obtain ⟨meth9, c9, h1, h2, -, -, -, -, h7, -⟩ := Cond.code_spec B.named (hts _ List.mem_cons_self)
      cases Option.some.inj (h1.symm.trans B.method)
      cases Option.some.inj (h2.symm.trans (Stand.of_body B).code)
      intro x hx
      rw [Array.isEmpty_iff.mp h7] at hx
      cases hx
    have hI : HI D h h s.heap s.heap [] 0 0 := ⟨hP1, rfl, fun _ _ => rfl, fun _ h9 => (by cases h9), rfl, rfl, hz, hw, hb0, fun q _ q2 => ⟨q2, rfl⟩⟩
    obtain ⟨t, a1, o, b1, b2, b3⟩ := body p e s m below meth c s₁ B ⟨B.exec, B.bytes, hml, findClass_of_methodNamed B.named, hts2⟩ hX hI B.returns B.notSynchronized ht (name_of_methodNamed B.named B.method).1 s₁ hh0 (Stand.of_body B)
    exact ⟨t, o, a1, b1, b2, b3⟩
end CR2
