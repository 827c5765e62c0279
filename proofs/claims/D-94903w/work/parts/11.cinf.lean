/-! the component's heap as plain values: kinds, lengths, whole numbers, references; the next address; slots used; what stays the same -/
abbrev HS : Type := (Nat → Nat) × (Nat → Nat) × (Nat → Nat → Int32) × (Nat → Nat → Option Nat) × Nat × Nat × (Nat → Nat)
def kT (h : HS) (a : Nat) : Nat := h.1 a
def kN (h : HS) (a : Nat) : Nat := h.2.1 a
def kI (h : HS) (a k : Nat) : Int32 := h.2.2.1 a k
def kR (h : HS) (a k : Nat) : Option Nat := h.2.2.2.1 a k
def kZ (h : HS) : Nat := h.2.2.2.2.1
def kW (h : HS) : Nat := h.2.2.2.2.2.1
def kG (h : HS) : Nat → Nat := h.2.2.2.2.2.2
def tI (h : HS) (a k : Nat) (v : Int32) : HS := (h.1, h.2.1, fun x => if x = a then upd (h.2.2.1 a) k v else h.2.2.1 x, h.2.2.2)
def tR (h : HS) (a k : Nat) (v : Option Nat) : HS := (h.1, h.2.1, h.2.2.1, fun x => if x = a then va_up (h.2.2.2.1 a) k v else h.2.2.2.1 x, h.2.2.2.2)
def tA (h : HS) (t n sl : Nat) : HS := (va_up h.1 (kZ h) t, va_up h.2.1 (kZ h) n, fun x => if x = kZ h then fun _ => 0 else h.2.2.1 x, fun x => if x = kZ h then fun _ => none else h.2.2.2.1 x, kZ h + 1, kW h + sl, kG h)
section KL
variable (h : HS) (a k x j t n sl : Nat) (v : Int32) (w : Option Nat)
theorem kT_tI : kT (tI h a k v) x = kT h x := rfl
theorem kN_tI : kN (tI h a k v) x = kN h x := rfl
theorem kR_tI : kR (tI h a k v) x j = kR h x j := rfl
theorem kZ_tI : kZ (tI h a k v) = kZ h := rfl
theorem kW_tI : kW (tI h a k v) = kW h := rfl
theorem kG_tI : kG (tI h a k v) = kG h := rfl
theorem kI_tI : kI (tI h a k v) x j = if x = a ∧ j = k then v else kI h x j := by
  unfold kI tI
  by_cases e : x = a
  · subst e
    by_cases e2 : j = k
    · simp [e2, upd]
    · simp [e2, upd]
  · simp [e]
theorem kT_tR : kT (tR h a k w) x = kT h x := rfl
theorem kN_tR : kN (tR h a k w) x = kN h x := rfl
theorem kI_tR : kI (tR h a k w) x j = kI h x j := rfl
theorem kZ_tR : kZ (tR h a k w) = kZ h := rfl
theorem kW_tR : kW (tR h a k w) = kW h := rfl
theorem kG_tR : kG (tR h a k w) = kG h := rfl
theorem kR_tR : kR (tR h a k w) x j = if x = a ∧ j = k then w else kR h x j := by
  unfold kR tR
  by_cases e : x = a
  · subst e
    by_cases e2 : j = k
    · simp [e2, va_up]
    · simp [e2, va_up]
  · simp [e]
theorem kT_tA : kT (tA h t n sl) x = if x = kZ h then t else kT h x := rfl
theorem kN_tA : kN (tA h t n sl) x = if x = kZ h then n else kN h x := rfl
theorem kI_tA : kI (tA h t n sl) x j = if x = kZ h then 0 else kI h x j := by
  unfold kI tA; by_cases e : x = kZ h <;> simp [e]
theorem kR_tA : kR (tA h t n sl) x j = if x = kZ h then none else kR h x j := by
  unfold kR tA; by_cases e : x = kZ h <;> simp [e]
theorem kZ_tA : kZ (tA h t n sl) = kZ h + 1 := rfl
theorem kW_tA : kW (tA h t n sl) = kW h + sl := rfl
theorem kG_tA : kG (tA h t n sl) = kG h := rfl
end KL
/-- guarded reads and writes -/
def oI (h : HS) (a t1 t2 k : Nat) : Option Int32 := if t1 ≤ kT h a ∧ kT h a ≤ t2 then some (kI h a k) else none
def oR (h : HS) (a t1 t2 k : Nat) : Option (Option Nat) := if t1 ≤ kT h a ∧ kT h a ≤ t2 then some (kR h a k) else none
def fR (h : HS) (a t1 t2 k : Nat) : Option Nat := if t1 ≤ kT h a ∧ kT h a ≤ t2 then kR h a k else none
def pI (h : HS) (a t1 t2 k : Nat) (v : Int32) : Option HS := if (t1 ≤ kT h a ∧ kT h a ≤ t2) ∧ kG h 0 ≤ a then some (tI h a k v) else none
def pR (h : HS) (a t1 t2 k : Nat) (v : Option Nat) : Option HS := if (t1 ≤ kT h a ∧ kT h a ≤ t2) ∧ kG h 0 ≤ a then some (tR h a k v) else none
def aI (h : HS) (a t : Nat) (i : Int32) : Option Int32 := if kT h a = t ∧ ¬ (i < 0 ∨ kN h a ≤ i.toNatClampNeg) then some (kI h a i.toNatClampNeg) else none
def aR (h : HS) (a t : Nat) (i : Int32) : Option (Option Nat) := if kT h a = t ∧ ¬ (i < 0 ∨ kN h a ≤ i.toNatClampNeg) then some (kR h a i.toNatClampNeg) else none
def fA (h : HS) (a t : Nat) (i : Int32) : Option Nat := if kT h a = t ∧ ¬ (i < 0 ∨ kN h a ≤ i.toNatClampNeg) then kR h a i.toNatClampNeg else none
def wI (h : HS) (a t : Nat) (i v : Int32) : Option HS := if (kT h a = t ∧ ¬ (i < 0 ∨ kN h a ≤ i.toNatClampNeg)) ∧ kG h 0 ≤ a then some (tI h a i.toNatClampNeg v) else none
/-- the kinds that an array of references takes -/
def wOk (h : HS) (t : Nat) (v : Option Nat) : Bool := match v with
  | none => true
  | some y => (t == 36 && kT h y == 3) || (t == 37 && kT h y == 4) || (t == 39 && kT h y == 9) || (t == 39 && kT h y == 10) || (t == 39 && kT h y == 18)
def wR (h : HS) (a t : Nat) (i : Int32) (v : Option Nat) : Option HS := if ((kT h a = t ∧ ¬ (i < 0 ∨ kN h a ≤ i.toNatClampNeg)) ∧ kG h 0 ≤ a) ∧ wOk h t v = true then some (tR h a i.toNatClampNeg v) else none
def aL (h : HS) (a t1 t2 : Nat) : Option Int32 := if t1 ≤ kT h a ∧ kT h a ≤ t2 then some (Int32.ofNat (kN h a)) else none
def nO (h : HS) (t sl : Nat) : Option (Nat × HS) := if kZ h + 1 ≤ kG h 1 ∧ kW h + sl ≤ kG h 2 then some (kZ h, tA h t 0 sl) else none
def nA (h : HS) (t : Nat) (i : Int32) : Option (Nat × HS) := if ¬ i < 0 ∧ i.toNatClampNeg ≤ 100000 ∧ kZ h + 1 ≤ kG h 1 ∧ kW h + i.toNatClampNeg ≤ kG h 2 then some (kZ h, tA h t i.toNatClampNeg i.toNatClampNeg) else none
theorem oIe {h : HS} {a t1 t2 k : Nat} {v : Int32} (e : oI h a t1 t2 k = some v) : (t1 ≤ kT h a ∧ kT h a ≤ t2) ∧ kI h a k = v := by
  unfold oI at e; split at e
  · exact ⟨by assumption, Option.some.inj e⟩
  · cases e
theorem oRe {h : HS} {a t1 t2 k : Nat} {v : Option Nat} (e : oR h a t1 t2 k = some v) : (t1 ≤ kT h a ∧ kT h a ≤ t2) ∧ kR h a k = v := by
  unfold oR at e; split at e
  · exact ⟨by assumption, Option.some.inj e⟩
  · cases e
theorem fRe {h : HS} {a t1 t2 k v : Nat} (e : fR h a t1 t2 k = some v) : (t1 ≤ kT h a ∧ kT h a ≤ t2) ∧ kR h a k = some v := by
  unfold fR at e; split at e
  · exact ⟨by assumption, e⟩
  · cases e
theorem pIe {h h' : HS} {a t1 t2 k : Nat} {v : Int32} (e : pI h a t1 t2 k v = some h') : ((t1 ≤ kT h a ∧ kT h a ≤ t2) ∧ kG h 0 ≤ a) ∧ tI h a k v = h' := by
  unfold pI at e; split at e
  · exact ⟨by assumption, Option.some.inj e⟩
  · cases e
theorem pRe {h h' : HS} {a t1 t2 k : Nat} {v : Option Nat} (e : pR h a t1 t2 k v = some h') : ((t1 ≤ kT h a ∧ kT h a ≤ t2) ∧ kG h 0 ≤ a) ∧ tR h a k v = h' := by
  unfold pR at e; split at e
  · exact ⟨by assumption, Option.some.inj e⟩
  · cases e
theorem aIe {h : HS} {a t : Nat} {i v : Int32} (e : aI h a t i = some v) : (kT h a = t ∧ ¬ (i < 0 ∨ kN h a ≤ i.toNatClampNeg)) ∧ kI h a i.toNatClampNeg = v := by
  unfold aI at e; split at e
  · exact ⟨by assumption, Option.some.inj e⟩
  · cases e
theorem aRe {h : HS} {a t : Nat} {i : Int32} {v : Option Nat} (e : aR h a t i = some v) : (kT h a = t ∧ ¬ (i < 0 ∨ kN h a ≤ i.toNatClampNeg)) ∧ kR h a i.toNatClampNeg = v := by
  unfold aR at e; split at e
  · exact ⟨by assumption, Option.some.inj e⟩
  · cases e
theorem fAe {h : HS} {a t v : Nat} {i : Int32} (e : fA h a t i = some v) : (kT h a = t ∧ ¬ (i < 0 ∨ kN h a ≤ i.toNatClampNeg)) ∧ kR h a i.toNatClampNeg = some v := by
  unfold fA at e; split at e
  · exact ⟨by assumption, e⟩
  · cases e
theorem wIe {h h' : HS} {a t : Nat} {i v : Int32} (e : wI h a t i v = some h') : ((kT h a = t ∧ ¬ (i < 0 ∨ kN h a ≤ i.toNatClampNeg)) ∧ kG h 0 ≤ a) ∧ tI h a i.toNatClampNeg v = h' := by
  unfold wI at e; split at e
  · exact ⟨by assumption, Option.some.inj e⟩
  · cases e
theorem wRe {h h' : HS} {a t : Nat} {i : Int32} {v : Option Nat} (e : wR h a t i v = some h') : (((kT h a = t ∧ ¬ (i < 0 ∨ kN h a ≤ i.toNatClampNeg)) ∧ kG h 0 ≤ a) ∧ wOk h t v = true) ∧ tR h a i.toNatClampNeg v = h' := by
  unfold wR at e; split at e
  · exact ⟨by assumption, Option.some.inj e⟩
  · cases e
theorem aLe {h : HS} {a t1 t2 : Nat} {v : Int32} (e : aL h a t1 t2 = some v) : (t1 ≤ kT h a ∧ kT h a ≤ t2) ∧ Int32.ofNat (kN h a) = v := by
  unfold aL at e; split at e
  · exact ⟨by assumption, Option.some.inj e⟩
  · cases e
theorem nOe {h : HS} {t sl : Nat} {r : Nat × HS} (e : nO h t sl = some r) : (kZ h + 1 ≤ kG h 1 ∧ kW h + sl ≤ kG h 2) ∧ r = (kZ h, tA h t 0 sl) := by
  unfold nO at e; split at e
  · exact ⟨by assumption, (Option.some.inj e).symm⟩
  · cases e
theorem nAe {h : HS} {t : Nat} {i : Int32} {r : Nat × HS} (e : nA h t i = some r) : (¬ i < 0 ∧ i.toNatClampNeg ≤ 100000 ∧ kZ h + 1 ≤ kG h 1 ∧ kW h + i.toNatClampNeg ≤ kG h 2) ∧ r = (kZ h, tA h t i.toNatClampNeg i.toNatClampNeg) := by
  unfold nA at e; split at e
  · exact ⟨by assumption, (Option.some.inj e).symm⟩
  · cases e
/-! the heap holds the values -/
def irt (t : FieldType) : Bool := match t with
  | .object _ => true
  | .array _ => true
  | _ => false
def cfv (ci : Nat) (I : Nat → Int32) (R : Nat → Option Nat) (k : Nat) : Value := if irt (cty ci k) = true then va_rf (R k) else .int (I k)
/-- made, and its constructor not yet run: nobody waits on it -/
def mFree (cell : Cell) : Prop := cell.monitor.owner = none ∧ cell.monitor.count = 0
def HP (D : va_G) (h : HS) (H : Heap) : Prop := H.size = kZ h ∧ ∀ a : Nat,
  (∀ ci, ci < 21 → kT h a = ci + 1 → t_OB a (D.1 ci) (cnf ci) (D.2 ci) H (cfv ci (kI h a) (kR h a))) ∧
  (∀ t, 31 ≤ t → t ≤ 33 → kT h a = t → H[a]? = some (arrV (D.1 t) (kN h a) (fun j => .int (kI h a j)))) ∧
  (∀ t, 34 ≤ t → t ≤ 40 → kT h a = t → H[a]? = some (arrV (D.1 t) (kN h a) (fun j => va_rf (kR h a j)))) ∧
  (kT h a = 0 ∨ (1 ≤ kT h a ∧ kT h a ≤ 21) ∨ (31 ≤ kT h a ∧ kT h a ≤ 41)) ∧
  (20 ≤ kT h a ∧ kT h a ≤ 21 → ∀ cell, H[a]? = some cell → mFree cell) ∧
  (kT h a = 41 → H[a]? = some (arrV (D.1 41) (kN h a) (fun j => .long (kI h a j).toInt64)))
theorem HP.lt {D : va_G} {h : HS} {H : Heap} (hP : HP D h H) {a : Nat} (ha : kT h a ≠ 0) : a < kZ h := by
  obtain ⟨hz, hp⟩ := hP
  obtain ⟨h1, h2, h3, h4, -, h6⟩ := hp a
  rw [← hz]
  rcases h4 with h4 | h4 | h4
  · exact absurd h4 ha
  · obtain ⟨cell, q, -⟩ := h1 (kT h a - 1) (by omega) (by omega)
    exact (Array.getElem?_eq_some_iff.mp q).1
  · by_cases c : kT h a ≤ 33
    · exact (Array.getElem?_eq_some_iff.mp (h2 _ h4.1 c rfl)).1
    · by_cases c2 : kT h a = 41
      · exact (Array.getElem?_eq_some_iff.mp (h6 c2)).1
      · exact (Array.getElem?_eq_some_iff.mp (h3 _ (by omega) (by omega) rfl)).1
/-- what isn't tracked stays as it lies -/
def fzz (h0 h : HS) (H0 H : Heap) : Prop := ∀ q : Nat, q < kZ h0 → kT h0 q = 0 → kT h q = 0 ∧ H[q]? = H0[q]?
theorem fzz.trans {h0 h h' : HS} {H0 H H' : Heap} (hz : kZ h0 ≤ kZ h) (a : fzz h0 h H0 H) (b : fzz h h' H H') : fzz h0 h' H0 H' := fun q q1 q2 => by
  obtain ⟨a1, a2⟩ := a q q1 q2
  obtain ⟨b1, b2⟩ := b q (by omega) a1
  exact ⟨b1, b2.trans a2⟩
def HI (D : va_G) (h0 h : HS) (H0 H : Heap) (locs : List Loc) (cells slots : Nat) : Prop :=
  HP D h H ∧ kG h = kG h0 ∧ (∀ q : Nat, q < kG h0 0 → H[q]? = H0[q]?) ∧ (∀ x ∈ locs, kG h0 0 ≤ x.base) ∧ kZ h0 + cells = kZ h ∧ kW h0 + slots = kW h ∧ kZ h ≤ kG h0 1 ∧ kW h ≤ kG h0 2 ∧ kG h0 0 ≤ kZ h0 ∧ fzz h0 h H0 H
/-- the room of a method called at h -/
def cR (fr lo : Nat) (h : HS) : Room := { frames := fr, cells := kG h 1 - kZ h, slots := kG h 2 - kW h, locals := lo }
def cPc (D : va_G) (As : List Value) (h : HS) : Array Value → State → Prop := fun a U =>
  a = As.toArray ∧ HP D h U.heap ∧ CX D (kG h) U ∧ kZ h ≤ kG h 1 ∧ kW h ≤ kG h 2 ∧ kG h 0 ≤ kZ h
def cOut (x : Nat ⊕ Option Value) : Outcome := match x with
  | .inl q => .threw q
  | .inr v => .returned v
def cQ (D : va_G) (h h' : HS) (x : Nat ⊕ Option Value) : Array Value → State → Outcome → State → Prop := fun _ st o t =>
  o = cOut x ∧ HP D h' t.heap ∧ kG h' = kG h ∧ (∀ q : Nat, q < kG h 0 → t.heap[q]? = st.heap[q]?) ∧ kZ h ≤ kZ h' ∧ kW h ≤ kW h' ∧ kZ h' ≤ kG h 1 ∧ (kW h' ≤ kG h 2 ∧ fzz h h' st.heap t.heap) ∧
  ∃ L, st.WarmedH t.vm ∧ st.sameButNew ({ t with vm := st.vm } : State) L (kZ h' - kZ h) (kW h' - kW h) ∧ ∀ q ∈ L, kG h 0 ≤ q.base
/-- the contract of a method: called at h with As it ends with x at h' -/
def CMet (l : Launch) (y : MethodName) (ws : List Cond) (fr lo : Nat) (D : va_G) (As : List Value) (h h' : HS) (x : Nat ⊕ Option Value) : Prop :=
  MetFree l y (headSpec ws (cR fr lo h)) (cPc D As h) (fun _ _ _ _ _ => True) (cQ D h h' x)
theorem cPc_blind {D : va_G} {As : List Value} {h : HS} : FrameBlind (cPc D As h) := fun a U g mk q => by
  obtain ⟨q0, q1, q2, q3⟩ := q
  refine ⟨q0, q1, ?_, q3⟩
  exact CX.moved (U := U.calling g mk a) (State.WarmedH.refl U) (fun _ _ => rfl) q2
