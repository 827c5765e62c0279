/-! the Model's world as plain values: int fields, int arrays, the long field, long arrays (all by the number of the field) -/
abbrev MS : Type := (Nat → Int32) × (Nat → Nat → Int32) × Int64 × (Nat → Nat → Int64)
def gI (σ : MS) (k : Nat) : Int32 := σ.1 k
def gA (σ : MS) (k i : Nat) : Int32 := σ.2.1 k i
def gL (σ : MS) : Int64 := σ.2.2.1
def gJ (σ : MS) (k i : Nat) : Int64 := σ.2.2.2 k i
def sI (σ : MS) (k : Nat) (v : Int32) : MS := (fun j => if j = k then v else σ.1 j, σ.2)
def sA (σ : MS) (k i : Nat) (v : Int32) : MS := (σ.1, fun j => if j = k then upd (σ.2.1 k) i v else σ.2.1 j, σ.2.2)
def sL (σ : MS) (v : Int64) : MS := (σ.1, σ.2.1, v, σ.2.2.2)
def sJ (σ : MS) (k i : Nat) (v : Int64) : MS := (σ.1, σ.2.1, σ.2.2.1, fun j => if j = k then vp_updL (σ.2.2.2 k) i v else σ.2.2.2 j)
theorem gI_sI (σ : MS) (k j : Nat) (v : Int32) : gI (sI σ k v) j = if j = k then v else gI σ j := rfl
theorem gI_sA (σ : MS) (k i j : Nat) (v : Int32) : gI (sA σ k i v) j = gI σ j := rfl
theorem gI_sL (σ : MS) (j : Nat) (v : Int64) : gI (sL σ v) j = gI σ j := rfl
theorem gI_sJ (σ : MS) (k i j : Nat) (v : Int64) : gI (sJ σ k i v) j = gI σ j := rfl
theorem gA_sI (σ : MS) (k j i : Nat) (v : Int32) : gA (sI σ k v) j i = gA σ j i := rfl
theorem gA_sA (σ : MS) (k i j n : Nat) (v : Int32) : gA (sA σ k i v) j n = if j = k ∧ n = i then v else gA σ j n := by
  unfold gA sA
  by_cases h : j = k
  · subst h
    by_cases h2 : n = i
    · simp [h2, upd]
    · simp [h2, upd]
  · simp [h]
theorem gA_sL (σ : MS) (j i : Nat) (v : Int64) : gA (sL σ v) j i = gA σ j i := rfl
theorem gA_sJ (σ : MS) (k i j n : Nat) (v : Int64) : gA (sJ σ k i v) j n = gA σ j n := rfl
theorem gL_sI (σ : MS) (k : Nat) (v : Int32) : gL (sI σ k v) = gL σ := rfl
theorem gL_sA (σ : MS) (k i : Nat) (v : Int32) : gL (sA σ k i v) = gL σ := rfl
theorem gL_sL (σ : MS) (v : Int64) : gL (sL σ v) = v := rfl
theorem gL_sJ (σ : MS) (k i : Nat) (v : Int64) : gL (sJ σ k i v) = gL σ := rfl
theorem gJ_sI (σ : MS) (k j i : Nat) (v : Int32) : gJ (sI σ k v) j i = gJ σ j i := rfl
theorem gJ_sA (σ : MS) (k i j n : Nat) (v : Int32) : gJ (sA σ k i v) j n = gJ σ j n := rfl
theorem gJ_sL (σ : MS) (j i : Nat) (v : Int64) : gJ (sL σ v) j i = gJ σ j i := rfl
theorem gJ_sJ (σ : MS) (k i j n : Nat) (v : Int64) : gJ (sJ σ k i v) j n = if j = k ∧ n = i then v else gJ σ j n := by
  unfold gJ sJ
  by_cases h : j = k
  · subst h
    by_cases h2 : n = i
    · simp [h2, vp_updL]
    · simp [h2, vp_updL]
  · simp [h]
/-- the kinds of the fields: 0 int, 1 boolean, 2 long, 3 int[], 4 byte[], 5 boolean[], 6 long[] -/
def mkd (k : Nat) : Nat := match k with
  | 1 => 4 | 6 => 3 | 7 => 3 | 8 => 3 | 9 => 6 | 10 => 6 | 17 => 2 | 20 => 1 | 21 => 1 | 22 => 3 | 24 => 3 | 25 => 3 | 26 => 3 | 27 => 3 | 30 => 3 | 31 => 3 | 35 => 1
  | 36 => 3 | 37 => 3 | 38 => 3 | 39 => 3 | 40 => 3 | 41 => 5 | 45 => 3 | 50 => 1 | 51 => 5 | 52 => 3 | 53 => 6 | 54 => 5 | _ => 0
def mln (k : Nat) : Nat := match k with
  | 1 => 940 | 6 => 10265 | 7 => 429 | 8 => 135 | 9 => 24 | 10 => 20 | 22 => 57930 | 24 => 48 | 25 => 6 | 26 => 6 | 27 => 6 | 30 => 144 | 31 => 4
  | 36 => 576 | 37 => 144 | 38 => 288 | 39 => 288 | 40 => 144 | 41 => 144 | 45 => 45 | 51 => 45 | 52 => 20530 | 53 => 24 | 54 => 2 | _ => 0
/-- guarded reads and writes of arrays -/
def rA (σ : MS) (k : Nat) (i : Int32) : Option Int32 := if i < 0 ∨ mln k ≤ i.toNatClampNeg then none else some (gA σ k i.toNatClampNeg)
def wA (σ : MS) (k : Nat) (i v : Int32) : Option MS := if i < 0 ∨ mln k ≤ i.toNatClampNeg then none else some (sA σ k i.toNatClampNeg v)
def rJ (σ : MS) (k : Nat) (i : Int32) : Option Int64 := if i < 0 ∨ mln k ≤ i.toNatClampNeg then none else some (gJ σ k i.toNatClampNeg)
def wJ (σ : MS) (k : Nat) (i : Int32) (v : Int64) : Option MS := if i < 0 ∨ mln k ≤ i.toNatClampNeg then none else some (sJ σ k i.toNatClampNeg v)
/-- a boolean is 0 or 1 -/
def gB {α : Type} (v : Int32) (x : Option α) : Option α := if v = 0 ∨ v = 1 then x else none
/-- a divisor isn't 0 -/
def gZ {α : Type} (v : Int32) (x : Option α) : Option α := if v = 0 then none else x
def lt_ {α β : Type} (x : α) (f : α → β) : β := f x
def osm {α β δ : Type} (x : Option (α ⊕ β)) (inj : β → δ) (k : α → Option δ) : Option δ := match x with
  | none => none
  | some (.inl a) => k a
  | some (.inr v) => some (inj v)
theorem obn {α β : Type} {x : Option α} {f : α → Option β} {r : β} (h : x.bind f = some r) : ∃ a, x = some a ∧ f a = some r := by
  cases x with
  | none => cases h
  | some a => exact ⟨a, rfl, h⟩
theorem lte {α β : Type} {x : α} {f : α → β} {r : β} (h : lt_ x f = r) : ∃ a, x = a ∧ f a = r := ⟨x, rfl, h⟩
theorem osn {α β δ : Type} {x : Option (α ⊕ β)} {inj : β → δ} {k : α → Option δ} {r : δ} (h : osm x inj k = some r) : (∃ a, x = some (.inl a) ∧ k a = some r) ∨ ∃ v, x = some (.inr v) ∧ inj v = r := by
  cases x with
  | none => cases h
  | some y =>
    cases y with
    | inl a => exact Or.inl ⟨a, rfl, h⟩
    | inr v => exact Or.inr ⟨v, rfl, Option.some.inj h⟩
theorem rAe {σ : MS} {k : Nat} {i v : Int32} (h : rA σ k i = some v) : vp_in i (mln k) ∧ gA σ k i.toNatClampNeg = v := by
  unfold rA at h
  by_cases c : i < 0 ∨ mln k ≤ i.toNatClampNeg
  · rw [if_pos c] at h; cases h
  · rw [if_neg c] at h; exact ⟨c, Option.some.inj h⟩
theorem wAe {σ σ' : MS} {k : Nat} {i v : Int32} (h : wA σ k i v = some σ') : vp_in i (mln k) ∧ sA σ k i.toNatClampNeg v = σ' := by
  unfold wA at h
  by_cases c : i < 0 ∨ mln k ≤ i.toNatClampNeg
  · rw [if_pos c] at h; cases h
  · rw [if_neg c] at h; exact ⟨c, Option.some.inj h⟩
theorem rJe {σ : MS} {k : Nat} {i : Int32} {v : Int64} (h : rJ σ k i = some v) : vp_in i (mln k) ∧ gJ σ k i.toNatClampNeg = v := by
  unfold rJ at h
  by_cases c : i < 0 ∨ mln k ≤ i.toNatClampNeg
  · rw [if_pos c] at h; cases h
  · rw [if_neg c] at h; exact ⟨c, Option.some.inj h⟩
theorem wJe {σ σ' : MS} {k : Nat} {i : Int32} {v : Int64} (h : wJ σ k i v = some σ') : vp_in i (mln k) ∧ sJ σ k i.toNatClampNeg v = σ' := by
  unfold wJ at h
  by_cases c : i < 0 ∨ mln k ≤ i.toNatClampNeg
  · rw [if_pos c] at h; cases h
  · rw [if_neg c] at h; exact ⟨c, Option.some.inj h⟩
theorem gBe {α : Type} {v : Int32} {x : Option α} {r : α} (h : gB v x = some r) : (v = 0 ∨ v = 1) ∧ x = some r := by
  unfold gB at h
  by_cases c : v = 0 ∨ v = 1
  · rw [if_pos c] at h; exact ⟨c, h⟩
  · rw [if_neg c] at h; cases h
theorem gZe {α : Type} {v : Int32} {x : Option α} {r : α} (h : gZ v x = some r) : ¬ v = 0 ∧ x = some r := by
  unfold gZ at h
  by_cases c : v = 0
  · rw [if_pos c] at h; cases h
  · rw [if_neg c] at h; exact ⟨c, h⟩
theorem gBn {v : Int32} (h : v = 0 ∨ v = 1) : narrow .boolean (.int v) = .int v := by
  rcases h with rfl | rfl <;> rfl
theorem gBf {v : Int32} (h : v = 0 ∨ v = 1) : fits .boolean (.int v) = true := by
  rcases h with rfl | rfl <;> rfl
/-! the Model's cells -/
abbrev mCl : List vw_C := [(RX5, TX5, 55)]
abbrev mTy (D : va_G) : List (ClassId × FieldType) := [(D.1 11, .int), (D.1 12, .byte), (D.1 13, .boolean), (D.1 14, .long)]
def mfv (ad : Nat → Nat) (σ : MS) (k : Nat) : Value := match mkd k with
  | 0 => .int (gI σ k)
  | 1 => .int (gI σ k)
  | 2 => .long (gL σ)
  | _ => .ref (ad k)
def mct (σ : MS) (k : Nat) (i : Nat) : Value := if mkd k = 6 then .long (gJ σ k i) else .int (gA σ k i)
def mFr (b : Nat) (ad : Nat → Nat) (q : Nat) : Prop := q = b ∨ ∃ k, k < 55 ∧ 3 ≤ mkd k ∧ q = ad k
def mDj (b : Nat) (ad : Nat → Nat) : Prop := (∀ k, k < 55 → 3 ≤ mkd k → ad k ≠ b) ∧ ∀ k j, k < 55 → j < 55 → 3 ≤ mkd k → 3 ≤ mkd j → ad k = ad j → k = j
def MP (D : va_G) (b : Nat) (ad : Nat → Nat) (σ : MS) (H : Heap) : Prop :=
  t_OB b (D.1 0) 55 (D.2 0) H (mfv ad σ) ∧ ∀ k, k < 55 → 3 ≤ mkd k → H[ad k]? = some (arrV (D.1 (8 + mkd k)) (mln k) (mct σ k))
def MI (D : va_G) (b : Nat) (ad : Nat → Nat) (σ : MS) (H0 H : Heap) (locs : List Loc) : Prop :=
  MP D b ad σ H ∧ mDj b ad ∧ H.size = H0.size ∧ (∀ q : Nat, ¬ mFr b ad q → H[q]? = H0[q]?) ∧ ∀ x ∈ locs, mFr b ad x.base
def mPc (D : va_G) (b : Nat) (ad : Nat → Nat) (As : List Value) (σ : MS) : Array Value → State → Prop := fun a U =>
  a = (Value.ref b :: As).toArray ∧ MP D b ad σ U.heap ∧ mDj b ad ∧ va_K D mCl (mTy D) U
def mQ (D : va_G) (b : Nat) (ad : Nat → Nat) (rv : Option Value) (σ : MS) : Array Value → State → Outcome → State → Prop := fun _ st o t =>
  o = .returned rv ∧ MP D b ad σ t.heap ∧ t.heap.size = st.heap.size ∧ ∀ q : Nat, ¬ mFr b ad q → t.heap[q]? = st.heap[q]?
/-- static methods of whole numbers -/
def sPc (As : List Value) : Array Value → State → Prop := fun a _ => a = As.toArray
def sQ (rv : Option Value) : Array Value → State → Outcome → State → Prop := fun _ st o t => o = .returned rv ∧ t.heap = st.heap
def sFr (_ : Nat) : Prop := False
theorem mPc_blind {D : va_G} {b : Nat} {ad : Nat → Nat} {As : List Value} {σ : MS} : FrameBlind (mPc D b ad As σ) := fun a U g mk q => by
  obtain ⟨q0, q1, q2, q3⟩ := q
  exact ⟨q0, q1, q2, va_K.moved (u := U) (U := U.calling g mk a) (Vm.Alike.refl U.vm) q3⟩
theorem sPc_blind {As : List Value} : FrameBlind (sPc As) := fun _ _ _ _ q => q
section MR
variable {p : Program} {l : Launch} {e : Env} {R : Room} {s : State} {m : MethodId} {args : Array Value} {below : List Frame} {meth : Method} {c : Code} {H : Heap} {locs : List Loc} {cells slots : Nat} {Q : State → Prop}
variable {cc : ByteArray} {pc nL : Nat} {ls : Array Slot} {rest : List Value} {D : va_G} {b : Nat} {ad : Nat → Nat} {σ σ' : MS} {H0 : Heap}
theorem mr_get (S : CallFix p m c cc nL s args lw_all RX5) (hK : va_K D mCl (mTy D) s) (hM : MI D b ad σ H0 H locs) {index : Nat} (k : Nat) (hk : k < 55) (hlink : Cond.fieldLink RX5 index (TX5 k).1 (TX5 k).2.1 (TX5 k).2.2.1 ∈ lw_all) (hdg : decode cc pc = .ok (.getfield index, 3)) {v : Value} (hv : mfv ad σ k = v)
    (kk : W p l e R s m args below meth c H locs cells slots Q (F0 m (pc + 3) ls (v :: rest))) : W p l e R s m args below meth c H locs cells slots Q (F0 m pc ls (.ref b :: rest)) := by
  obtain ⟨hx, hb, -, hown, hts⟩ := S
  obtain ⟨cell, q1, q2, q3, q4⟩ := hM.1.1
  obtain ⟨hS, hfc, kC, hkC, hkind⟩ := hK.1 0 _ rfl
  obtain ⟨cf, kf, fi, f, hi, hsl⟩ := hS k hk
  refine W.getf hx hb hown (hts _ hlink) hi (u_facts hfc hkC (u_lays hts in_X5 hk) hi).1 q1 (by rw [q3]; exact fun h => by cases h) (v := v) ?_ rfl rfl hdg kk
  rw [hsl, q4 k hk, hv]
theorem mMI_put {a k : Nat} {H1 : Heap} (hM : MI D b ad σ H0 H locs) (hP : MP D b ad σ' H1) (z : H1.size = H.size) (oq : ∀ q : Nat, q ≠ a → H1[q]? = H[q]?) (ha : mFr b ad a) : MI D b ad σ' H0 H1 (locs ++ [⟨a, k⟩]) := by
  obtain ⟨-, h2, h3, h4, h5⟩ := hM
  refine ⟨hP, h2, z.trans h3, fun q hq => ?_, fun x hx => ?_⟩
  · rw [oq q (fun e => hq (e ▸ ha))]
    exact h4 q hq
  · rcases List.mem_append.mp hx with h | h
    · exact h5 x h
    · rw [List.mem_singleton.mp h]; exact ha
theorem mr_put (S : CallFix p m c cc nL s args lw_all RX5) (hK : va_K D mCl (mTy D) s) (hM : MI D b ad σ H0 H locs) {index : Nat} (k : Nat) (hk : k < 55) (hlink : Cond.fieldLink RX5 index (TX5 k).1 (TX5 k).2.1 (TX5 k).2.2.1 ∈ lw_all) (hdg : decode cc pc = .ok (.putfield index, 3)) (hfin : (TX5 k).2.2.2 = false) {v : Value} (hn : narrow (tyX5 k) v = v) (hfit : fits (tyX5 k) v = true)
    (hv : ∀ j, j < 55 → mfv ad σ' j = updV (mfv ad σ) k v j) (hc : ∀ j, 3 ≤ mkd j → mct σ' j = mct σ j)
    (kk : ∀ (H1 : Heap) (locs1 : List Loc), MI D b ad σ' H0 H1 locs1 → W p l e R s m args below meth c H1 locs1 cells slots Q (F0 m (pc + 3) ls rest)) : W p l e R s m args below meth c H locs cells slots Q (F0 m pc ls (v :: .ref b :: rest)) := by
  obtain ⟨hx, hb, -, hown, hts⟩ := S
  have hap := va_apart (own := RX5) hts in_X5 tyX5 tyX5_ok nmX5 hK (ci := 0) rfl
  obtain ⟨cell, q1, q2, q3, q4⟩ := hM.1.1
  obtain ⟨hS, hfc, kC, hkC, hkind⟩ := hK.1 0 _ rfl
  obtain ⟨cf, kf, fi, f, hi, hsl⟩ := hS k hk
  have hlay := hts _ (in_X5 _ (u_in_lay hk))
  unfold u_lay at hlay
  rw [if_neg (by rw [hfin]; decide)] at hlay
  have hst := (u_facts hfc hkC (u_lays hts in_X5 hk) hi).1
  have h6 := u_store hfc hkC hkind hlay hi (tyX5_ok k hk) hn hfit
  refine W.putK hx hb (f := f) ⟨hown, hts _ hlink, ⟨_, _, _, hi⟩, hst⟩ (by rw [q2]; exact h6) q1 q3 (by rw [hsl]; exact k2_hasslot (q4 k hk)) rfl rfl hdg fun H' e1 e2 e3 => ?_
  rw [hsl] at e1 ⊢
  refine kk H' _ (mMI_put hM ⟨?_, fun j hj hj3 => ?_⟩ e2 e3 (Or.inl rfl))
  · exact t_OB.to (V := updV (mfv ad σ) k v) ⟨_, e1, q2, q3, t_set q4 hap hk v⟩ (fun j hj => (hv j hj).symm)
  · rw [e3 _ (hM.2.1.1 j hj hj3), hM.1.2 j hj hj3, hc j hj3]
theorem mr_iald (S : CallFix p m c cc nL s args lw_all RX5) (hK : va_K D mCl (mTy D) s) (hM : MI D b ad σ H0 H locs) (k : Nat) (hk : k < 55) (hkd : mkd k = 3) {i : Int32} {v : Int32} (hv : rA σ k i = some v) (hdg : decode cc pc = .ok (.iaload, 1))
    (kk : W p l e R s m args below meth c H locs cells slots Q (F0 m (pc + 1) ls (.int v :: rest))) : W p l e R s m args below meth c H locs cells slots Q (F0 m pc ls (.int i :: .ref (ad k) :: rest)) := by
  obtain ⟨hin, rfl⟩ := rAe hv
  have hlt : i.toNatClampNeg < mln k := Nat.not_le.mp fun q => hin (Or.inr q)
  have hcell := hM.1.2 k hk (by rw [hkd]; decide)
  rw [hkd] at hcell
  refine W.iald S.1 S.2.1 hcell ((hK.2 0 _ rfl).1 (mln k) (mct σ k)) (fun q => by cases q) (by show ¬ (i < 0 ∨ (arrV _ _ _).slots.size ≤ _); rw [arrV_size]; exact hin) (by show (arrV _ _ _).slots[_]? = _; rw [arrV_read _ _ hlt]) rfl rfl hdg ?_
  have e : mct σ k i.toNatClampNeg = .int (gA σ k i.toNatClampNeg) := by unfold mct; rw [hkd]; rfl
  rw [e]
  exact kk
theorem mr_bald (S : CallFix p m c cc nL s args lw_all RX5) (hK : va_K D mCl (mTy D) s) (hM : MI D b ad σ H0 H locs) (k : Nat) (hk : k < 55) (hkd : mkd k = 4) {i : Int32} {v : Int32} (hv : rA σ k i = some v) (hdg : decode cc pc = .ok (.baload, 1))
    (kk : W p l e R s m args below meth c H locs cells slots Q (F0 m (pc + 1) ls (.int v :: rest))) : W p l e R s m args below meth c H locs cells slots Q (F0 m pc ls (.int i :: .ref (ad k) :: rest)) := by
  obtain ⟨hin, rfl⟩ := rAe hv
  have hlt : i.toNatClampNeg < mln k := Nat.not_le.mp fun q => hin (Or.inr q)
  have hcell := hM.1.2 k hk (by rw [hkd]; decide)
  rw [hkd] at hcell
  refine W.bald S.1 S.2.1 hcell ((hK.2 1 _ rfl).1 (mln k) (mct σ k)) (fun q => by cases q) (by show ¬ (i < 0 ∨ (arrV _ _ _).slots.size ≤ _); rw [arrV_size]; exact hin) (by show (arrV _ _ _).slots[_]? = _; rw [arrV_read _ _ hlt]) rfl rfl hdg ?_
  have e : mct σ k i.toNatClampNeg = .int (gA σ k i.toNatClampNeg) := by unfold mct; rw [hkd]; rfl
  rw [e]
  exact kk
theorem mr_zald (S : CallFix p m c cc nL s args lw_all RX5) (hK : va_K D mCl (mTy D) s) (hM : MI D b ad σ H0 H locs) (k : Nat) (hk : k < 55) (hkd : mkd k = 5) {i : Int32} {v : Int32} (hv : rA σ k i = some v) (hdg : decode cc pc = .ok (.baload, 1))
    (kk : W p l e R s m args below meth c H locs cells slots Q (F0 m (pc + 1) ls (.int v :: rest))) : W p l e R s m args below meth c H locs cells slots Q (F0 m pc ls (.int i :: .ref (ad k) :: rest)) := by
  obtain ⟨hin, rfl⟩ := rAe hv
  have hlt : i.toNatClampNeg < mln k := Nat.not_le.mp fun q => hin (Or.inr q)
  have hcell := hM.1.2 k hk (by rw [hkd]; decide)
  rw [hkd] at hcell
  refine W.zald S.1 S.2.1 hcell ((hK.2 2 _ rfl).1 (mln k) (mct σ k)) (fun q => by cases q) (by show ¬ (i < 0 ∨ (arrV _ _ _).slots.size ≤ _); rw [arrV_size]; exact hin) (by show (arrV _ _ _).slots[_]? = _; rw [arrV_read _ _ hlt]) rfl rfl hdg ?_
  have e : mct σ k i.toNatClampNeg = .int (gA σ k i.toNatClampNeg) := by unfold mct; rw [hkd]; rfl
  rw [e]
  exact kk
theorem mr_lald (S : CallFix p m c cc nL s args lw_all RX5) (hK : va_K D mCl (mTy D) s) (hM : MI D b ad σ H0 H locs) (k : Nat) (hk : k < 55) (hkd : mkd k = 6) {i : Int32} {v : Int64} (hv : rJ σ k i = some v) (hdg : decode cc pc = .ok (.laload, 1))
    (kk : W p l e R s m args below meth c H locs cells slots Q (F0 m (pc + 1) ls (.long v :: rest))) : W p l e R s m args below meth c H locs cells slots Q (F0 m pc ls (.int i :: .ref (ad k) :: rest)) := by
  obtain ⟨hin, rfl⟩ := rJe hv
  have hlt : i.toNatClampNeg < mln k := Nat.not_le.mp fun q => hin (Or.inr q)
  have hcell := hM.1.2 k hk (by rw [hkd]; decide)
  rw [hkd] at hcell
  refine W.lald S.1 S.2.1 hcell ((hK.2 3 _ rfl).1 (mln k) (mct σ k)) (fun q => by cases q) (by show ¬ (i < 0 ∨ (arrV _ _ _).slots.size ≤ _); rw [arrV_size]; exact hin) (by show (arrV _ _ _).slots[_]? = _; rw [arrV_read _ _ hlt]) rfl rfl hdg ?_
  have e : mct σ k i.toNatClampNeg = .long (gJ σ k i.toNatClampNeg) := by unfold mct; rw [hkd]; rfl
  rw [e]
  exact kk
theorem mr_iast (S : CallFix p m c cc nL s args lw_all RX5) (hK : va_K D mCl (mTy D) s) (hM : MI D b ad σ H0 H locs) (k : Nat) (hk : k < 55) (hkd : mkd k = 3) {i : Int32} {x : Int32} (hv : wA σ k i x = some σ') (hdg : decode cc pc = .ok (.iastore, 1))
    (kk : ∀ (H1 : Heap) (locs1 : List Loc), MI D b ad σ' H0 H1 locs1 → W p l e R s m args below meth c H1 locs1 cells slots Q (F0 m (pc + 1) ls rest)) : W p l e R s m args below meth c H locs cells slots Q (F0 m pc ls (.int x :: .int i :: .ref (ad k) :: rest)) := by
  obtain ⟨hin, rfl⟩ := wAe hv
  have h3 : 3 ≤ mkd k := by rw [hkd]; decide
  have hcell := hM.1.2 k hk h3
  rw [hkd] at hcell
  refine W.iast S.1 S.2.1 hcell ((hK.2 0 _ rfl).1 (mln k) (mct σ k)) (fun q => by cases q) (by show ¬ (i < 0 ∨ (arrV _ _ _).slots.size ≤ _); rw [arrV_size]; exact hin) rfl rfl hdg fun H1 e z oq => ?_
  refine kk H1 _ (mMI_put hM ⟨?_, fun j hj hj3 => ?_⟩ z oq (Or.inr ⟨k, hk, h3, rfl⟩))
  · obtain ⟨cell, q1, q2, q3, q4⟩ := hM.1.1
    exact ⟨cell, by rw [oq b (fun e => hM.2.1.1 k hk h3 e.symm)]; exact q1, q2, q3, q4⟩
  · by_cases hjk : j = k
    · subst hjk
      rw [e, hkd]
      show some ((arrV _ _ _).setSlot _ _) = _
      rw [arrV_store]
      congr 2
      funext q
      by_cases hq : q = i.toNatClampNeg
      · subst hq
        simp [updV, mct, hkd, gA_sA]
        try rfl
      · simp [updV, mct, hkd, gA_sA, hq]
    · rw [oq _ (fun e => hjk (hM.2.1.2 j k hj hk hj3 h3 e)), hM.1.2 j hj hj3]
      congr 2
      funext q
      simp [mct, gA_sA, gJ_sA, hjk]
theorem mr_bast (S : CallFix p m c cc nL s args lw_all RX5) (hK : va_K D mCl (mTy D) s) (hM : MI D b ad σ H0 H locs) (k : Nat) (hk : k < 55) (hkd : mkd k = 4) {i : Int32} {x : Int32} (hv : wA σ k i (vp_nar .byte x) = some σ') (hdg : decode cc pc = .ok (.bastore, 1))
    (kk : ∀ (H1 : Heap) (locs1 : List Loc), MI D b ad σ' H0 H1 locs1 → W p l e R s m args below meth c H1 locs1 cells slots Q (F0 m (pc + 1) ls rest)) : W p l e R s m args below meth c H locs cells slots Q (F0 m pc ls (.int x :: .int i :: .ref (ad k) :: rest)) := by
  obtain ⟨hin, rfl⟩ := wAe hv
  have h3 : 3 ≤ mkd k := by rw [hkd]; decide
  have hcell := hM.1.2 k hk h3
  rw [hkd] at hcell
  refine W.bast S.1 S.2.1 hcell ((hK.2 1 _ rfl).1 (mln k) (mct σ k)) (fun q => by cases q) (by show ¬ (i < 0 ∨ (arrV _ _ _).slots.size ≤ _); rw [arrV_size]; exact hin) rfl rfl hdg fun H1 e z oq => ?_
  refine kk H1 _ (mMI_put hM ⟨?_, fun j hj hj3 => ?_⟩ z oq (Or.inr ⟨k, hk, h3, rfl⟩))
  · obtain ⟨cell, q1, q2, q3, q4⟩ := hM.1.1
    exact ⟨cell, by rw [oq b (fun e => hM.2.1.1 k hk h3 e.symm)]; exact q1, q2, q3, q4⟩
  · by_cases hjk : j = k
    · subst hjk
      rw [e, hkd]
      show some ((arrV _ _ _).setSlot _ _) = _
      rw [arrV_store]
      congr 2
      funext q
      by_cases hq : q = i.toNatClampNeg
      · subst hq
        simp [updV, mct, hkd, gA_sA, vp_nar]
        try rfl
      · simp [updV, mct, hkd, gA_sA, hq]
    · rw [oq _ (fun e => hjk (hM.2.1.2 j k hj hk hj3 h3 e)), hM.1.2 j hj hj3]
      congr 2
      funext q
      simp [mct, gA_sA, gJ_sA, hjk]
theorem mr_zast (S : CallFix p m c cc nL s args lw_all RX5) (hK : va_K D mCl (mTy D) s) (hM : MI D b ad σ H0 H locs) (k : Nat) (hk : k < 55) (hkd : mkd k = 5) {i : Int32} {x : Int32} (hv : wA σ k i (vp_nar .boolean x) = some σ') (hdg : decode cc pc = .ok (.bastore, 1))
    (kk : ∀ (H1 : Heap) (locs1 : List Loc), MI D b ad σ' H0 H1 locs1 → W p l e R s m args below meth c H1 locs1 cells slots Q (F0 m (pc + 1) ls rest)) : W p l e R s m args below meth c H locs cells slots Q (F0 m pc ls (.int x :: .int i :: .ref (ad k) :: rest)) := by
  obtain ⟨hin, rfl⟩ := wAe hv
  have h3 : 3 ≤ mkd k := by rw [hkd]; decide
  have hcell := hM.1.2 k hk h3
  rw [hkd] at hcell
  refine W.zast S.1 S.2.1 hcell ((hK.2 2 _ rfl).1 (mln k) (mct σ k)) (fun q => by cases q) (by show ¬ (i < 0 ∨ (arrV _ _ _).slots.size ≤ _); rw [arrV_size]; exact hin) rfl rfl hdg fun H1 e z oq => ?_
  refine kk H1 _ (mMI_put hM ⟨?_, fun j hj hj3 => ?_⟩ z oq (Or.inr ⟨k, hk, h3, rfl⟩))
  · obtain ⟨cell, q1, q2, q3, q4⟩ := hM.1.1
    exact ⟨cell, by rw [oq b (fun e => hM.2.1.1 k hk h3 e.symm)]; exact q1, q2, q3, q4⟩
  · by_cases hjk : j = k
    · subst hjk
      rw [e, hkd]
      show some ((arrV _ _ _).setSlot _ _) = _
      rw [arrV_store]
      congr 2
      funext q
      by_cases hq : q = i.toNatClampNeg
      · subst hq
        simp [updV, mct, hkd, gA_sA, vp_nar]
        try rfl
      · simp [updV, mct, hkd, gA_sA, hq]
    · rw [oq _ (fun e => hjk (hM.2.1.2 j k hj hk hj3 h3 e)), hM.1.2 j hj hj3]
      congr 2
      funext q
      simp [mct, gA_sA, gJ_sA, hjk]
theorem mr_last (S : CallFix p m c cc nL s args lw_all RX5) (hK : va_K D mCl (mTy D) s) (hM : MI D b ad σ H0 H locs) (k : Nat) (hk : k < 55) (hkd : mkd k = 6) {i : Int32} {x : Int64} (hv : wJ σ k i x = some σ') (hdg : decode cc pc = .ok (.lastore, 1))
    (kk : ∀ (H1 : Heap) (locs1 : List Loc), MI D b ad σ' H0 H1 locs1 → W p l e R s m args below meth c H1 locs1 cells slots Q (F0 m (pc + 1) ls rest)) : W p l e R s m args below meth c H locs cells slots Q (F0 m pc ls (.long x :: .int i :: .ref (ad k) :: rest)) := by
  obtain ⟨hin, rfl⟩ := wJe hv
  have h3 : 3 ≤ mkd k := by rw [hkd]; decide
  have hcell := hM.1.2 k hk h3
  rw [hkd] at hcell
  refine W.last S.1 S.2.1 hcell ((hK.2 3 _ rfl).1 (mln k) (mct σ k)) (fun q => by cases q) (by show ¬ (i < 0 ∨ (arrV _ _ _).slots.size ≤ _); rw [arrV_size]; exact hin) rfl rfl hdg fun H1 e z oq => ?_
  refine kk H1 _ (mMI_put hM ⟨?_, fun j hj hj3 => ?_⟩ z oq (Or.inr ⟨k, hk, h3, rfl⟩))
  · obtain ⟨cell, q1, q2, q3, q4⟩ := hM.1.1
    exact ⟨cell, by rw [oq b (fun e => hM.2.1.1 k hk h3 e.symm)]; exact q1, q2, q3, q4⟩
  · by_cases hjk : j = k
    · subst hjk
      rw [e, hkd]
      show some ((arrV _ _ _).setSlot _ _) = _
      rw [arrV_store]
      congr 2
      funext q
      by_cases hq : q = i.toNatClampNeg
      · subst hq
        simp [updV, mct, hkd, gJ_sJ]
        try rfl
      · simp [updV, mct, hkd, gJ_sJ, hq]
    · rw [oq _ (fun e => hjk (hM.2.1.2 j k hj hk hj3 h3 e)), hM.1.2 j hj hj3]
      congr 2
      funext q
      simp [mct, gJ_sJ, gA_sJ, hjk]
theorem mfv_sI (k : Nat) (hk : mkd k < 2) (v : Int32) : ∀ j, j < 55 → mfv ad (sI σ k v) j = updV (mfv ad σ) k (.int v) j := by
  intro j _
  unfold updV mfv
  by_cases h : j = k
  · subst h
    rw [if_pos rfl]
    have : mkd j = 0 ∨ mkd j = 1 := by omega
    rcases this with h | h <;> rw [h] <;> simp [gI_sI]
  · rw [if_neg h]
    simp only [gI_sI, if_neg h, gL_sI]
theorem mfv_sL (v : Int64) : ∀ j, j < 55 → mfv ad (sL σ v) j = updV (mfv ad σ) 17 (.long v) j := by
  intro j _
  unfold updV mfv
  by_cases h : j = 17
  · subst h; rfl
  · rw [if_neg h]
    have h2 : mkd j ≠ 2 := by
      intro q
      unfold mkd at q
      split at q <;> simp_all
    split <;> simp_all [gI_sL]
/-- an int field written -/
theorem mr_puti (S : CallFix p m c cc nL s args lw_all RX5) (hK : va_K D mCl (mTy D) s) (hM : MI D b ad σ H0 H locs) {index : Nat} (k : Nat) (hk : k < 55) (hlink : Cond.fieldLink RX5 index (TX5 k).1 (TX5 k).2.1 (TX5 k).2.2.1 ∈ lw_all) (hdg : decode cc pc = .ok (.putfield index, 3)) (hfin : (TX5 k).2.2.2 = false) (ht : tyX5 k = .int) (hkd : mkd k = 0) {v : Int32}
    (kk : ∀ (H1 : Heap) (locs1 : List Loc), MI D b ad (sI σ k v) H0 H1 locs1 → W p l e R s m args below meth c H1 locs1 cells slots Q (F0 m (pc + 3) ls rest)) : W p l e R s m args below meth c H locs cells slots Q (F0 m pc ls (.int v :: .ref b :: rest)) :=
  mr_put S hK hM k hk hlink hdg hfin (by rw [ht]; rfl) (by rw [ht]; rfl) (mfv_sI k (by rw [hkd]; decide) v) (fun _ _ => rfl) kk
theorem mr_putz (S : CallFix p m c cc nL s args lw_all RX5) (hK : va_K D mCl (mTy D) s) (hM : MI D b ad σ H0 H locs) {index : Nat} (k : Nat) (hk : k < 55) (hlink : Cond.fieldLink RX5 index (TX5 k).1 (TX5 k).2.1 (TX5 k).2.2.1 ∈ lw_all) (hdg : decode cc pc = .ok (.putfield index, 3)) (hfin : (TX5 k).2.2.2 = false) (ht : tyX5 k = .boolean) (hkd : mkd k = 1) {v : Int32} (hv : v = 0 ∨ v = 1)
    (kk : ∀ (H1 : Heap) (locs1 : List Loc), MI D b ad (sI σ k v) H0 H1 locs1 → W p l e R s m args below meth c H1 locs1 cells slots Q (F0 m (pc + 3) ls rest)) : W p l e R s m args below meth c H locs cells slots Q (F0 m pc ls (.int v :: .ref b :: rest)) :=
  mr_put S hK hM k hk hlink hdg hfin (by rw [ht]; exact gBn hv) (by rw [ht]; exact gBf hv) (mfv_sI k (by rw [hkd]; decide) v) (fun _ _ => rfl) kk
theorem mr_putl (S : CallFix p m c cc nL s args lw_all RX5) (hK : va_K D mCl (mTy D) s) (hM : MI D b ad σ H0 H locs) {index : Nat} (hlink : Cond.fieldLink RX5 index (TX5 17).1 (TX5 17).2.1 (TX5 17).2.2.1 ∈ lw_all) (hdg : decode cc pc = .ok (.putfield index, 3)) {v : Int64}
    (kk : ∀ (H1 : Heap) (locs1 : List Loc), MI D b ad (sL σ v) H0 H1 locs1 → W p l e R s m args below meth c H1 locs1 cells slots Q (F0 m (pc + 3) ls rest)) : W p l e R s m args below meth c H locs cells slots Q (F0 m pc ls (.long v :: .ref b :: rest)) :=
  mr_put S hK hM 17 (by decide) hlink hdg rfl rfl rfl (mfv_sL v) (fun _ _ => rfl) kk
/-- the Model's own call of one of its methods -/
theorem mr_cv {y : MethodName} {bytes : ByteArray} {maxL n index : Nat} {ret : Option FieldType} {rm : Room} {rv : Option Value} {As : List Value} {st0 : List Value} (S : CallFix p m c cc nL s args lw_all RX5) (hK : va_K D mCl (mTy D) s) (hM : MI D b ad σ H0 H locs)
    (hMet : Met l y (ws_ y bytes maxL ret) rm (mPc D b ad As σ) (mQ D b ad rv σ') 0 0 (mFr b ad)) (hV : GoodIn lw_all (wsV RX5 index RX5 y (ws_ y bytes maxL ret))) (hd : y.cls = RX5 ∧ y.cls ≠ "java/lang/invoke/MethodHandle" ∧ y.cls ≠ "java/lang/invoke/VarHandle" ∧ (parseMethodDescriptor y.desc).map (fun d => d.parameters.length) = some n)
    (hrm : rm.cells = 0 ∧ rm.slots = 0 ∧ rm.frames + 1 ≤ R.frames ∧ 8 + (maxL + 11) + rm.locals ≤ R.locals) (hn : As.length = n) (hsize : ls.size = nL) (hst : st0 = As.reverse ++ .ref b :: rest) (hW : (rest.map fun v => v.category).sum ≤ 8) (hdg : decode cc pc = .ok (.invokevirtual index, 3)) (hf : cells ≤ R.cells ∧ slots ≤ R.slots)
    (kk : ∀ (H1 : Heap) (locs1 : List Loc), MI D b ad σ' H0 H1 locs1 → W p l e R s m args below meth c H1 locs1 cells slots Q (F0 m (pc + 3) ls (rv.toList ++ rest))) : W p l e R s m args below meth c H locs cells slots Q (F0 m pc ls st0) := by
  subst hst
  obtain ⟨hP, hDj, hsz, hfr, hlc⟩ := hM
  have hcl : ∃ cellB : Cell, H[b]? = some cellB ∧ cellB.vm.isStatics = false ∧ s.vm.findClass RX5 = some cellB.cls := by
    obtain ⟨cell, q1, q2, q3, -⟩ := hP.1
    obtain ⟨-, hfc, -⟩ := hK.1 0 _ rfl
    exact ⟨cell, q1, by rw [q3]; rfl, by rw [q2]; exact hfc⟩
  have hr := va_runV (p := p) (e := e) (below := below) (meth := meth) (locs := locs) (cells := cells) (slots := slots) (g := F0 m pc ls (As.reverse ++ .ref b :: rest)) S hMet (cwV n S.2.2.2.2 hV rfl hrm.1 hrm.2.1 hd hrm.2.2) ⟨mPc_blind, hcl, fun U hU hW => ⟨rfl, by rw [hU]; exact hP, hDj, va_K.moved hW.alike hK⟩⟩ rfl hn hsize rfl (lv_room hW) hdg ⟨hf.1, hf.2⟩
  intro T hT X
  obtain ⟨v, st₀, t, T', L, h0, X', hL, e1, e2, ⟨hv, hP1, hz, hk⟩, st⟩ := hr T hT X
  cases hv
  rw [h0] at hz hk
  obtain ⟨t2, a1, b1⟩ := kk T'.heap (locs ++ L) ⟨by rw [e1]; exact hP1, hDj, by rw [e1, hz, hsz], fun q hq => by rw [e1, hk q hq, hfr q hq], fun x hx => (List.mem_append.mp hx).elim (hlc x) (hL x)⟩ T' rfl X'
  exact ⟨t2, st t2 a1, b1⟩
/-- a static method of whole numbers -/
theorem mr_cs {own : String} {y : MethodName} {bytes : ByteArray} {maxL n index : Nat} {ret : Option FieldType} {rm : Room} {rv : Option Value} {As : List Value} {st0 : List Value} (S : CallFix p m c cc nL s args lw_all own)
    (hMet : Met l y (ws_ y bytes maxL ret) rm (sPc As) (sQ rv) 0 0 sFr) (hV : GoodIn lw_all (va_wsS own index y (ws_ y bytes maxL ret))) (hd : y.cls ≠ "java/lang/invoke/MethodHandle" ∧ y.cls ≠ "java/lang/invoke/VarHandle" ∧ (parseMethodDescriptor y.desc).map (fun d => d.parameters.length) = some n)
    (hrm : rm.cells = 0 ∧ rm.slots = 0 ∧ rm.frames + 1 ≤ R.frames ∧ 8 + (maxL + 11) + rm.locals ≤ R.locals) (hn : As.length = n) (hsize : ls.size = nL) (hst : st0 = As.reverse ++ rest) (hW : (rest.map fun v => v.category).sum ≤ 8) (hdg : decode cc pc = .ok (.invokestatic index, 3)) (hf : cells ≤ R.cells ∧ slots ≤ R.slots)
    (kk : W p l e R s m args below meth c H locs cells slots Q (F0 m (pc + 3) ls (rv.toList ++ rest))) : W p l e R s m args below meth c H locs cells slots Q (F0 m pc ls st0) := by
  subst hst
  have hr := va_runS (p := p) (e := e) (below := below) (meth := meth) (H := H) (locs := locs) (cells := cells) (slots := slots) (g := F0 m pc ls (As.reverse ++ rest)) S hMet (va_cwS n S.2.2.2.2 hV rfl hrm.1 hrm.2.1 hd hrm.2.2) ⟨sPc_blind, fun U hU hW => rfl⟩ rfl hn hsize rfl (lv_room hW) hdg ⟨hf.1, hf.2⟩
  intro T hT X
  obtain ⟨v, st₀, t, T', L, h0, X', hL, e1, e2, ⟨hv, hh⟩, st⟩ := hr T hT X
  cases hv
  have hL0 : L = [] := by
    cases L with
    | nil => rfl
    | cons x xs => exact (hL x List.mem_cons_self).elim
  subst hL0
  rw [List.append_nil] at X'
  obtain ⟨t2, a1, b1⟩ := kk T' (by rw [e1, hh, h0]) X'
  exact ⟨t2, st t2 a1, b1⟩
theorem mMI_q {t : State} {rv : Option Value} {args : Array Value} (hM : MI D b ad σ s.heap H locs) (ht : t.heap = H) : mQ D b ad rv σ args s (.returned rv) t :=
  ⟨rfl, by rw [ht]; exact hM.1, by rw [ht]; exact hM.2.2.1, fun q hq => by rw [ht]; exact hM.2.2.2.1 q hq⟩
theorem mr_ri {v : Int32} (S : CallFix p m c cc nL s args lw_all RX5) (hM : MI D b ad σ s.heap H locs) (hr : meth.sig.returnType = some .int) (hlocks : meth.locks = false) (hdg : decode cc pc = .ok (.ireturn, 1)) : W p l e R s m args below meth c H locs cells slots (MQ below (mQ D b ad (some (.int v)) σ) args s cells slots (mFr b ad)) (F0 m pc ls [.int v]) :=
  W.iret S.1 S.2.1 hr (fun t ht _ => mMI_q hM ht) hM.2.2.2.2 hdg
theorem mr_rz {v : Int32} (S : CallFix p m c cc nL s args lw_all RX5) (hM : MI D b ad σ s.heap H locs) (hr : meth.sig.returnType = some .boolean) (hlocks : meth.locks = false) (hv : v = 0 ∨ v = 1) (hdg : decode cc pc = .ok (.ireturn, 1)) : W p l e R s m args below meth c H locs cells slots (MQ below (mQ D b ad (some (.int v)) σ) args s cells slots (mFr b ad)) (F0 m pc ls [.int v]) :=
  W.zret S.1 S.2.1 hr (gBn hv) (fun t ht _ => mMI_q hM ht) hM.2.2.2.2 hdg
theorem mr_rv (S : CallFix p m c cc nL s args lw_all RX5) (hM : MI D b ad σ s.heap H locs) (hr : meth.sig.returnType = none) (hlocks : meth.locks = false) (hdg : decode cc pc = .ok (.return_, 1)) : W p l e R s m args below meth c H locs cells slots (MQ below (mQ D b ad none σ) args s cells slots (mFr b ad)) (F0 m pc ls []) :=
  W.vret S.1 S.2.1 hr (fun t ht _ => mMI_q hM ht) hM.2.2.2.2 hdg
theorem mr_si {own : String} {v : Int32} (S : CallFix p m c cc nL s args lw_all own) (hr : meth.sig.returnType = some .int) (hlocks : meth.locks = false) (hdg : decode cc pc = .ok (.ireturn, 1)) : W p l e R s m args below meth c s.heap [] cells slots (MQ below (sQ (some (.int v))) args s cells slots sFr) (F0 m pc ls [.int v]) :=
  W.iret S.1 S.2.1 hr (fun t ht _ => ⟨rfl, ht⟩) (fun _ h => by cases h) hdg
theorem mr_sz {own : String} {v : Int32} (S : CallFix p m c cc nL s args lw_all own) (hr : meth.sig.returnType = some .boolean) (hlocks : meth.locks = false) (hv : v = 0 ∨ v = 1) (hdg : decode cc pc = .ok (.ireturn, 1)) : W p l e R s m args below meth c s.heap [] cells slots (MQ below (sQ (some (.int v))) args s cells slots sFr) (F0 m pc ls [.int v]) :=
  W.zret S.1 S.2.1 hr (gBn hv) (fun t ht _ => ⟨rfl, ht⟩) (fun _ h => by cases h) hdg
theorem gB0 : (0 : Int32) = 0 ∨ (0 : Int32) = 1 := Or.inl rfl
theorem gB1 : (1 : Int32) = 0 ∨ (1 : Int32) = 1 := Or.inr rfl
end MR
