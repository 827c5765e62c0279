/-! a house: cells that are not written any more, and what they hold (F: the Model's numbers 0..428, nm: its names) -/
def encs (w : Int64) (c : Nat) : Int64 := (w <<< ((8 : Int32).toInt64 &&& 63)) ||| ((nI c).toInt64)
def enc (l : List Nat) : Int64 := l.foldl encs 0
/-- a cell that is written no more -/
def imm (b z q : Nat) : Prop := q < z ∧ (q < b ∨ b + 18420 ≤ q ∨ (b + 2 ≤ q ∧ q < b + 8))
def rf (h : HS) (a k : Nat) : Nat := (kR h a k).getD 0
def isr (h : HS) (a k : Nat) : Prop := kR h a k = some (rf h a k)
def le (h : HS) (l i : Nat) : Nat := rf h (rf h l 1) i
def okW (l : List Nat) : Prop := 1 ≤ l.length ∧ l.length ≤ 7 ∧ ∀ c ∈ l, 97 ≤ c ∧ c ≤ 122
def StrR (h : HS) (g : Nat → Nat → Int32) (b q : Nat) (l : List Nat) : Prop := imm b (kZ h) q ∧ kT h q = 17 ∧ isr h q 0 ∧ imm b (kZ h) (rf h q 0) ∧ kT h (rf h q 0) = 32 ∧ kN h (rf h q 0) = l.length ∧ g q 1 = 0 ∧ ∀ i, i < l.length → g (rf h q 0) i = nI (l.getD i 0)
def StrW (h : HS) (g : Nat → Nat → Int32) (b q : Nat) (w : Int64) : Prop := ∃ l, okW l ∧ StrR h g b q l ∧ w = enc l
def LstR (h : HS) (g : Nat → Nat → Int32) (b l n : Nat) : Prop := imm b (kZ h) l ∧ kT h l = 15 ∧ isr h l 1 ∧ (imm b (kZ h) (rf h l 1) ∧ kT h (rf h l 1) = 39 ∧ n ≤ kN h (rf h l 1) ∧ kN h (rf h l 1) < 2147483648) ∧ g l 2 = nI n ∧ ∀ i, i < n → isr h (rf h l 1) i ∧ imm b (kZ h) (le h l i)
def tuf (F : Nat → Nat) (t : Nat) : Prop := t % 12 < F 0 ∧ t / 12 < F 1
def dirB (x y : Nat) : Int32 := if y + 12 = x then 0 else if y = x + 1 then 1 else if y = x + 12 then 2 else 3
def dirM (F : Nat → Nat) (w i : Nat) : Int32 := if F (177 + w) = 1 then 0 else if i + 1 < F (177 + w) then dirB (F (183 + 41 * w + i)) (F (183 + 41 * w + i + 1)) else dirB (F (183 + 41 * w + i - 1)) (F (183 + 41 * w + i))
def HOK (F : Nat → Nat) : Prop := (F 0 ≤ 12 ∧ F 1 ≤ 12 ∧ F 2 ≤ 6 ∧ F 3 ≤ 6 ∧ F 4 ≤ 30 ∧ F 5 ≤ 8 ∧ 1 ≤ F 6 ∧ F 6 ≤ 9) ∧ (∀ p, p < F 2 → 1 ≤ F (7 + p) ∧ F (7 + p) ≤ 9 ∧ F (13 + p) ≤ 9 ∧ 1 ≤ F (19 + p) ∧ F (19 + p) ≤ 9) ∧ (∀ p, F 2 ≤ p → p < 6 → F (7 + p) = 0) ∧ (∀ t, t < 144 → F (25 + t) ≤ 1) ∧
  (∀ k, k < F 5 → tuf F (F (169 + k))) ∧ (∀ w, w < F 3 → 1 ≤ F (177 + w) ∧ F (177 + w) ≤ 41 ∧ ∀ i, i < F (177 + w) → tuf F (F (183 + 41 * w + i)))
def HouR (h : HS) (g : Nat → Nat → Int32) (b a : Nat) (F : Nat → Nat) (nm : Nat → Int64) : Prop :=
  HOK F ∧ imm b (kZ h) a ∧ kT h a = 2 ∧ (∀ k, 5 ≤ k → k ≤ 9 → isr h a k) ∧ (g a 0 = nI (F 0) ∧ g a 1 = nI (F 1) ∧ g a 2 = nI (F 6) ∧ g a 4 = nI (F 4)) ∧ LstR h g b (rf h a 5) (F 2) ∧ LstR h g b (rf h a 6) (F 3) ∧ LstR h g b (rf h a 7) (F 5) ∧
  (∀ p, p < F 2 → kT h (le h (rf h a 5) p) = 9 ∧ g (le h (rf h a 5) p) 1 = nI (F (7 + p)) ∧ g (le h (rf h a 5) p) 2 = nI (F (13 + p)) ∧ g (le h (rf h a 5) p) 3 = nI (F (19 + p)) ∧ isr h (le h (rf h a 5) p) 0 ∧ StrW h g b (rf h (le h (rf h a 5) p) 0) (nm p)) ∧
  (∀ w, w < F 3 → kT h (le h (rf h a 6) w) = 10 ∧ g (le h (rf h a 6) w) 3 = nI (F (177 + w) - 1) ∧ isr h (le h (rf h a 6) w) 1 ∧ isr h (le h (rf h a 6) w) 2 ∧ (imm b (kZ h) (rf h (le h (rf h a 6) w) 1) ∧ kT h (rf h (le h (rf h a 6) w) 1) = 31 ∧ kN h (rf h (le h (rf h a 6) w) 1) = 41) ∧ (imm b (kZ h) (rf h (le h (rf h a 6) w) 2) ∧ kT h (rf h (le h (rf h a 6) w) 2) = 31 ∧ kN h (rf h (le h (rf h a 6) w) 2) = 41) ∧
    (∀ i, i < F (177 + w) → g (rf h (le h (rf h a 6) w) 1) i = nI (F (183 + 41 * w + i)) ∧ g (rf h (le h (rf h a 6) w) 2) i = dirM F w i) ∧ isr h (le h (rf h a 6) w) 0 ∧ StrW h g b (rf h (le h (rf h a 6) w) 0) (nm (6 + w))) ∧
  (∀ k, k < F 5 → kT h (le h (rf h a 7) k) = 18 ∧ g (le h (rf h a 7) k) 0 = nI (F (169 + k))) ∧
  (imm b (kZ h) (rf h a 8) ∧ kT h (rf h a 8) = 33 ∧ kN h (rf h a 8) = 144 ∧ ∀ t, t < 144 → g (rf h a 8) t = nI (F (25 + t))) ∧
  (imm b (kZ h) (rf h a 9) ∧ kT h (rf h a 9) = 33 ∧ kN h (rf h a 9) = 144 ∧ ∀ t, t < 144 → (g (rf h a 9) t = 1 ∧ ∃ k, k < F 5 ∧ F (169 + k) = t) ∨ (g (rf h a 9) t = 0 ∧ ∀ k, k < F 5 → F (169 + k) ≠ t))
/-- what a later heap keeps of the cells that are written no more -/
def kept (b : Nat) (h h' : HS) (g g' : Nat → Nat → Int32) : Prop := kZ h ≤ kZ h' ∧ ∀ q, imm b (kZ h) q → kT h' q = kT h q ∧ kN h' q = kN h q ∧ kR h' q = kR h q ∧ g' q = g q
theorem imm.up {b z z' q : Nat} (h : imm b z q) (hz : z ≤ z') : imm b z' q := ⟨by have := h.1; omega, h.2⟩
section KEP
variable {b : Nat} {h h' : HS} {g g' : Nat → Nat → Int32}
theorem kept.refl : kept b h h g g := ⟨Nat.le_refl _, fun _ _ => ⟨rfl, rfl, rfl, rfl⟩⟩
theorem kept.trans {h2 : HS} {g2 : Nat → Nat → Int32} (k1 : kept b h h' g g') (k2 : kept b h' h2 g' g2) : kept b h h2 g g2 := ⟨Nat.le_trans k1.1 k2.1, fun q hq => by
  obtain ⟨a1, a2, a3, a4⟩ := k1.2 q hq
  obtain ⟨b1, b2, b3, b4⟩ := k2.2 q (hq.up k1.1)
  exact ⟨b1.trans a1, b2.trans a2, b3.trans a3, b4.trans a4⟩⟩
theorem kept.rfe (K : kept b h h' g g') {q k : Nat} (hq : imm b (kZ h) q) : rf h' q k = rf h q k := by unfold rf; rw [(K.2 q hq).2.2.1]
theorem kept.ise (K : kept b h h' g g') {q k : Nat} (hq : imm b (kZ h) q) (hr : isr h q k) : isr h' q k := by unfold isr at *; rw [K.rfe hq, (K.2 q hq).2.2.1]; exact hr
theorem LstR.keep (K : kept b h h' g g') {l n : Nat} (hL : LstR h g b l n) : LstR h' g' b l n ∧ rf h' l 1 = rf h l 1 ∧ ∀ i, i < n → le h' l i = le h l i := by
  obtain ⟨h1, h2, h3, ⟨h4, h5, h6, h7⟩, h8, h9⟩ := hL
  have e1 := K.rfe (k := 1) h1
  obtain ⟨a1, a2, a3, a4⟩ := K.2 l h1
  obtain ⟨b1, b2, b3, b4⟩ := K.2 _ h4
  have e2 : ∀ i, le h' l i = le h l i := fun i => by unfold le; rw [e1, K.rfe h4]
  refine ⟨⟨h1.up K.1, by rw [a1]; exact h2, K.ise h1 h3, by rw [e1]; exact ⟨h4.up K.1, by rw [b1]; exact h5, by rw [b2]; exact h6, by rw [b2]; exact h7⟩, by rw [a4]; exact h8, fun i hi => ⟨by rw [e1]; exact K.ise h4 (h9 i hi).1, by rw [e2]; exact (h9 i hi).2.up K.1⟩⟩, e1, fun i _ => e2 i⟩
theorem StrR.keep (K : kept b h h' g g') {q : Nat} {l : List Nat} (hS : StrR h g b q l) : StrR h' g' b q l := by
  obtain ⟨h1, h2, h3, h4, h5, h6, h7, h8⟩ := hS
  have e1 := K.rfe (k := 0) h1
  obtain ⟨a1, a2, a3, a4⟩ := K.2 q h1
  obtain ⟨b1, b2, b3, b4⟩ := K.2 _ h4
  exact ⟨h1.up K.1, by rw [a1]; exact h2, K.ise h1 h3, by rw [e1]; exact h4.up K.1, by rw [e1, b1]; exact h5, by rw [e1, b2]; exact h6, by rw [a4]; exact h7, fun i hi => by rw [e1, b4]; exact h8 i hi⟩
theorem StrW.keep (K : kept b h h' g g') {q : Nat} {w : Int64} (hS : StrW h g b q w) : StrW h' g' b q w := by
  obtain ⟨l, h1, h2, h3⟩ := hS
  exact ⟨l, h1, h2.keep K, h3⟩
theorem HouR.keep (K : kept b h h' g g') {a : Nat} {F : Nat → Nat} {nm : Nat → Int64} (hH : HouR h g b a F nm) : HouR h' g' b a F nm := by
  obtain ⟨h0, h1, h2, h3, h4, h5, h6, h7, h8, h9, h10, h11, h12⟩ := hH
  have e1 : ∀ k, rf h' a k = rf h a k := fun k => K.rfe h1
  obtain ⟨a1, a2, a3, a4⟩ := K.2 a h1
  obtain ⟨l5, r5, i5⟩ := h5.keep K
  obtain ⟨l6, r6, i6⟩ := h6.keep K
  obtain ⟨l7, r7, i7⟩ := h7.keep K
  refine ⟨h0, h1.up K.1, by rw [a1]; exact h2, fun k k1 k2 => K.ise h1 (h3 k k1 k2), by rw [a4]; exact h4, by rw [e1]; exact l5, by rw [e1]; exact l6, by rw [e1]; exact l7, fun p hp => ?_, fun w hw => ?_, fun k hk => ?_, ?_, ?_⟩
  · rw [e1, i5 p hp]
    have im := (h5.2.2.2.2.2 p hp).2
    obtain ⟨b1, b2, b3, b4⟩ := K.2 _ im
    obtain ⟨c1, c2, c3, c4, c5, c6⟩ := h8 p hp
    rw [K.rfe im, b1, b4]
    exact ⟨c1, c2, c3, c4, K.ise im c5, c6.keep K⟩
  · rw [e1, i6 w hw]
    have im := (h6.2.2.2.2.2 w hw).2
    obtain ⟨b1, b2, b3, b4⟩ := K.2 _ im
    obtain ⟨c1, c2, c3, c4, ⟨c5, c6, c7⟩, ⟨c8, c9, c10⟩, c11, c12, c13⟩ := h9 w hw
    obtain ⟨d1, d2, d3, d4⟩ := K.2 _ c5
    obtain ⟨f1, f2, f3, f4⟩ := K.2 _ c8
    rw [K.rfe im, K.rfe im, K.rfe im, b1, b4, d1, d2, f1, f2, d4, f4]
    exact ⟨c1, c2, K.ise im c3, K.ise im c4, ⟨c5.up K.1, c6, c7⟩, ⟨c8.up K.1, c9, c10⟩, c11, K.ise im c12, c13.keep K⟩
  · rw [e1, i7 k hk]
    have im := (h7.2.2.2.2.2 k hk).2
    obtain ⟨b1, b2, b3, b4⟩ := K.2 _ im
    rw [b1, b4]
    exact h10 k hk
  · obtain ⟨c1, c2, c3, c4⟩ := h11
    obtain ⟨b1, b2, b3, b4⟩ := K.2 _ c1
    rw [e1, b1, b2, b4]
    exact ⟨c1.up K.1, c2, c3, c4⟩
  · obtain ⟨c1, c2, c3, c4⟩ := h12
    obtain ⟨b1, b2, b3, b4⟩ := K.2 _ c1
    rw [e1, b1, b2, b4]
    exact ⟨c1.up K.1, c2, c3, c4⟩
end KEP
/-! reading lists and houses -/
section HRD
variable {h : HS} {g : Nat → Nat → Int32} {b a l n i N : Nat} {F : Nat → Nat} {nm : Nat → Int64}
theorem ls_size (hL : LstR h g b l n) : fJ2_size N (iS h g) l = some (nI n) := by
  unfold fJ2_size
  rw [oI_n (h := iS h g) (Nat.le_of_eq hL.2.1.symm) (Nat.le_of_eq hL.2.1), kI_iS, hL.2.2.2.2.1]; rfl
theorem ls_g {α : Type} {x : Option α} (hL : LstR h g b l n) : gT (iS h g) l 15 15 x = x := gT_n (h := iS h g) (Nat.le_of_eq hL.2.1.symm) (Nat.le_of_eq hL.2.1)
theorem ls_get (hL : LstR h g b l n) (hi : i < n) : fJ2_get N (iS h g) l (nI i) = some (le h l i) := by
  obtain ⟨h1, h2, h3, ⟨h4, h5, h6, h7⟩, h8, h9⟩ := hL
  unfold fJ2_get fJ14_checkIndex fJ11_checkIndex fJ2_elementData
  rw [oI_n (h := iS h g) (Nat.le_of_eq h2.symm) (Nat.le_of_eq h2), kI_iS, h8]
  simp (disch := omega) only [Option.bind_some, lt_, pl_let, pl_lef, pl_ltt, pl_ltf, pl_eqf, pl_let1, pl_lef1, pl_ltt1, pl_ltf1, pl_eqf1, pl_let2, pl_lef2, pl_ltt2, pl_ltf2, pl_em1, if_true, if_false, ite_self, Bool.false_eq_true]
  rw [gT_n (h := iS h g) (Nat.le_of_eq h2.symm) (Nat.le_of_eq h2), fR_n (h := iS h g) (Nat.le_of_eq h2.symm) (Nat.le_of_eq h2), kR_iS, h3]
  simp only [Option.bind_some]
  rw [fA_n (h := iS h g) h5 (Nat.lt_of_lt_of_le hi h6) h7, kR_iS, (h9 i hi).1]; rfl
theorem ho_g {α : Type} {x : Option α} (hH : HouR h g b a F nm) : gT (iS h g) a 2 2 x = x := gT_n (h := iS h g) (Nat.le_of_eq hH.2.2.1.symm) (Nat.le_of_eq hH.2.2.1)
theorem ho_R (hH : HouR h g b a F nm) {k : Nat} (k1 : 5 ≤ k) (k2 : k ≤ 9) : fR (iS h g) a 2 2 k = some (rf h a k) := (fR_n (h := iS h g) (Nat.le_of_eq hH.2.2.1.symm) (Nat.le_of_eq hH.2.2.1)).trans (hH.2.2.2.1 k k1 k2)
theorem ho_I (hH : HouR h g b a F nm) {k : Nat} : oI (iS h g) a 2 2 k = some (g a k) := oI_n (h := iS h g) (Nat.le_of_eq hH.2.2.1.symm) (Nat.le_of_eq hH.2.2.1)
theorem ho_0 (hH : HouR h g b a F nm) : oI (iS h g) a 2 2 0 = some (nI (F 0)) := by rw [ho_I hH, hH.2.2.2.2.1.1]
theorem ho_1 (hH : HouR h g b a F nm) : oI (iS h g) a 2 2 1 = some (nI (F 1)) := by rw [ho_I hH, hH.2.2.2.2.1.2.1]
theorem ho_2 (hH : HouR h g b a F nm) : oI (iS h g) a 2 2 2 = some (nI (F 6)) := by rw [ho_I hH, hH.2.2.2.2.1.2.2.1]
theorem ho_4 (hH : HouR h g b a F nm) : oI (iS h g) a 2 2 4 = some (nI (F 4)) := by rw [ho_I hH, hH.2.2.2.2.1.2.2.2]
theorem ho_p (hH : HouR h g b a F nm) : LstR h g b (rf h a 5) (F 2) := hH.2.2.2.2.2.1
theorem ho_w (hH : HouR h g b a F nm) : LstR h g b (rf h a 6) (F 3) := hH.2.2.2.2.2.2.1
theorem ho_d (hH : HouR h g b a F nm) : LstR h g b (rf h a 7) (F 5) := hH.2.2.2.2.2.2.2.1
theorem ho_wall (hH : HouR h g b a F nm) {t : Nat} (ht : t < 144) : aI (iS h g) (rf h a 8) 33 (nI t) = some (nI (F (25 + t))) := by
  obtain ⟨-, c2, c3, c4⟩ := hH.2.2.2.2.2.2.2.2.2.2.2.1
  rw [aI_n (h := iS h g) c2 (by rw [kN_iS, c3]; exact ht) (by rw [kN_iS, c3]; decide), kI_iS, c4 t ht]
/-- a person's numbers -/
theorem ho_pT (hH : HouR h g b a F nm) {p : Nat} (hp : p < F 2) : kT h (le h (rf h a 5) p) = 9 := (hH.2.2.2.2.2.2.2.2.1 p hp).1
theorem ho_pg {α : Type} {x : Option α} (hH : HouR h g b a F nm) {p : Nat} (hp : p < F 2) : gT (iS h g) (le h (rf h a 5) p) 9 9 x = x := gT_n (h := iS h g) (Nat.le_of_eq (ho_pT hH hp).symm) (Nat.le_of_eq (ho_pT hH hp))
theorem ho_p1 (hH : HouR h g b a F nm) {p : Nat} (hp : p < F 2) : oI (iS h g) (le h (rf h a 5) p) 9 9 1 = some (nI (F (7 + p))) := by
  rw [oI_n (h := iS h g) (Nat.le_of_eq (ho_pT hH hp).symm) (Nat.le_of_eq (ho_pT hH hp)), kI_iS, (hH.2.2.2.2.2.2.2.2.1 p hp).2.1]
theorem ho_p2 (hH : HouR h g b a F nm) {p : Nat} (hp : p < F 2) : oI (iS h g) (le h (rf h a 5) p) 9 9 2 = some (nI (F (13 + p))) := by
  rw [oI_n (h := iS h g) (Nat.le_of_eq (ho_pT hH hp).symm) (Nat.le_of_eq (ho_pT hH hp)), kI_iS, (hH.2.2.2.2.2.2.2.2.1 p hp).2.2.1]
theorem ho_p3 (hH : HouR h g b a F nm) {p : Nat} (hp : p < F 2) : oI (iS h g) (le h (rf h a 5) p) 9 9 3 = some (nI (F (19 + p))) := by
  rw [oI_n (h := iS h g) (Nat.le_of_eq (ho_pT hH hp).symm) (Nat.le_of_eq (ho_pT hH hp)), kI_iS, (hH.2.2.2.2.2.2.2.2.1 p hp).2.2.2.1]
/-- a way's -/
theorem ho_wT (hH : HouR h g b a F nm) {w : Nat} (hw : w < F 3) : kT h (le h (rf h a 6) w) = 10 := (hH.2.2.2.2.2.2.2.2.2.1 w hw).1
theorem ho_wg {α : Type} {x : Option α} (hH : HouR h g b a F nm) {w : Nat} (hw : w < F 3) : gT (iS h g) (le h (rf h a 6) w) 10 10 x = x := gT_n (h := iS h g) (Nat.le_of_eq (ho_wT hH hw).symm) (Nat.le_of_eq (ho_wT hH hw))
theorem ho_w3 (hH : HouR h g b a F nm) {w : Nat} (hw : w < F 3) : oI (iS h g) (le h (rf h a 6) w) 10 10 3 = some (nI (F (177 + w) - 1)) := by
  rw [oI_n (h := iS h g) (Nat.le_of_eq (ho_wT hH hw).symm) (Nat.le_of_eq (ho_wT hH hw)), kI_iS, (hH.2.2.2.2.2.2.2.2.2.1 w hw).2.1]
theorem ho_w1 (hH : HouR h g b a F nm) {w : Nat} (hw : w < F 3) : fR (iS h g) (le h (rf h a 6) w) 10 10 1 = some (rf h (le h (rf h a 6) w) 1) := by
  rw [fR_n (h := iS h g) (Nat.le_of_eq (ho_wT hH hw).symm) (Nat.le_of_eq (ho_wT hH hw)), kR_iS, (hH.2.2.2.2.2.2.2.2.2.1 w hw).2.2.1]
theorem ho_w2 (hH : HouR h g b a F nm) {w : Nat} (hw : w < F 3) : fR (iS h g) (le h (rf h a 6) w) 10 10 2 = some (rf h (le h (rf h a 6) w) 2) := by
  rw [fR_n (h := iS h g) (Nat.le_of_eq (ho_wT hH hw).symm) (Nat.le_of_eq (ho_wT hH hw)), kR_iS, (hH.2.2.2.2.2.2.2.2.2.1 w hw).2.2.2.1]
theorem ho_wt (hH : HouR h g b a F nm) {w i : Nat} (hw : w < F 3) (hi : i < F (177 + w)) : aI (iS h g) (rf h (le h (rf h a 6) w) 1) 31 (nI i) = some (nI (F (183 + 41 * w + i))) := by
  obtain ⟨-, -, -, -, ⟨-, c6, c7⟩, -, c11, -⟩ := hH.2.2.2.2.2.2.2.2.2.1 w hw
  have := (hH.1.2.2.2.2.2 w hw).2.1
  rw [aI_n (h := iS h g) c6 (by rw [kN_iS, c7]; omega) (by rw [kN_iS, c7]; decide), kI_iS, (c11 i hi).1]
theorem ho_wd (hH : HouR h g b a F nm) {w i : Nat} (hw : w < F 3) (hi : i < F (177 + w)) : aI (iS h g) (rf h (le h (rf h a 6) w) 2) 31 (nI i) = some (dirM F w i) := by
  obtain ⟨-, -, -, -, -, ⟨-, c6, c7⟩, c11, -⟩ := hH.2.2.2.2.2.2.2.2.2.1 w hw
  have := (hH.1.2.2.2.2.2 w hw).2.1
  rw [aI_n (h := iS h g) c6 (by rw [kN_iS, c7]; omega) (by rw [kN_iS, c7]; decide), kI_iS, (c11 i hi).2]
theorem ho_dv (hH : HouR h g b a F nm) {k : Nat} (hk : k < F 5) : kT h (le h (rf h a 7) k) = 18 ∧ g (le h (rf h a 7) k) 0 = nI (F (169 + k)) := hH.2.2.2.2.2.2.2.2.2.2.1 k hk
end HRD
