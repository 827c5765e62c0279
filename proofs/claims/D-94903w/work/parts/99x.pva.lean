/-! houses: what stays while one is read -/
def perR (h : HS) (g : Nat → Nat → Int32) (b : Nat) (F : Nat → Nat) (nm : Nat → Int64) (q p : Nat) : Prop := kT h q = 9 ∧ g q 1 = nI (F (7 + p)) ∧ g q 2 = nI (F (13 + p)) ∧ g q 3 = nI (F (19 + p)) ∧ isr h q 0 ∧ StrW h g b (rf h q 0) (nm p)
def wayR (h : HS) (g : Nat → Nat → Int32) (b : Nat) (F : Nat → Nat) (nm : Nat → Int64) (q w : Nat) : Prop := kT h q = 10 ∧ g q 3 = nI (F (177 + w) - 1) ∧ isr h q 1 ∧ isr h q 2 ∧ (imm b (kZ h) (rf h q 1) ∧ kT h (rf h q 1) = 31 ∧ kN h (rf h q 1) = 41) ∧ (imm b (kZ h) (rf h q 2) ∧ kT h (rf h q 2) = 31 ∧ kN h (rf h q 2) = 41) ∧
    (∀ i, i < F (177 + w) → g (rf h q 1) i = nI (F (183 + 41 * w + i)) ∧ g (rf h q 2) i = dirM F w i) ∧ isr h q 0 ∧ StrW h g b (rf h q 0) (nm (6 + w))
def wlR (h : HS) (g : Nat → Nat → Int32) (b : Nat) (F : Nat → Nat) (q : Nat) : Prop := imm b (kZ h) q ∧ kT h q = 33 ∧ kN h q = 144 ∧ ∀ t, t < 144 → g q t = nI (F (25 + t))
def drR (h : HS) (g : Nat → Nat → Int32) (b : Nat) (F : Nat → Nat) (q : Nat) : Prop := imm b (kZ h) q ∧ kT h q = 33 ∧ kN h q = 144 ∧ ∀ t, t < 144 → (g q t = 1 ∧ ∃ k, k < F 5 ∧ F (169 + k) = t) ∨ (g q t = 0 ∧ ∀ k, k < F 5 → F (169 + k) ≠ t)
section PVA
variable {S : Nat → Prop} {h0 h h' h2 : HS} {σ σ' : MS} {N b rd sz lim P Zm Wm a l n q p w : Nat} {sp : Bool} {F F' : Nat → Nat} {nm nm' : Nat → Int64}
/-- other cells are made or written -/
theorem PRS.ob2 {t w : Nat} (R : PRS h0 b rd sz lim Zm Wm sp P h σ) (K : ond S h h') (hS : ∀ q, q < kZ h → S q → kZ h0 ≤ q ∧ q ≠ rd ∧ kT h q ≠ 17 ∧ kT h q ≠ 32) (hz : kZ h' ≤ kZ h + t) (hw : kW h' ≤ kW h + w) (r1 : Zm + t + 10 ≤ kG h 1) (r2 : Wm + w + 100 ≤ kG h 2) : PRS h0 b rd sz lim (Zm + t) (Wm + w) sp P h' σ := by
  obtain ⟨⟨RB0, ⟨g1, g2, g3, g4⟩, rj, ⟨z1, z2, z3⟩, z4, z5⟩, ⟨a, ha, a1, a2⟩, T, spr⟩ := R
  obtain ⟨b1, ⟨b2, b3, b4, b5⟩, b6, b7, b8⟩ := RB0
  obtain ⟨p1, p2, p3, p4⟩ := K.2.2 rd b1.2.2.2.2 fun z => (hS rd b1.2.2.2.2 z).2.1 rfl
  obtain ⟨q1, q2, q3, q4⟩ := K.2.2 (b + 1) (by have := b1.2.2.2; omega) fun z => by have := (hS (b + 1) (by have := b1.2.2.2; omega) z).1; omega
  have gr : grow h0 h' := ⟨Nat.le_trans g1.1 K.1, K.2.1.trans g1.2.1, fun q hq => by
    obtain ⟨c1, c2, c3, c4⟩ := g1.2.2 q hq
    obtain ⟨d1, d2, d3, d4⟩ := K.2.2 q (by have := g1.1; omega) fun z => by have := (hS q (by have := g1.1; omega) z).1; omega
    exact ⟨d1.trans c1, d2.trans c2, d3.trans c3, d4.trans c4⟩⟩
  have kz := K.1
  refine ⟨⟨⟨by rw [p1, K.2.1]; exact ⟨b1.1, b1.2.1, b1.2.2.1, b1.2.2.2.1, Nat.lt_of_lt_of_le b1.2.2.2.2 kz⟩, ⟨by rw [p4]; exact b2, by rw [q1]; exact b3, by rw [q2]; exact b4, fun i hi => by rw [q3]; exact b5 i hi⟩, b6, by rw [p3]; exact b7, b8⟩, ⟨gr, g2, g3, g4⟩, rj, by rw [K.2.1]; exact ⟨by omega, r1, r2⟩, by omega, by omega⟩, ⟨a, ha, by rw [p3]; exact a1, a2⟩, ?_, fun w1 w2 => ?_⟩
  · unfold TKR at T ⊢
    rw [p3, p4]
    rcases T with T | T | ⟨t1, t2, q, l, t3, t4, t5, t6⟩ | T | T | T
    · exact Or.inl T
    · exact Or.inr (Or.inl T)
    · refine Or.inr (Or.inr (Or.inl ⟨t1, t2, q, l, t3, t4, t5.ond K (fun z => ?_) (fun z => ?_), t6⟩))
      · exact (hS _ t5.1.1 z).2.2.1 t5.2.1
      · exact (hS _ t5.2.2.2.1.1 z).2.2.2 t5.2.2.2.2.1
    · exact Or.inr (Or.inr (Or.inr (Or.inl T)))
    · exact Or.inr (Or.inr (Or.inr (Or.inr (Or.inl T))))
    · exact Or.inr (Or.inr (Or.inr (Or.inr (Or.inr T))))
  · rw [p3] at w2
    have := spr w1 w2
    omega
theorem ond.rfe (K : ond S h h') {k : Nat} (hq : q < kZ h) (n1 : ¬ S q) : rf h' q k = rf h q k := by unfold rf; rw [(K.2.2 q hq n1).2.2.2]
theorem ond.ise (K : ond S h h') {k : Nat} (hq : q < kZ h) (n1 : ¬ S q) (hi : isr h q k) : isr h' q k := by unfold isr at *; rw [K.rfe hq n1, (K.2.2 q hq n1).2.2.2]; exact hi
theorem LstR.ond (K : ond S h h') (hL : LstR h (kI h) b l n) (n1 : ¬ S l) (n2 : ¬ S (rf h l 1)) : LstR h' (kI h') b l n ∧ rf h' l 1 = rf h l 1 ∧ ∀ i, le h' l i = le h l i := by
  obtain ⟨h1, h2, h3, ⟨h4, h5, h6, h7⟩, h8, h9⟩ := hL
  have e1 := K.rfe (k := 1) h1.1 n1
  obtain ⟨a1, a2, a3, a4⟩ := K.2.2 l h1.1 n1
  obtain ⟨b1, b2, b3, b4⟩ := K.2.2 _ h4.1 n2
  have e2 : ∀ i, le h' l i = le h l i := fun i => by unfold le; rw [e1, K.rfe h4.1 n2]
  exact ⟨⟨h1.up K.1, by rw [a1]; exact h2, K.ise h1.1 n1 h3, by rw [e1]; exact ⟨h4.up K.1, by rw [b1]; exact h5, by rw [b2]; exact h6, by rw [b2]; exact h7⟩, by rw [a3]; exact h8, fun i hi => ⟨by rw [e1]; exact K.ise h4.1 n2 (h9 i hi).1, by rw [e2]; exact (h9 i hi).2.up K.1⟩⟩, e1, e2⟩
/-- cells of people, ways, names and Integers stay -/
def nEl (S : Nat → Prop) (h : HS) : Prop := ∀ q, q < kZ h → S q → kT h q ≠ 9 ∧ kT h q ≠ 10 ∧ kT h q ≠ 17 ∧ kT h q ≠ 18 ∧ kT h q ≠ 31 ∧ kT h q ≠ 32
theorem StrW.ond {v : Int64} (K : ond S h h') (hE : nEl S h) (hS : StrW h (kI h) b q v) : StrW h' (kI h') b q v := by
  obtain ⟨l, h1, h2, h3⟩ := hS
  exact ⟨l, h1, h2.ond K (fun z => (hE _ h2.1.1 z).2.2.1 h2.2.1) (fun z => (hE _ h2.2.2.2.1.1 z).2.2.2.2.2 h2.2.2.2.2.1), h3⟩
theorem perR.ond (K : ond S h h') (hE : nEl S h) (hq : q < kZ h) (H : perR h (kI h) b F nm q p) : perR h' (kI h') b F nm q p := by
  obtain ⟨c1, c2, c3, c4, c5, c6⟩ := H
  have n1 : ¬ S q := fun z => (hE _ hq z).1 c1
  obtain ⟨b1, b2, b3, b4⟩ := K.2.2 q hq n1
  exact ⟨by rw [b1]; exact c1, by rw [b3]; exact c2, by rw [b3]; exact c3, by rw [b3]; exact c4, K.ise hq n1 c5, by rw [K.rfe hq n1]; exact c6.ond K hE⟩
theorem wayR.ond (K : ond S h h') (hE : nEl S h) (hq : q < kZ h) (H : wayR h (kI h) b F nm q w) : wayR h' (kI h') b F nm q w := by
  obtain ⟨c1, c2, c3, c4, ⟨c5, c6, c7⟩, ⟨c8, c9, c10⟩, c11, c12, c13⟩ := H
  have n1 : ¬ S q := fun z => (hE _ hq z).2.1 c1
  have n2 : ¬ S (rf h q 1) := fun z => (hE _ c5.1 z).2.2.2.2.1 c6
  have n3 : ¬ S (rf h q 2) := fun z => (hE _ c8.1 z).2.2.2.2.1 c9
  obtain ⟨b1, b2, b3, b4⟩ := K.2.2 q hq n1
  obtain ⟨d1, d2, d3, d4⟩ := K.2.2 _ c5.1 n2
  obtain ⟨f1, f2, f3, f4⟩ := K.2.2 _ c8.1 n3
  unfold wayR
  rw [K.rfe hq n1, K.rfe hq n1, K.rfe hq n1, b1, b3, d1, d2, f1, f2, d3, f3]
  exact ⟨c1, c2, K.ise hq n1 c3, K.ise hq n1 c4, ⟨c5.up K.1, c6, c7⟩, ⟨c8.up K.1, c9, c10⟩, c11, K.ise hq n1 c12, c13.ond K hE⟩
/-- the numbers of one that does not change -/
theorem perR.cg (H : perR h (kI h) b F nm q p) (e1 : F' (7 + p) = F (7 + p)) (e2 : F' (13 + p) = F (13 + p)) (e3 : F' (19 + p) = F (19 + p)) (e4 : nm' p = nm p) : perR h (kI h) b F' nm' q p := by
  unfold perR; rw [e1, e2, e3, e4]; exact H
theorem dirM.cg (e1 : F' (177 + w) = F (177 + w)) (e2 : ∀ i, i < F (177 + w) → F' (183 + 41 * w + i) = F (183 + 41 * w + i)) {i : Nat} (hi : i < F (177 + w)) : dirM F' w i = dirM F w i := by
  unfold dirM
  rw [e1]
  by_cases c : F (177 + w) = 1
  · rw [if_pos c, if_pos c]
  · rw [if_neg c, if_neg c]
    by_cases c2 : i + 1 < F (177 + w)
    · rw [if_pos c2, if_pos c2, e2 i hi, show F' (183 + 41 * w + i + 1) = F (183 + 41 * w + i + 1) from e2 (i + 1) c2]
    · rw [if_neg c2, if_neg c2, e2 i hi, show 183 + 41 * w + i - 1 = 183 + 41 * w + (i - 1) by omega, e2 (i - 1) (by omega)]
theorem wayR.cg (H : wayR h (kI h) b F nm q w) (e1 : F' (177 + w) = F (177 + w)) (e2 : ∀ i, i < F (177 + w) → F' (183 + 41 * w + i) = F (183 + 41 * w + i)) (e4 : nm' (6 + w) = nm (6 + w)) : wayR h (kI h) b F' nm' q w := by
  obtain ⟨c1, c2, c3, c4, c5, c6, c11, c12, c13⟩ := H
  exact ⟨c1, by rw [e1]; exact c2, c3, c4, c5, c6, fun i hi => by rw [e1] at hi; rw [e2 i hi, dirM.cg e1 e2 hi]; exact c11 i hi, c12, by rw [e4]; exact c13⟩
theorem HouR.ond (K : ond S h h') (hS : ∀ q, q < kZ h → S q → 5 ≤ kT h q ∧ kT h q ≤ 7) (hH : HouR h (kI h) b a F nm) : HouR h' (kI h') b a F nm := by
  have hE : nEl S h := fun q hq z => by have := hS q hq z; omega
  have nk : ∀ q k, q < kZ h → kT h q = k → k < 5 ∨ 7 < k → ¬ S q := fun q k hq e hk z => by have := hS q hq z; omega
  obtain ⟨c0, c1, c2, c3, c4, c5, c6, c7, c8, c9, c10, c11, c12⟩ := hH
  have na : ¬ S a := nk a 2 c1.1 c2 (by omega)
  have er : ∀ k, rf h' a k = rf h a k := fun k => K.rfe c1.1 na
  obtain ⟨a1, a2, a3, a4⟩ := K.2.2 a c1.1 na
  obtain ⟨l5, r5, i5⟩ := c5.ond K (nk _ 15 c5.1.1 c5.2.1 (by omega)) (nk _ 39 c5.2.2.2.1.1.1 c5.2.2.2.1.2.1 (by omega))
  obtain ⟨l6, r6, i6⟩ := c6.ond K (nk _ 15 c6.1.1 c6.2.1 (by omega)) (nk _ 39 c6.2.2.2.1.1.1 c6.2.2.2.1.2.1 (by omega))
  obtain ⟨l7, r7, i7⟩ := c7.ond K (nk _ 15 c7.1.1 c7.2.1 (by omega)) (nk _ 39 c7.2.2.2.1.1.1 c7.2.2.2.1.2.1 (by omega))
  refine ⟨c0, c1.up K.1, by rw [a1]; exact c2, fun k k1 k2 => K.ise c1.1 na (c3 k k1 k2), by rw [a3]; exact c4, by rw [er]; exact l5, by rw [er]; exact l6, by rw [er]; exact l7, fun p hp => ?_, fun w hw => ?_, fun k hk => ?_, ?_, ?_⟩
  · rw [er, i5 p]
    exact perR.ond K hE (c5.2.2.2.2.2 p hp).2.1 (c8 p hp)
  · rw [er, i6 w]
    exact wayR.ond K hE (c6.2.2.2.2.2 w hw).2.1 (c9 w hw)
  · rw [er, i7 k]
    obtain ⟨x1, x2⟩ := c10 k hk
    obtain ⟨b1, b2, b3, b4⟩ := K.2.2 _ (c7.2.2.2.2.2 k hk).2.1 (nk _ 18 (c7.2.2.2.2.2 k hk).2.1 x1 (by omega))
    rw [b1, b3]
    exact ⟨x1, x2⟩
  · obtain ⟨x1, x2, x3, x4⟩ := c11
    obtain ⟨b1, b2, b3, b4⟩ := K.2.2 _ x1.1 (nk _ 33 x1.1 x2 (by omega))
    rw [er, b1, b2, b3]
    exact ⟨x1.up K.1, x2, x3, x4⟩
  · obtain ⟨x1, x2, x3, x4⟩ := c12
    obtain ⟨b1, b2, b3, b4⟩ := K.2.2 _ x1.1 (nk _ 33 x1.1 x2 (by omega))
    rw [er, b1, b2, b3]
    exact ⟨x1.up K.1, x2, x3, x4⟩
end PVA
/-! a list grows by one -/
def LB (rd : Nat) (h : HS) (l n : Nat) : Prop := (n = 0 ∧ rf h l 1 = kG h 12) ∨ (1 ≤ n ∧ rd < rf h l 1 ∧ kN h (rf h l 1) = 10)
section PVB
variable {h0 h h' : HS} {N b rd l n x : Nat}
theorem wOk_c {t : Nat} (e : kT h' x = kT h x) : wOk h' t (some x) = wOk h t (some x) := by simp only [wOk, e]
theorem nI_inj10 {a c : Nat} (ha : a < 2147483648) (hc : c < 2147483648) (h : a ≠ c) : ¬ nI a = nI c := fun z => h ((nI_eq ha hc).mp z)
theorem ls_add (hL : LstR h (kI h) b l n) (gl : kG h 0 ≤ l) (B : LB rd h l n) (gr : kG h 0 ≤ rd) (e12 : kN h (kG h 12) = 0) (hn : n < 10) (ix : imm b (kZ h) x) (wok : wOk h 39 (some x) = true) (hz : kZ h + 1 ≤ kG h 1) (hw : kW h + 10 ≤ kG h 2) (gz : kG h 0 ≤ kZ h) (bz : b + 18420 ≤ kZ h) (rz : rd < kZ h) : ∃ h', fJ2_add N h l x = some (1, h') ∧ ond (fun q => q = l ∨ (1 ≤ n ∧ q = rf h l 1)) h h' ∧ kZ h' ≤ kZ h + 1 ∧ kW h' ≤ kW h + 10 ∧ LstR h' (kI h') b l (n + 1) ∧ LB rd h' l (n + 1) ∧ (∀ i, i < n → le h' l i = le h l i) ∧ le h' l n = x ∧ ((1 ≤ n ∧ rf h' l 1 = rf h l 1) ∨ (n = 0 ∧ rf h' l 1 = kZ h)) := by
  obtain ⟨h1, h2, h3, ⟨h4, h5, h6, h7⟩, h8, h9⟩ := hL
  obtain ⟨ar, ear⟩ : ∃ ar, ar = rf h l 1 := ⟨_, rfl⟩
  have r1 : kR h l 1 = some ar := by rw [ear]; exact h3
  rw [← ear] at h4 h5 h6 h7
  have lz : l < kZ h := h1.1
  have lne : l ≠ ar := fun e => by rw [← e, h2] at h5; omega
  have tl : ∀ {y : HS}, kT y l = 15 → ∀ k, oI y l 15 15 k = some (kI y l k) := fun e k => oI_n (Nat.le_of_eq e.symm) (Nat.le_of_eq e)
  have pl : ∀ {y : HS}, kT y l = 15 → kG y 0 ≤ l → ∀ k v, pI y l 15 15 k v = some (tI y l k v) := fun e g k v => pI_n (Nat.le_of_eq e.symm) (Nat.le_of_eq e) g
  have fl : ∀ {y : HS}, kT y l = 15 → fR y l 15 15 1 = kR y l 1 := fun e => fR_n (Nat.le_of_eq e.symm) (Nat.le_of_eq e)
  have gt : ∀ {y : HS} {α : Type} (z : Option α), kT y l = 15 → gT y l 15 15 z = z := fun z e => gT_n (Nat.le_of_eq e.symm) (Nat.le_of_eq e)
  obtain ⟨s1, es1⟩ : ∃ s, s = tI h l 0 (kI h l 0 + 1) := ⟨_, rfl⟩
  have T1 : kT s1 l = 15 := by rw [es1]; exact h2
  have G1 : kG s1 = kG h := by rw [es1]; rfl
  have R1 : kR s1 = kR h := by rw [es1]; rfl
  have N1 : kN s1 = kN h := by rw [es1]; rfl
  have TT1 : kT s1 = kT h := by rw [es1]; rfl
  have i2 : kI s1 l 2 = nI n := by rw [es1, kI_tI, if_neg (by omega)]; exact h8
  have e0 : fJ2_add N h l x = (fJ2_add_2 N s1 l x ar (nI n)).bind fun r5 => some (1, r5) := by
    unfold fJ2_add
    rw [tl h2, Option.bind_some, pl h2 gl, Option.bind_some, ← es1, fl T1, R1, r1, Option.bind_some, tl T1, i2, Option.bind_some, gt _ T1]
  rcases B with ⟨n0, a12⟩ | ⟨n1, ra, a10⟩
  · -- the first one
    have a12 : ar = kG h 12 := ear.trans a12
    have la : kN h ar = 0 := by rw [a12]; exact e12
    obtain ⟨s2, es2⟩ : ∃ s, s = tA s1 39 10 10 := ⟨_, rfl⟩
    obtain ⟨z, ez⟩ : ∃ z, z = kZ h := ⟨_, rfl⟩
    have z1 : kZ s1 = z := by rw [es1, ez]; rfl
    obtain ⟨s3, es3⟩ : ∃ s, s = tR s2 l 1 (some z) := ⟨_, rfl⟩
    obtain ⟨s4, es4⟩ : ∃ s, s = tR s3 z n (some x) := ⟨_, rfl⟩
    obtain ⟨s5, es5⟩ : ∃ s, s = tI s4 l 2 (nI n + 1) := ⟨_, rfl⟩
    have lz' : l ≠ z := by omega
    have T2 : kT s2 l = 15 := by rw [es2, kT_tA, if_neg (by rw [z1]; exact lz')]; exact T1
    have T2z : kT s2 z = 39 := by rw [es2, kT_tA, if_pos z1.symm]
    have N2z : kN s2 z = 10 := by rw [es2, kN_tA, if_pos z1.symm]
    have G2 : kG s2 = kG h := by rw [es2]; exact G1
    have xz : x < z := by rw [ez]; exact ix.1
    have Tx : kT s3 x = kT h x := by rw [es3]; show kT s2 x = _; rw [es2, kT_tA, if_neg (by rw [z1]; omega), TT1]
    have wok3 : wOk s3 39 (some x) = true := by rw [wOk_c Tx]; exact wok
    have na : nA s1 39 10 = some (z, s2) := by
      unfold nA
      rw [if_pos (by rw [G1]; refine ⟨by decide, by decide, by rw [z1, ez]; exact hz, ?_⟩; rw [es1]; exact hw), z1, es2]; rfl
    have nz : nI n = 0 := by rw [n0]; rfl
    have gro : fJ2_grow N s1 l = some (z, s3) := by
      unfold fJ2_grow fJ2_grow_2
      rw [tl T1, Option.bind_some, gt _ T1, fl T1, R1, r1, Option.bind_some, aL_n (by rw [TT1, h5]; exact Nat.le_refl _) (by rw [TT1, h5]; exact Nat.le_refl _), N1, la, Option.bind_some, if_neg (show ¬ (0 : Int32) < nI 0 by decide), Option.bind_some, if_pos (by rw [G1, a12]), i2, nz, show imax 10 ((0 : Int32) + 1) = 10 from by decide, na, Option.bind_some, pR_n (h := s2) (Nat.le_of_eq T2.symm) (Nat.le_of_eq T2) (by rw [G2]; exact gl), Option.bind_some, ← es3, Option.bind_some]
    have T3z : kT s3 z = 39 := by rw [es3]; exact T2z
    have N3z : kN s3 z = 10 := by rw [es3]; exact N2z
    have T4 : kT s4 l = 15 := by rw [es4, es3]; exact T2
    have G4 : kG s4 = kG h := by rw [es4, es3]; exact G2
    refine ⟨s5, ?_, ?_, ?_, ?_, ?_, ?_, fun i hi => by omega, ?_, Or.inr ⟨n0, ?_⟩⟩
    · rw [e0]
      unfold fJ2_add_2
      rw [aL_n (by rw [TT1, h5]; exact Nat.le_refl _) (by rw [TT1, h5]; exact Nat.le_refl _), N1, la, Option.bind_some, if_pos (by rw [n0]), gt _ T1, gro, Option.bind_some, wR_n (h := s3) T3z (by rw [N3z]; exact hn) (by rw [N3z]; decide) (by rw [es3]; show kG s2 0 ≤ z; rw [G2, ez]; exact gz) wok3, Option.bind_some, ← es4, pl T4 (by rw [G4]; exact gl), Option.bind_some, ← es5]
      rfl
    · have o1 : ond (fun q => q = l) h s1 := by rw [es1]; exact ond.tI
      have o2 : ond (fun q => q = l) h s2 := by rw [es2]; exact o1.tr ond.tA fun q _ y => y.elim
      have o3 : ond (fun q => q = l) h s3 := by rw [es3]; exact o2.tr ond.tR fun q _ y => y
      have o4 : ond (fun q => q = l) h s4 := by rw [es4]; exact o3.tr ond.tR fun q hq y => by have y : q = z := y; omega
      have o5 : ond (fun q => q = l) h s5 := by rw [es5]; exact o4.tr ond.tI fun q _ y => y
      exact o5.up fun q _ y => Or.inl y
    · rw [es5, es4, es3, es2]; show kZ s1 + 1 ≤ _; rw [z1, ez]; exact Nat.le_refl _
    · rw [es5, es4, es3, es2]; show kW s1 + 10 ≤ _; rw [es1]; exact Nat.le_refl _
    · have r5 : kR s5 l 1 = some z := by rw [es5]; show kR s4 l 1 = _; rw [es4, kR_tR, if_neg (by omega), es3, kR_tR, if_pos ⟨rfl, rfl⟩]
      have f5 : rf s5 l 1 = z := by unfold rf; rw [r5]; rfl
      have z5 : kZ s5 = z + 1 := by rw [es5, es4, es3, es2]; show kZ s1 + 1 = _; rw [z1]
      have r5n : kR s5 z n = some x := by rw [es5]; show kR s4 z n = _; rw [es4, kR_tR, if_pos ⟨rfl, rfl⟩]
      have hl5 : le s5 l n = x := by unfold le rf; rw [r5]; show (kR s5 z n).getD 0 = x; rw [r5n]; rfl
      refine ⟨h1.up (by omega), by rw [es5]; exact T4, by unfold isr; rw [f5]; exact r5, ?_, ?_, fun i hi => ?_⟩
      · rw [f5]
        exact ⟨⟨by omega, Or.inr (Or.inl (by omega))⟩, by rw [es5, es4]; exact T3z, by rw [show kN s5 z = 10 by rw [es5, es4]; exact N3z]; omega, by rw [show kN s5 z = 10 by rw [es5, es4]; exact N3z]; decide⟩
      · rw [es5, kI_tI, if_pos ⟨rfl, rfl⟩]; exact nI_add n 1
      · obtain rfl : i = n := by omega
        refine ⟨?_, by rw [hl5]; exact ix.up (by omega)⟩
        rw [f5]; unfold isr rf; rw [r5n]; rfl
    · refine Or.inr ⟨by omega, ?_, ?_⟩
      · rw [show rf s5 l 1 = z by unfold rf; rw [es5]; show (kR s4 l 1).getD 0 = z; rw [es4, kR_tR, if_neg (by omega), es3, kR_tR, if_pos ⟨rfl, rfl⟩]; rfl]; omega
      · rw [show rf s5 l 1 = z by unfold rf; rw [es5]; show (kR s4 l 1).getD 0 = z; rw [es4, kR_tR, if_neg (by omega), es3, kR_tR, if_pos ⟨rfl, rfl⟩]; rfl, es5, es4]; exact N3z
    · unfold le
      rw [show rf s5 l 1 = z by unfold rf; rw [es5]; show (kR s4 l 1).getD 0 = z; rw [es4, kR_tR, if_neg (by omega), es3, kR_tR, if_pos ⟨rfl, rfl⟩]; rfl]
      unfold rf; rw [es5]; show (kR s4 z n).getD 0 = x; rw [es4, kR_tR, if_pos ⟨rfl, rfl⟩]; rfl
    · unfold rf; rw [es5]; show (kR s4 l 1).getD 0 = kZ h; rw [es4, kR_tR, if_neg (by omega), es3, kR_tR, if_pos ⟨rfl, rfl⟩]; exact ez
  · -- a later one
    rw [← ear] at ra a10
    obtain ⟨s4, es4⟩ : ∃ s, s = tR s1 ar n (some x) := ⟨_, rfl⟩
    obtain ⟨s5, es5⟩ : ∃ s, s = tI s4 l 2 (nI n + 1) := ⟨_, rfl⟩
    have wok1 : wOk s1 39 (some x) = true := by rw [wOk_c (show kT s1 x = kT h x by rw [TT1])]; exact wok
    have T4 : kT s4 l = 15 := by rw [es4]; exact T1
    have G4 : kG s4 = kG h := by rw [es4]; exact G1
    have z5 : kZ s5 = kZ h := by rw [es5, es4, es1]; rfl
    have R5 : ∀ k, kR s5 l k = kR h l k := fun k => by rw [es5]; show kR s4 l k = _; rw [es4, kR_tR, if_neg (fun z => lne z.1), R1]
    have f5 : rf s5 l 1 = ar := by unfold rf; rw [R5, r1]; rfl
    have R5a : ∀ k, kR s5 ar k = if k = n then some x else kR h ar k := fun k => by
      rw [es5]; show kR s4 ar k = _; rw [es4, kR_tR]
      by_cases c : k = n
      · rw [if_pos ⟨rfl, c⟩, if_pos c]
      · rw [if_neg (fun z => c z.2), if_neg c, R1]
    have le5 : ∀ i, i < n → le s5 l i = le h l i := fun i hi => by
      unfold le; rw [f5, ← ear]; unfold rf; rw [R5a, if_neg (by omega)]
    have len : le s5 l n = x := by unfold le; rw [f5]; unfold rf; rw [R5a, if_pos rfl]; rfl
    have N5 : kN s5 ar = 10 := by rw [es5, es4]; show kN s1 ar = 10; rw [N1]; exact a10
    refine ⟨s5, ?_, ?_, by omega, ?_, ?_, Or.inr ⟨by omega, by rw [f5]; exact ra, by rw [f5]; exact N5⟩, le5, len, Or.inl ⟨n1, by rw [f5]; exact ear⟩⟩
    · rw [e0]
      unfold fJ2_add_2
      rw [aL_n (by rw [TT1, h5]; exact Nat.le_refl _) (by rw [TT1, h5]; exact Nat.le_refl _), N1, a10, Option.bind_some, if_neg (nI_inj10 (by omega) (by omega) (by omega)), wR_n (h := s1) (by rw [TT1]; exact h5) (by rw [N1, a10]; exact hn) (by rw [N1, a10]; decide) (by rw [G1]; omega) wok1, Option.bind_some, ← es4, pl T4 (by rw [G4]; exact gl), Option.bind_some, ← es5]
      rfl
    · have o1 : ond (fun q => q = l ∨ (1 ≤ n ∧ q = rf h l 1)) h s1 := by rw [es1]; exact ond.tI.up fun q _ y => Or.inl y
      have o4 : ond (fun q => q = l ∨ (1 ≤ n ∧ q = rf h l 1)) h s4 := by rw [es4]; exact o1.tr ond.tR fun q _ y => Or.inr ⟨n1, by rw [← ear]; exact y⟩
      rw [es5]; exact o4.tr ond.tI fun q _ y => Or.inl y
    · rw [es5, es4, es1]; show kW h ≤ kW h + 10; omega
    · refine ⟨h1.up (by omega), by rw [es5]; exact T4, by unfold isr; rw [f5, R5]; exact r1, ?_, ?_, fun i hi => ?_⟩
      · rw [f5, N5]
        exact ⟨h4.up (by omega), by rw [es5, es4]; show kT s1 ar = 39; rw [TT1]; exact h5, by omega, by decide⟩
      · rw [es5, kI_tI, if_pos ⟨rfl, rfl⟩]; exact nI_add n 1
      · by_cases c : i = n
        · rw [c, len, f5]
          exact ⟨by unfold isr rf; rw [R5a, if_pos rfl]; rfl, ix.up (by omega)⟩
        · rw [le5 i (by omega), f5]
          refine ⟨?_, (h9 i (by omega)).2.up (by omega)⟩
          have := (h9 i (by omega)).1
          rw [← ear] at this
          unfold isr rf at this ⊢
          rw [R5a, if_neg c]; exact this
end PVB
