/-! houses: a way is read, step by step -/
/-- the way that is read: its cells, its steps s; E: the Model's numbers -/
def WyS (wx q k : Nat) (F E : Nat → Nat) (s : Nat) (h : HS) (σ : MS) : Prop :=
  (kT h wx = 10 ∧ kI h wx 3 = nI s ∧ kR h wx 0 = some q ∧ kR h wx 1 = some (wx + 1) ∧ kR h wx 2 = some (wx + 2) ∧ (kT h (wx + 1) = 31 ∧ kN h (wx + 1) = 41) ∧ kT h (wx + 2) = 31 ∧ kN h (wx + 2) = 41) ∧ s ≤ 40 ∧
  (∀ i, i ≤ s → kI h (wx + 1) i = nI (E (183 + 41 * k + i)) ∧ tuf F (E (183 + 41 * k + i))) ∧ (∀ i, i < s → kI h (wx + 2) i = dirB (E (183 + 41 * k + i)) (E (183 + 41 * k + (i + 1)))) ∧ (s = 0 → kI h (wx + 2) 0 = 0) ∧ (1 ≤ s → kI h (wx + 2) s = dirB (E (183 + 41 * k + (s - 1))) (E (183 + 41 * k + s))) ∧
  (∀ i, i < 429 → gA σ 7 i = nI (E i)) ∧ ∀ i, (i < 183 + 41 * k ∨ 183 + 41 * k + 41 ≤ i) → E i = F i
section PVL
variable {S : Nat → Prop} {h0 h h' h2 hb : HS} {σ0 σ σ' : MS} {N b rd sz lim P Zm Wm Z W a l n q p w wx k s : Nat} {sp : Bool} {F F' E : Nat → Nat} {nm nm' : Nat → Int64}
/-- a way is made -/
theorem wi_n {t : Nat} (hz : kZ h + 3 ≤ kG h 1) (hw : kW h + 86 ≤ kG h 2) (gz : kG h 0 ≤ kZ h) : ∃ h', nO h 10 4 = some (kZ h, tA h 10 0 4) ∧ fX11_init N (tA h 10 0 4) (kZ h) q (nI t) = some h' ∧ ond (fun _ => False) h h' ∧ kZ h' = kZ h + 3 ∧ kW h' = kW h + 86 ∧ (kT h' (kZ h) = 10 ∧ kI h' (kZ h) 3 = nI 0 ∧ kR h' (kZ h) 0 = some q ∧ kR h' (kZ h) 1 = some (kZ h + 1) ∧ kR h' (kZ h) 2 = some (kZ h + 2) ∧ (kT h' (kZ h + 1) = 31 ∧ kN h' (kZ h + 1) = 41) ∧ kT h' (kZ h + 2) = 31 ∧ kN h' (kZ h + 2) = 41) ∧ kI h' (kZ h + 1) 0 = nI t ∧ kI h' (kZ h + 2) 0 = 0 := by
  obtain ⟨z, ez⟩ : ∃ z, z = kZ h := ⟨_, rfl⟩
  rw [← ez]
  obtain ⟨s1, e1⟩ : ∃ s, s = tR (tA h 10 0 4) z 0 (some q) := ⟨_, rfl⟩
  obtain ⟨s2, e2⟩ : ∃ s, s = tA s1 31 41 41 := ⟨_, rfl⟩
  obtain ⟨s3, e3⟩ : ∃ s, s = tR s2 z 1 (some (z + 1)) := ⟨_, rfl⟩
  obtain ⟨s4, e4⟩ : ∃ s, s = tA s3 31 41 41 := ⟨_, rfl⟩
  obtain ⟨s5, e5⟩ : ∃ s, s = tR s4 z 2 (some (z + 2)) := ⟨_, rfl⟩
  obtain ⟨s6, e6⟩ : ∃ s, s = tI s5 (z + 1) 0 (nI t) := ⟨_, rfl⟩
  have T0 : kT (tA h 10 0 4) z = 10 := by rw [kT_tA, if_pos ez]
  have Z1 : kZ s1 = z + 1 := by rw [e1, ez]; rfl
  have G1 : kG s1 = kG h := by rw [e1]; rfl
  have T1 : kT s1 z = 10 := by rw [e1]; exact T0
  have W1 : kW s1 = kW h + 4 := by rw [e1]; rfl
  have Z2 : kZ s2 = z + 2 := by rw [e2]; show kZ s1 + 1 = _; rw [Z1]
  have T2 : kT s2 z = 10 := by rw [e2, kT_tA, if_neg (by omega)]; exact T1
  have G2 : kG s2 = kG h := by rw [e2]; exact G1
  have T3 : kT s3 z = 10 := by rw [e3]; exact T2
  have Z3 : kZ s3 = z + 2 := by rw [e3]; exact Z2
  have G3 : kG s3 = kG h := by rw [e3]; exact G2
  have W3 : kW s3 = kW h + 45 := by rw [e3, e2]; show kW s1 + 41 = _; rw [W1]
  have T4 : kT s4 z = 10 := by rw [e4, kT_tA, if_neg (by omega)]; exact T3
  have G4 : kG s4 = kG h := by rw [e4]; exact G3
  have T5 : kT s5 z = 10 := by rw [e5]; exact T4
  have G5 : kG s5 = kG h := by rw [e5]; exact G4
  have T51 : kT s5 (z + 1) = 31 := by rw [e5, e4]; show kT (tA s3 31 41 41) (z + 1) = 31; rw [kT_tA, if_neg (by omega), e3]; show kT s2 (z + 1) = 31; rw [e2, kT_tA, if_pos Z1.symm]
  have N51 : kN s5 (z + 1) = 41 := by rw [e5, e4]; show kN (tA s3 31 41 41) (z + 1) = 41; rw [kN_tA, if_neg (by omega), e3]; show kN s2 (z + 1) = 41; rw [e2, kN_tA, if_pos Z1.symm]
  have R51 : kR s5 z 1 = some (z + 1) := by
    rw [e5, kR_tR, if_neg (by omega), e4, kR_tA, if_neg (by omega), e3, kR_tR, if_pos ⟨rfl, rfl⟩]
  have R50 : kR s5 z 0 = some q := by
    rw [e5, kR_tR, if_neg (by omega), e4, kR_tA, if_neg (by omega), e3, kR_tR, if_neg (by omega), e2, kR_tA, if_neg (by omega), e1, kR_tR, if_pos ⟨rfl, rfl⟩]
  have n41 : ∀ y : HS, kZ y + 1 ≤ kG y 1 → kW y + 41 ≤ kG y 2 → nA y 31 41 = some (kZ y, tA y 31 41 41) := fun y a1 a2 => by
    unfold nA
    rw [if_pos ⟨by decide, by decide, a1, a2⟩]; rfl
  refine ⟨s6, ?_, ?_, ?_, ?_, ?_, ⟨by rw [e6]; exact T5, ?_, by rw [e6]; exact R50, by rw [e6]; exact R51, ?_, ⟨by rw [e6]; exact T51, by rw [e6]; exact N51⟩, ?_, ?_⟩, ?_, ?_⟩
  · unfold nO; rw [if_pos ⟨by omega, by omega⟩, ez]
  · unfold fX11_init fX9_init
    rw [pR_n (h := tA h 10 0 4) (by rw [T0]; decide) (by rw [T0]; decide) (by rw [ez]; exact gz), Option.bind_some, ← e1, Option.bind_some, n41 s1 (by rw [Z1, G1]; omega) (by rw [W1, G1]; omega), Option.bind_some, ← e2, Z1, pR_n (h := s2) (Nat.le_of_eq T2.symm) (Nat.le_of_eq T2) (by rw [G2, ez]; exact gz), Option.bind_some, ← e3, n41 s3 (by rw [Z3, G3]; omega) (by rw [W3, G3]; omega), Option.bind_some, ← e4, Z3, pR_n (h := s4) (Nat.le_of_eq T4.symm) (Nat.le_of_eq T4) (by rw [G4, ez]; exact gz), Option.bind_some, ← e5, fR_n (h := s5) (Nat.le_of_eq T5.symm) (Nat.le_of_eq T5), R51, Option.bind_some, show wI s5 (z + 1) 31 0 (nI t) = some (tI s5 (z + 1) 0 (nI t)) from wI_n (n := 0) T51 (by rw [N51]; decide) (by rw [N51]; decide) (by rw [G5]; omega), Option.bind_some, ← e6]
  · have o1 : ond (fun _ => False) h s1 := by rw [e1]; exact ond.tA.tr ond.tR fun q hq z => by omega
    have o2 : ond (fun _ => False) h s2 := by rw [e2]; exact o1.tr ond.tA fun q hq z => z
    have o3 : ond (fun _ => False) h s3 := by rw [e3]; exact o2.tr ond.tR fun q hq z => by omega
    have o4 : ond (fun _ => False) h s4 := by rw [e4]; exact o3.tr ond.tA fun q hq z => z
    have o5 : ond (fun _ => False) h s5 := by rw [e5]; exact o4.tr ond.tR fun q hq z => by omega
    rw [e6]; exact o5.tr ond.tI fun q hq z => by omega
  · rw [e6, e5, e4]; show kZ s3 + 1 = _; rw [Z3]
  · rw [e6, e5, e4]; show kW s3 + 41 = _; rw [W3]
  · rw [e6, kI_tI, if_neg (by omega), e5]; show kI s4 z 3 = _; rw [e4, kI_tA, if_neg (by omega), e3]; show kI s2 z 3 = _; rw [e2, kI_tA, if_neg (by omega), e1]; show kI (tA h 10 0 4) z 3 = _; rw [kI_tA, if_pos ez]; rfl
  · rw [e6]; show kR s5 z 2 = _; rw [e5, kR_tR, if_pos ⟨rfl, rfl⟩]
  · rw [e6, e5]; show kT s4 (z + 2) = 31; rw [e4, kT_tA, if_pos Z3.symm]
  · rw [e6, e5]; show kN s4 (z + 2) = 41; rw [e4, kN_tA, if_pos Z3.symm]
  · rw [e6, kI_tI, if_pos ⟨rfl, rfl⟩]
  · rw [e6, kI_tI, if_neg (by omega), e5]; show kI s4 (z + 2) 0 = _; rw [e4, kI_tA, if_pos Z3.symm]
/-- one step on -/
theorem on_n {d o : Nat} (X : WyS wx q k F E s h σ) (hs : s < 40) (g : kG h 0 ≤ wx) (hk : k < 6) (hd : d < 4) (ho : tuf F o) (hdo : dirB (E (183 + 41 * k + s)) o = nI d) : ∃ h', fX11_on N h wx (nI d) (nI o) = some h' ∧ ond (fun y => y = wx ∨ y = wx + 1 ∨ y = wx + 2) h h' ∧ kZ h' = kZ h ∧ kW h' = kW h ∧ WyS wx q k F (uF E (183 + 41 * k + (s + 1)) o) (s + 1) h' (aS σ 7 (upd (gA σ 7) (183 + 41 * k + (s + 1)) (nI o))) := by
  obtain ⟨⟨T, I3, R0, R1, R2, ⟨T1, N1⟩, T2, N2⟩, -, tu, di, d0, ds, gA7, ou⟩ := X
  obtain ⟨s1, e1⟩ : ∃ y, y = tI h (wx + 2) s (nI d) := ⟨_, rfl⟩
  obtain ⟨s2, e2⟩ : ∃ y, y = tI s1 wx 3 (nI (s + 1)) := ⟨_, rfl⟩
  obtain ⟨s3, e3⟩ : ∃ y, y = tI s2 (wx + 1) (s + 1) (nI o) := ⟨_, rfl⟩
  obtain ⟨s4, e4⟩ : ∃ y, y = tI s3 (wx + 2) (s + 1) (nI d) := ⟨_, rfl⟩
  have Tt : ∀ {y : HS}, kT y wx = 10 → ∀ j, oI y wx 10 10 j = some (kI y wx j) := fun e j => oI_n (Nat.le_of_eq e.symm) (Nat.le_of_eq e)
  have Tf : ∀ {y : HS}, kT y wx = 10 → ∀ j, fR y wx 10 10 j = kR y wx j := fun e j => fR_n (Nat.le_of_eq e.symm) (Nat.le_of_eq e)
  have a1 : kT s1 wx = 10 := by rw [e1]; exact T
  have a2 : kT s2 wx = 10 := by rw [e2]; exact a1
  have a3 : kT s3 wx = 10 := by rw [e3]; exact a2
  have i1 : kI s1 wx 3 = nI s := by rw [e1, kI_tIo (by omega)]; exact I3
  have i2 : kI s2 wx 3 = nI (s + 1) := by rw [e2, kI_tI, if_pos ⟨rfl, rfl⟩]
  have i3 : kI s3 wx 3 = nI (s + 1) := by rw [e3, kI_tIo (by omega)]; exact i2
  have I4 : kI s4 wx 3 = nI (s + 1) := by rw [e4, kI_tIo (by omega)]; exact i3
  have w1 : ∀ j, kI s4 (wx + 1) j = if j = s + 1 then nI o else kI h (wx + 1) j := fun j => by
    rw [e4, kI_tIo (by omega), e3, kI_tI]
    by_cases c : j = s + 1
    · rw [if_pos ⟨rfl, c⟩, if_pos c]
    · rw [if_neg (fun z => c z.2), if_neg c, e2, kI_tIo (by omega), e1, kI_tIo (by omega)]
  have w2 : ∀ j, kI s4 (wx + 2) j = if j = s + 1 then nI d else if j = s then nI d else kI h (wx + 2) j := fun j => by
    rw [e4, kI_tI]
    by_cases c : j = s + 1
    · rw [if_pos ⟨rfl, c⟩, if_pos c]
    · rw [if_neg (fun z => c z.2), if_neg c, e3, kI_tIo (by omega), e2, kI_tIo (by omega), e1, kI_tI]
      by_cases c2 : j = s
      · rw [if_pos ⟨rfl, c2⟩, if_pos c2]
      · rw [if_neg (fun z => c2 z.2), if_neg c2]
  have Eo : ∀ i, i ≤ s → uF E (183 + 41 * k + (s + 1)) o (183 + 41 * k + i) = E (183 + 41 * k + i) := fun i hi => uF_o (by omega)
  refine ⟨s4, ?_, ?_, by rw [e4, e3, e2, e1]; rfl, by rw [e4, e3, e2, e1]; rfl, ⟨by rw [e4]; exact a3, I4, by rw [e4, e3, e2, e1]; exact R0, by rw [e4, e3, e2, e1]; exact R1, by rw [e4, e3, e2, e1]; exact R2, ⟨by rw [e4, e3, e2, e1]; exact T1, by rw [e4, e3, e2, e1]; exact N1⟩, by rw [e4, e3, e2, e1]; exact T2, by rw [e4, e3, e2, e1]; exact N2⟩, by omega, fun i hi => ?_, fun i hi => ?_, fun z => by omega, fun _ => ?_, ?_, fun i hi => by rw [uF_o (by omega)]; exact ou i hi⟩
  · unfold fX11_on
    rw [Tf T, R2, Option.bind_some, Tt T, I3, Option.bind_some, wI_n T2 (by rw [N2]; omega) (by rw [N2]; decide) (by omega), Option.bind_some, ← e1, Tt a1, i1, Option.bind_some, pI_n (h := s1) (Nat.le_of_eq a1.symm) (Nat.le_of_eq a1) (by rw [e1]; exact g), Option.bind_some, show nI s + 1 = nI (s + 1) from nI_add s 1, ← e2, Tf a2, show kR s2 wx 1 = some (wx + 1) by rw [e2, e1]; exact R1, Option.bind_some, Tt a2, i2, Option.bind_some, wI_n (h := s2) (by rw [e2, e1]; exact T1) (by rw [e2, e1]; show s + 1 < kN h (wx + 1); rw [N1]; omega) (by rw [e2, e1]; show kN h (wx + 1) < _; rw [N1]; decide) (by rw [e2, e1]; show kG h 0 ≤ _; omega), Option.bind_some, ← e3, Tf a3, show kR s3 wx 2 = some (wx + 2) by rw [e3, e2, e1]; exact R2, Option.bind_some, Tt a3, i3, Option.bind_some, wI_n (h := s3) (by rw [e3, e2, e1]; exact T2) (by rw [e3, e2, e1]; show s + 1 < kN h (wx + 2); rw [N2]; omega) (by rw [e3, e2, e1]; show kN h (wx + 2) < _; rw [N2]; decide) (by rw [e3, e2, e1]; show kG h 0 ≤ _; omega), Option.bind_some, ← e4]
  · rw [e4, e3, e2, e1]
    exact (((ond.tI.up fun y _ z => Or.inr (Or.inr z)).tr ond.tI fun y _ z => Or.inl z).tr ond.tI fun y _ z => Or.inr (Or.inl z)).tr ond.tI fun y _ z => Or.inr (Or.inr z)
  · rw [w1]
    by_cases c : i = s + 1
    · rw [if_pos c, c, uF_s]; exact ⟨rfl, ho⟩
    · rw [if_neg c, Eo i (by omega)]; exact tu i (by omega)
  · rw [w2, if_neg (by omega)]
    by_cases c : i = s
    · rw [if_pos c, c, Eo s (Nat.le_refl _), uF_s]; exact hdo.symm
    · rw [if_neg c, Eo i (by omega), Eo (i + 1) (by omega)]; exact di i (by omega)
  · rw [w2, if_pos rfl, Nat.add_sub_cancel, Eo s (Nat.le_refl _), uF_s]; exact hdo.symm
  · intro i hi
    rw [gA_same]; exact upd_uF gA7 i hi
theorem WyS.o (X : WyS wx q k F E s h σ) (K : ond S h h') (n : ¬ S wx ∧ ¬ S (wx + 1) ∧ ¬ S (wx + 2)) (z : wx + 3 ≤ kZ h) (e : gA σ' 7 = gA σ 7) : WyS wx q k F E s h' σ' := by
  obtain ⟨a1, a2, a3, a4⟩ := K.2.2 wx (by omega) n.1
  obtain ⟨b1, b2, b3, b4⟩ := K.2.2 (wx + 1) (by omega) n.2.1
  obtain ⟨c1, c2, c3, c4⟩ := K.2.2 (wx + 2) (by omega) n.2.2
  unfold WyS
  rw [a1, a3, a4, b1, b2, b3, c1, c2, c3, e]
  exact X
end PVL
