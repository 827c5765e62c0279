/-! houses: a new one -/
section PVR
variable {S : Nat → Prop} {h0 h h' h2 : HS} {σ0 σ σ' : MS} {N b rd a k z : Nat} {F : Nat → Nat} {nm : Nat → Int64}
/-- a list is made, and kept in field k of a -/
theorem li_n (T : kT h a = 2) (g : kG h 0 ≤ a) (az : a < kZ h) (hz : kZ h + 1 ≤ kG h 1) (hw : kW h + 3 ≤ kG h 2) (gz : kG h 0 ≤ kZ h) : ∃ h1 h', nO h 15 3 = some (kZ h, tA h 15 0 3) ∧ fJ2_init N (tA h 15 0 3) (kZ h) = some h1 ∧ pR h1 a 2 2 k (some (kZ h)) = some h' ∧ ond (fun q => q = a) h h' ∧ kZ h' = kZ h + 1 ∧ kW h' = kW h + 3 ∧ (kT h' (kZ h) = 15 ∧ kR h' (kZ h) 1 = some (kG h 12) ∧ kI h' (kZ h) 2 = 0) ∧ kT h' a = 2 ∧ kI h' a = kI h a ∧ ∀ j, kR h' a j = if j = k then some (kZ h) else kR h a j := by
  have Tz : kT (tA h 15 0 3) (kZ h) = 15 := by rw [kT_tA, if_pos rfl]
  have ne : a ≠ kZ h := by omega
  have Ta : kT (tA h 15 0 3) a = 2 := by rw [kT_tA, if_neg ne]; exact T
  refine ⟨tR (tI (tA h 15 0 3) (kZ h) 0 0) (kZ h) 1 (some (kG h 12)), tR (tR (tI (tA h 15 0 3) (kZ h) 0 0) (kZ h) 1 (some (kG h 12))) a k (some (kZ h)), ?_, ?_, ?_, ?_, rfl, rfl, ⟨Tz, ?_, ?_⟩, Ta, ?_, fun j => ?_⟩
  · unfold nO; rw [if_pos ⟨hz, hw⟩]
  · unfold fJ2_init fJ1_init
    rw [pI_n (h := tA h 15 0 3) (Nat.le_of_eq Tz.symm) (Nat.le_of_eq Tz) gz, Option.bind_some, Option.bind_some, pR_n (h := tI (tA h 15 0 3) (kZ h) 0 0) (Nat.le_of_eq Tz.symm) (Nat.le_of_eq Tz) gz, Option.bind_some]; rfl
  · exact pR_n (h := tR (tI (tA h 15 0 3) (kZ h) 0 0) (kZ h) 1 (some (kG h 12))) (Nat.le_of_eq Ta.symm) (Nat.le_of_eq Ta) g
  · exact (((ond.tA.up fun _ _ z => z.elim).tr ond.tI fun q hq z => by omega).tr ond.tR fun q hq z => by omega).tr ond.tR fun q _ z => z
  · rw [kR_tR, if_neg (by omega), kR_tR, if_pos ⟨rfl, rfl⟩]
  · show kI (tI (tA h 15 0 3) (kZ h) 0 0) (kZ h) 2 = 0
    rw [kI_tI, if_neg (by omega), kI_tA, if_pos rfl]
  · show kI (tI (tA h 15 0 3) (kZ h) 0 0) a = kI h a
    rw [kI_tIo ne, kI_tAo ne]
  · rw [kR_tR]
    by_cases c : j = k
    · rw [if_pos ⟨rfl, c⟩, if_pos c]
    · rw [if_neg (fun z => c z.2), if_neg c, kR_tR, if_neg (fun z => ne z.1)]
      show kR (tA h 15 0 3) a j = _
      rw [kR_tAo ne]
/-- a row of booleans is made, and kept in field k of a -/
theorem ba_n (T : kT h a = 2) (g : kG h 0 ≤ a) (az : a < kZ h) (hz : kZ h + 1 ≤ kG h 1) (hw : kW h + 144 ≤ kG h 2) : ∃ h', nA h 33 144 = some (kZ h, tA h 33 144 144) ∧ pR (tA h 33 144 144) a 2 2 k (some (kZ h)) = some h' ∧ ond (fun q => q = a) h h' ∧ kZ h' = kZ h + 1 ∧ kW h' = kW h + 144 ∧ (kT h' (kZ h) = 33 ∧ kN h' (kZ h) = 144 ∧ ∀ t, kI h' (kZ h) t = 0) ∧ kT h' a = 2 ∧ kI h' a = kI h a ∧ ∀ j, kR h' a j = if j = k then some (kZ h) else kR h a j := by
  have ne : a ≠ kZ h := by omega
  have Ta : kT (tA h 33 144 144) a = 2 := by rw [kT_tA, if_neg ne]; exact T
  refine ⟨tR (tA h 33 144 144) a k (some (kZ h)), ?_, pR_n (h := tA h 33 144 144) (Nat.le_of_eq Ta.symm) (Nat.le_of_eq Ta) g, ?_, rfl, rfl, ⟨?_, ?_, fun t => ?_⟩, Ta, ?_, fun j => ?_⟩
  · unfold nA; rw [if_pos ⟨by decide, by decide, hz, hw⟩]; rfl
  · exact (ond.tA.up fun _ _ z => z.elim).tr ond.tR fun q _ z => z
  · show kT (tA h 33 144 144) (kZ h) = 33; rw [kT_tA, if_pos rfl]
  · show kN (tA h 33 144 144) (kZ h) = 144; rw [kN_tA, if_pos rfl]
  · show kI (tA h 33 144 144) (kZ h) t = 0; rw [kI_tA, if_pos rfl]
  · show kI (tA h 33 144 144) a = kI h a; rw [kI_tAo ne]
  · rw [kR_tR]
    by_cases c : j = k
    · rw [if_pos ⟨rfl, c⟩, if_pos c]
    · rw [if_neg (fun z => c z.2), if_neg c, kR_tAo ne]
/-- a house, new -/
theorem hou_i (T : kT h a = 2) (g : kG h 0 ≤ a) (az : a + 1 = kZ h) (I0 : ∀ j, kI h a j = 0) (hz : kZ h + 5 ≤ kG h 1) (hw : kW h + 297 ≤ kG h 2) : ∃ h', fX2_init N h a = some h' ∧ ond (fun q => q = a) h h' ∧ kZ h' = a + 6 ∧ kW h' = kW h + 297 ∧ kT h' a = 2 ∧ (∀ j, kI h' a j = if j = 2 then 9 else 0) ∧ (∀ j, 5 ≤ j → j ≤ 9 → kR h' a j = some (a + j - 4)) ∧ (∀ j, 1 ≤ j → j ≤ 3 → kT h' (a + j) = 15 ∧ kR h' (a + j) 1 = some (kG h 12) ∧ kI h' (a + j) 2 = 0) ∧ ∀ j, (j = 4 ∨ j = 5) → kT h' (a + j) = 33 ∧ kN h' (a + j) = 144 ∧ ∀ t, kI h' (a + j) t = 0 := by
  obtain ⟨s1, e1⟩ : ∃ y, y = tI h a 2 9 := ⟨_, rfl⟩
  have T1 : kT s1 a = 2 := by rw [e1]; exact T
  have G1 : kG s1 = kG h := by rw [e1]; rfl
  have Z1 : kZ s1 = a + 1 := by rw [e1, az]; rfl
  have W1 : kW s1 = kW h := by rw [e1]; rfl
  have O1 : ond (fun q => q = a) h s1 := by rw [e1]; exact ond.tI
  have i1 : ∀ j, kI s1 a j = if j = 2 then 9 else 0 := fun j => by
    rw [e1, kI_tI]
    by_cases c : j = 2
    · rw [if_pos ⟨rfl, c⟩, if_pos c]
    · rw [if_neg (fun z => c z.2), if_neg c]; exact I0 j
  obtain ⟨s2, s3, a1, a2, a3, a4, a5, a6, a7, a8, a9, a10⟩ := li_n (N := N) (k := 5) T1 (by rw [G1]; exact g) (by omega) (by rw [G1]; omega) (by rw [G1, W1]; omega) (by rw [G1]; omega)
  have G3 : kG s3 = kG h := a4.2.1.trans G1
  rw [Z1] at a1 a2 a3 a5 a7 a10
  obtain ⟨s4, s5, b1, b2, b3, b4, b5, b6, b7, b8, b9, b10⟩ := li_n (N := N) (k := 6) a8 (by rw [G3]; exact g) (by omega) (by rw [G3]; omega) (by rw [G3]; omega) (by rw [G3]; omega)
  have G5 : kG s5 = kG h := b4.2.1.trans G3
  rw [a5] at b1 b2 b3 b5 b7 b10
  obtain ⟨s6, s7, c1, c2, c3, c4, c5, c6, c7, c8, c9, c10⟩ := li_n (N := N) (k := 7) b8 (by rw [G5]; exact g) (by omega) (by rw [G5]; omega) (by rw [G5]; omega) (by rw [G5]; omega)
  have G7 : kG s7 = kG h := c4.2.1.trans G5
  rw [b5] at c1 c2 c3 c5 c7 c10
  obtain ⟨s8, d1, d2, d3, d4, d5, d6, d7, d8, d9⟩ := ba_n (k := 8) c8 (by rw [G7]; exact g) (by omega) (by rw [G7]; omega) (by rw [G7]; omega)
  have G8 : kG s8 = kG h := d3.2.1.trans G7
  rw [c5] at d1 d2 d4 d6 d9
  obtain ⟨s9, f1, f2, f3, f4, f5, f6, f7, f8, f9⟩ := ba_n (k := 9) d7 (by rw [G8]; exact g) (by omega) (by rw [G8]; omega) (by rw [G8]; omega)
  rw [d4] at f1 f2 f4 f6 f9
  have x3 := b4.2.2
  have x5 := c4.2.2
  have x7 := d3.2.2
  have x8 := f3.2.2
  have y1 := b4.2.2 (a + 1) (by omega) (show ¬ a + 1 = a by omega)
  have y2 := c4.2.2 (a + 1) (by omega) (show ¬ a + 1 = a by omega)
  have y3 := d3.2.2 (a + 1) (by omega) (show ¬ a + 1 = a by omega)
  have y4 := f3.2.2 (a + 1) (by omega) (show ¬ a + 1 = a by omega)
  have u2 := c4.2.2 (a + 2) (by omega) (show ¬ a + 2 = a by omega)
  have u3 := d3.2.2 (a + 2) (by omega) (show ¬ a + 2 = a by omega)
  have u4 := f3.2.2 (a + 2) (by omega) (show ¬ a + 2 = a by omega)
  have v3 := d3.2.2 (a + 3) (by omega) (show ¬ a + 3 = a by omega)
  have v4 := f3.2.2 (a + 3) (by omega) (show ¬ a + 3 = a by omega)
  have w4 := f3.2.2 (a + 4) (by omega) (show ¬ a + 4 = a by omega)
  refine ⟨s9, ?_, (((((O1.trans a4).trans b4).trans c4).trans d3).trans f3), f4, by omega, f7, fun j => ?_, fun j j1 j2 => ?_, fun j j1 j2 => ?_, fun j hj => ?_⟩
  · unfold fX2_init
    rw [pI_n (Nat.le_of_eq T.symm) (Nat.le_of_eq T) g, Option.bind_some, ← e1, a1, Option.bind_some, a2, Option.bind_some, a3, Option.bind_some, b1, Option.bind_some, b2, Option.bind_some, b3, Option.bind_some, c1, Option.bind_some, c2, Option.bind_some, c3, Option.bind_some, d1, Option.bind_some, d2, Option.bind_some, f1, Option.bind_some, f2, Option.bind_some]
  · rw [f8, d8, c9, b9, a9]; exact i1 j
  · rw [f9, d9, c10, b10, a10]
    rcases (show j = 5 ∨ j = 6 ∨ j = 7 ∨ j = 8 ∨ j = 9 by omega) with rfl | rfl | rfl | rfl | rfl <;> rfl
  · rcases (show j = 1 ∨ j = 2 ∨ j = 3 by omega) with rfl | rfl | rfl
    · rw [y4.1, y3.1, y2.1, y1.1, y4.2.2.1, y3.2.2.1, y2.2.2.1, y1.2.2.1, y4.2.2.2, y3.2.2.2, y2.2.2.2, y1.2.2.2, ← G1]; exact a7
    · rw [u4.1, u3.1, u2.1, u4.2.2.1, u3.2.2.1, u2.2.2.1, u4.2.2.2, u3.2.2.2, u2.2.2.2, ← G3]; exact b7
    · rw [v4.1, v3.1, v4.2.2.1, v3.2.2.1, v4.2.2.2, v3.2.2.2, ← G5]; exact c7
  · rcases hj with rfl | rfl
    · rw [w4.1, w4.2.1, w4.2.2.1]; exact d6
    · exact f6
/-- the numbers of a new house -/
def F0n : Nat → Nat := fun i => if i = 6 then 9 else 0
theorem F0_ok : HOK F0n := by
  refine ⟨⟨by decide, by decide, by decide, by decide, by decide, by decide, by decide, by decide⟩, fun p hp => absurd hp (Nat.not_lt_zero _), fun p _ _ => ?_, fun t _ => ?_, fun k hk => absurd hk (Nat.not_lt_zero _), fun w hw => absurd hw (Nat.not_lt_zero _)⟩
  · unfold F0n; rw [if_neg (by omega)]
  · unfold F0n; rw [if_neg (by omega)]; decide
/-- a new house is as the Model's numbers say -/
theorem hou_0 (hT : kT h a = 2) (hI : ∀ j, kI h a j = if j = 2 then 9 else 0) (hR : ∀ j, 5 ≤ j → j ≤ 9 → kR h a j = some (a + j - 4)) (hL : ∀ j, 1 ≤ j → j ≤ 3 → kT h (a + j) = 15 ∧ kR h (a + j) 1 = some (kG h 12) ∧ kI h (a + j) 2 = 0) (hB : ∀ j, (j = 4 ∨ j = 5) → kT h (a + j) = 33 ∧ kN h (a + j) = 144 ∧ ∀ t, kI h (a + j) t = 0) (im : ∀ j, j < 6 → imm b (kZ h) (a + j)) (i12 : imm b (kZ h) (kG h 12)) (t12 : kT h (kG h 12) = 39) (n12 : kN h (kG h 12) = 0) : HouR h (kI h) b a F0n nm := by
  have f : ∀ j, 5 ≤ j → j ≤ 9 → rf h a j = a + j - 4 := fun j j1 j2 => by unfold rf; rw [hR j j1 j2]; rfl
  have L : ∀ j, 1 ≤ j → j ≤ 3 → LstR h (kI h) b (a + j) 0 := fun j j1 j2 => by
    obtain ⟨l1, l2, l3⟩ := hL j j1 j2
    have e : rf h (a + j) 1 = kG h 12 := by unfold rf; rw [l2]; rfl
    refine ⟨im j (by omega), l1, by unfold isr; rw [e]; exact l2, by rw [e]; exact ⟨i12, t12, by rw [n12]; exact Nat.le_refl _, by rw [n12]; decide⟩, l3, fun i hi => absurd hi (Nat.not_lt_zero _)⟩
  refine ⟨F0_ok, im 0 (by decide), hT, fun j j1 j2 => by unfold isr; rw [f j j1 j2]; exact hR j j1 j2, ⟨by rw [hI]; rfl, by rw [hI]; rfl, by rw [hI]; rfl, by rw [hI]; rfl⟩, ?_, ?_, ?_, fun p hp => absurd hp (Nat.not_lt_zero _), fun p hp => absurd hp (Nat.not_lt_zero _), fun p hp => absurd hp (Nat.not_lt_zero _), ?_, ?_⟩
  · rw [f 5 (by decide) (by decide)]; exact L 1 (by decide) (by decide)
  · rw [f 6 (by decide) (by decide)]; exact L 2 (by decide) (by decide)
  · rw [f 7 (by decide) (by decide)]; exact L 3 (by decide) (by decide)
  · obtain ⟨l1, l2, l3⟩ := hB 4 (Or.inl rfl)
    rw [f 8 (by decide) (by decide)]
    refine ⟨im 4 (by decide), l1, l2, fun t ht => ?_⟩
    rw [show F0n (25 + t) = 0 by unfold F0n; rw [if_neg (by omega)]]
    exact l3 t
  · obtain ⟨l1, l2, l3⟩ := hB 5 (Or.inr rfl)
    rw [f 9 (by decide) (by decide)]
    exact ⟨im 5 (by decide), l1, l2, fun t ht => Or.inr ⟨l3 t, fun k hk => absurd hk (Nat.not_lt_zero _)⟩⟩
end PVR
