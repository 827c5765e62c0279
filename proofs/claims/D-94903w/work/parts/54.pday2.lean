/-! a day, the Model's; operation: days -/
section PD2
variable {h : HS} {g : Nat → Nat → Int32} {σ : MS} {N r b a n : Nat} {F : Nat → Nat} {nm : Nat → Int64}
/-- what a day does to the Model's numbers -/
def dyQ (f f' : Nat → Int32) (fd : Nat) : Prop := f' 429 = f 429 + 1 ∧ (∀ m i, m < 864 → i < 9 → f' (2308 + 9 * m + i) = shf fd (fun j => f (2308 + 9 * m + j)) i) ∧ (∀ t i, t < 144 → i < 9 → f' (1012 + 9 * t + i) = shf fd (fun j => f (1012 + 9 * t + j)) i) ∧
  (∀ t, t < 144 → (¬ f (436 + 4 * t) ≤ 0 ∧ ¬ (f 429 + 1) - f (436 + 4 * t + 3) < nI fd ∧ ∀ k, k < 4 → f' (436 + 4 * t + k) = 0) ∨ ((f (436 + 4 * t) ≤ 0 ∨ (f 429 + 1) - f (436 + 4 * t + 3) < nI fd) ∧ ∀ k, k < 4 → f' (436 + 4 * t + k) = f (436 + 4 * t + k))) ∧ ∀ i, (i < 429 ∨ (430 ≤ i ∧ i < 436) ∨ 10084 ≤ i) → f' i = f i
theorem olF_in {f : Nat → Int32} {row fd i : Nat} (hi : i < 9) : olF f row fd (row + i) = shf fd (fun j => f (row + j)) i := by
  unfold olF
  rw [if_pos (by omega), show row + i - row = i by omega]
theorem olF_out {f : Nat → Int32} {row fd j : Nat} (h : j < row ∨ row + 9 ≤ j) : olF f row fd j = f j := if_neg (by omega)
def tqD (f1 : Nat → Int32) (fd : Nat) (f' : Nat → Int32) (t : Nat) : Prop := (¬ f1 (436 + 4 * t) ≤ 0 ∧ ¬ f1 429 - f1 (436 + 4 * t + 3) < nI fd ∧ ∀ k, k < 4 → f' (436 + 4 * t + k) = 0) ∨ ((f1 (436 + 4 * t) ≤ 0 ∨ f1 429 - f1 (436 + 4 * t + 3) < nI fd) ∧ ∀ k, k < 4 → f' (436 + 4 * t + k) = f1 (436 + 4 * t + k))
theorem mo_d14 (hN : 200000 ≤ N) (hM : MH (gA σ 6) F) {f1 : Nat → Int32} (ef1 : f1 = upd (gA σ 6) 429 (gA σ 6 429 + 1)) : okk (lX5_day_14 N N (aS σ 6 f1) (nI 0)) (fun s => ∃ f', s = aS σ 6 f' ∧ (∀ m i, m < 864 → i < 9 → f' (2308 + 9 * m + i) = shf (F 6) (fun j => f1 (2308 + 9 * m + j)) i) ∧ ∀ j, (j < 2308 ∨ 10084 ≤ j) → f' j = f1 j) := by
  refine okf (fun m (s : MS) i => lX5_day_14 N m s i) 864 (fun q s => ∃ f', s = aS σ 6 f' ∧ (∀ m i, m < 864 → i < 9 → (m < q → f' (2308 + 9 * m + i) = shf (F 6) (fun j => f1 (2308 + 9 * m + j)) i) ∧ (q ≤ m → f' (2308 + 9 * m + i) = f1 (2308 + 9 * m + i))) ∧ ∀ j, (j < 2308 ∨ 10084 ≤ j) → f' j = f1 j) _ ?_ ?_ 0 (aS σ 6 f1) N (by omega) (by omega) ⟨f1, rfl, fun _ _ _ _ => ⟨fun hq => by omega, fun _ => rfl⟩, fun _ _ => rfl⟩
  · rintro q s m hq ⟨f', rfl, q1, q2⟩
    right
    have hMa : MH (gA (aS σ 6 f') 6) F := by rw [gA_same]; exact ⟨hM.1, fun j hj => by rw [q2 j (by omega), ef1, pk_un (by omega)]; exact hM.2 j hj⟩
    have e := mo_older (N := N) (row := 2308 + 9 * q) hN hMa (by omega) (by omega)
    rw [gA_same, aS_aS] at e
    refine ⟨_, ⟨olF f' (2308 + 9 * q) (F 6), rfl, fun m i hm hi => ⟨fun hmq => ?_, fun hmq => ?_⟩, fun j hj => by rw [olF_out (by omega)]; exact q2 j hj⟩, ?_⟩
    · by_cases c : m = q
      · subst c
        rw [olF_in hi]
        exact shf_ext fun _ => (q1 m (i - 1) hm (by omega)).2 (Nat.le_refl _)
      · rw [olF_out (by omega)]; exact (q1 m i hm hi).1 (by omega)
    · rw [olF_out (by omega)]; exact (q1 m i hm hi).2 (by omega)
    · rw [lX5_day_14]
      simp (disch := omega) only [pl_let, pl_lef, pl_ltt, pl_ltf, pl_eqf, pl_let1, pl_lef1, pl_ltt1, pl_ltf1, pl_eqf1, pl_let2, pl_lef2, pl_ltt2, pl_ltf2, pl_em1, if_true, if_false, ite_self, pl_la, pl_al, pl_lm, pl_ml, nI_add, pk_mul, pl_sl, pl_m1, e, Option.bind_some]
  · rintro s m ⟨f', rfl, q1, q2⟩
    refine ⟨_, ?_, f', rfl, fun m i hm hi => (q1 m i hm hi).1 hm, q2⟩
    rw [lX5_day_14]
    simp (disch := omega) only [pl_let, pl_lef, pl_ltt, pl_ltf, pl_eqf, pl_let1, pl_lef1, pl_ltt1, pl_ltf1, pl_eqf1, pl_let2, pl_lef2, pl_ltt2, pl_ltf2, pl_em1, if_true, if_false, ite_self]
theorem pl_a3 {n : Nat} : nI n + 3 = nI (n + 3) := by simp only [pl_la, pl_al, pl_lm, pl_ml, nI_add, pk_mul, pl_sl, pl_m1]
theorem dy_red {f1 f' f3 f4 : Nat → Int32} {q m : Nat} (i2 : (1012 : Int32) + 9 * nI q = nI (1012 + 9 * q)) (i3 : (436 : Int32) + 4 * nI q = nI (436 + 4 * q)) (hq : q < 144) (e : fX5_older N (aS σ 6 f') (nI (1012 + 9 * q)) = some (aS σ 6 f3)) (g9 : rA (aS σ 6 f3) 6 429 = some (f3 429)) (v0 : rA (aS σ 6 f3) 6 (nI (436 + 4 * q)) = some (f1 (436 + 4 * q))) (v9 : f3 429 = f1 429) (v3 : rA (aS σ 6 f3) 6 (nI (436 + 4 * q) + 3) = some (f1 (436 + 4 * q + 3))) (v6 : rA (aS σ 6 f3) 6 6 = some (nI (F 6)))
    (ec : fX5_clears N (aS σ 6 f3) (nI (436 + 4 * q)) 4 = some (aS σ 6 f4)) : lX5_day_41 N (m + 1) (aS σ 6 f') (nI q) = (if f1 (436 + 4 * q) ≤ 0 then lX5_day_41 N m (aS σ 6 f3) (nI (q + 1)) else if f1 429 - f1 (436 + 4 * q + 3) < nI (F 6) then lX5_day_41 N m (aS σ 6 f3) (nI (q + 1)) else lX5_day_41 N m (aS σ 6 f4) (nI (q + 1))) := by
  have n1 : nI q + 1 = nI (q + 1) := by simp only [pl_la, pl_al, pl_lm, pl_ml, nI_add, pk_mul, pl_sl, pl_m1]
  have c1 : ¬ (144 : Int32) ≤ nI q := by simp (disch := omega) only [pl_let, pl_lef, pl_ltt, pl_ltf, pl_eqf, pl_let1, pl_lef1, pl_ltt1, pl_ltf1, pl_eqf1, pl_let2, pl_lef2, pl_ltt2, pl_ltf2, pl_em1, if_true, if_false, ite_self]; exact not_false
  rw [lX5_day_41, if_neg c1, i2, i3, e, n1]
  simp only [Option.bind_some, v0, g9, v9, v3, v6, ec]
theorem mo_d41 (hN : 200000 ≤ N) (hM : MH (gA σ 6) F) {f1 f2 : Nat → Int32} (fo : ∀ j, j ≠ 429 → f1 j = gA σ 6 j) (a2 : ∀ j, (j < 2308 ∨ 10084 ≤ j) → f2 j = f1 j) : okk (lX5_day_41 N N (aS σ 6 f2) (nI 0)) (fun s => ∃ f', s = aS σ 6 f' ∧ (∀ t, t < 144 → (∀ i, i < 9 → f' (1012 + 9 * t + i) = shf (F 6) (fun j => f1 (1012 + 9 * t + j)) i) ∧ tqD f1 (F 6) f' t) ∧ ∀ j, (j < 436 ∨ 2308 ≤ j) → f' j = f2 j) := by
  have k6 := hM.1.1.2.2.2.2.2.2
  refine okf (fun m (s : MS) i => lX5_day_41 N m s i) 144 (fun q s => ∃ f', s = aS σ 6 f' ∧ (∀ t, t < 144 → (t < q → (∀ i, i < 9 → f' (1012 + 9 * t + i) = shf (F 6) (fun j => f1 (1012 + 9 * t + j)) i) ∧ tqD f1 (F 6) f' t) ∧ (q ≤ t → (∀ i, i < 9 → f' (1012 + 9 * t + i) = f1 (1012 + 9 * t + i)) ∧ ∀ k, k < 4 → f' (436 + 4 * t + k) = f1 (436 + 4 * t + k))) ∧ ∀ j, (j < 436 ∨ 2308 ≤ j) → f' j = f2 j) _ ?_ ?_ 0 (aS σ 6 f2) N (by omega) (by omega) ⟨f2, rfl, fun t ht => ⟨fun hq => by omega, fun _ => ⟨fun i hi => a2 _ (by omega), fun k hk => a2 _ (by omega)⟩⟩, fun _ _ => rfl⟩
  · rintro q s m hq ⟨f', rfl, q1, q2⟩
    right
    have hMa : MH (gA (aS σ 6 f') 6) F := by rw [gA_same]; exact ⟨hM.1, fun j hj => by rw [q2 j (by omega), a2 j (by omega), fo j (by omega)]; exact hM.2 j hj⟩
    have e := mo_older (N := N) (row := 1012 + 9 * q) hN hMa (by omega) (by omega)
    rw [gA_same, aS_aS] at e
    obtain ⟨f3, ef3⟩ : ∃ f3, f3 = olF f' (1012 + 9 * q) (F 6) := ⟨_, rfl⟩
    rw [← ef3] at e
    have o3 : ∀ j, (j < 1012 + 9 * q ∨ 1012 + 9 * q + 9 ≤ j) → f3 j = f' j := fun j hj => by rw [ef3]; exact olF_out hj
    have hMb : MH (gA (aS σ 6 f3) 6) F := by rw [gA_same]; exact ⟨hM.1, fun j hj => by rw [o3 j (by omega), q2 j (by omega), a2 j (by omega), fo j (by omega)]; exact hM.2 j hj⟩
    obtain ⟨b1, b2⟩ := (q1 q hq).2 (Nat.le_refl _)
    have v0 : f3 (436 + 4 * q) = f1 (436 + 4 * q) := by rw [o3 _ (by omega)]; exact b2 0 (by decide)
    have v3 : f3 (436 + 4 * q + 3) = f1 (436 + 4 * q + 3) := by rw [o3 _ (by omega)]; exact b2 3 (by decide)
    have v9 : f3 429 = f1 429 := by rw [o3 _ (by omega), q2 429 (by omega), a2 429 (by omega)]
    have shv : ∀ i, i < 9 → f3 (1012 + 9 * q + i) = shf (F 6) (fun j => f1 (1012 + 9 * q + j)) i := fun i hi => by
      rw [ef3, olF_in hi]
      exact shf_ext fun _ => b1 (i - 1) (by omega)
    have fin : ∀ f4 : Nat → Int32, (∀ j, (j < 436 + 4 * q ∨ 440 + 4 * q ≤ j) → f4 j = f3 j) → tqD f1 (F 6) f4 q → (∀ t, t < 144 → (t < q + 1 → (∀ i, i < 9 → f4 (1012 + 9 * t + i) = shf (F 6) (fun j => f1 (1012 + 9 * t + j)) i) ∧ tqD f1 (F 6) f4 t) ∧ (q + 1 ≤ t → (∀ i, i < 9 → f4 (1012 + 9 * t + i) = f1 (1012 + 9 * t + i)) ∧ ∀ k, k < 4 → f4 (436 + 4 * t + k) = f1 (436 + 4 * t + k))) ∧ ∀ j, (j < 436 ∨ 2308 ≤ j) → f4 j = f2 j := by
      intro f4 h4 htq
      refine ⟨fun t ht => ⟨fun htq' => ?_, fun htq' => ?_⟩, fun j hj => by rw [h4 j (by omega), o3 j (by omega)]; exact q2 j hj⟩
      · by_cases c : t = q
        · subst c
          exact ⟨fun i hi => by rw [h4 _ (by omega)]; exact shv i hi, htq⟩
        · obtain ⟨z1, z2⟩ := (q1 t ht).1 (by omega)
          refine ⟨fun i hi => by rw [h4 _ (by omega), o3 _ (by omega)]; exact z1 i hi, ?_⟩
          have ee : ∀ k, k < 4 → f4 (436 + 4 * t + k) = f' (436 + 4 * t + k) := fun k hk => by rw [h4 _ (by omega), o3 _ (by omega)]
          rcases z2 with ⟨y1, y2, y3⟩ | ⟨y1, y2⟩
          · exact Or.inl ⟨y1, y2, fun k hk => by rw [ee k hk]; exact y3 k hk⟩
          · exact Or.inr ⟨y1, fun k hk => by rw [ee k hk]; exact y2 k hk⟩
      · obtain ⟨z1, z2⟩ := (q1 t ht).2 (by omega)
        exact ⟨fun i hi => by rw [h4 _ (by omega), o3 _ (by omega)]; exact z1 i hi, fun k hk => by rw [h4 _ (by omega), o3 _ (by omega)]; exact z2 k hk⟩
    have i2 : (1012 : Int32) + 9 * nI q = nI (1012 + 9 * q) := by rw [pl_lm, pl_la]
    have i3 : (436 : Int32) + 4 * nI q = nI (436 + 4 * q) := by rw [pl_lm, pl_la]
    have g9 : rA (aS σ 6 f3) 6 429 = some (f3 429) := by rw [rA429, gA_same]
    have red : lX5_day_41 N (m + 1) (aS σ 6 f') (nI q) = (if f1 (436 + 4 * q) ≤ 0 then lX5_day_41 N m (aS σ 6 f3) (nI (q + 1)) else if f1 429 - f1 (436 + 4 * q + 3) < nI (F 6) then lX5_day_41 N m (aS σ 6 f3) (nI (q + 1)) else lX5_day_41 N m (aS σ 6 (cpA f3 (436 + 4 * q) 4 fun _ => 0)) (nI (q + 1))) := by
      have ec := mo_clears (σ := aS σ 6 f3) hN (D := 436 + 4 * q) (n := 4) (by omega)
      rw [gA_same, aS_aS] at ec
      exact dy_red i2 i3 hq e g9 (by rw [rA6 (by omega), gA_same]; exact congrArg some v0) v9 (by rw [pl_a3, rA6 (by omega), gA_same]; exact congrArg some v3) (mo_6 hMb) ec
    by_cases c1 : f1 (436 + 4 * q) ≤ 0
    · exact ⟨aS σ 6 f3, ⟨f3, rfl, fin f3 (fun _ _ => rfl) (Or.inr ⟨Or.inl c1, fun k hk => by rw [o3 _ (by omega)]; exact b2 k hk⟩)⟩, by rw [red, if_pos c1]⟩
    · by_cases c2 : f1 429 - f1 (436 + 4 * q + 3) < nI (F 6)
      · exact ⟨aS σ 6 f3, ⟨f3, rfl, fin f3 (fun _ _ => rfl) (Or.inr ⟨Or.inr c2, fun k hk => by rw [o3 _ (by omega)]; exact b2 k hk⟩)⟩, by rw [red, if_neg c1, if_pos c2]⟩
      · exact ⟨aS σ 6 (cpA f3 (436 + 4 * q) 4 fun _ => 0), ⟨_, rfl, fin _ (fun j hj => cpA_out (by omega)) (Or.inl ⟨c1, c2, fun k hk => cpA_in (by omega) (by omega)⟩)⟩, by rw [red, if_neg c1, if_neg c2]⟩
  · rintro s m ⟨f', rfl, q1, q2⟩
    refine ⟨_, ?_, f', rfl, fun t ht => (q1 t ht).1 ht, q2⟩
    rw [lX5_day_41]
    simp (disch := omega) only [pl_let, pl_lef, pl_ltt, pl_ltf, pl_eqf, pl_let1, pl_lef1, pl_ltt1, pl_ltf1, pl_eqf1, pl_let2, pl_lef2, pl_ltt2, pl_ltf2, pl_em1, if_true, if_false, ite_self]
theorem mo_day (hN : 200000 ≤ N) (hM : MH (gA σ 6) F) : ∃ f', fX5_day N σ = some (aS σ 6 f') ∧ dyQ (gA σ 6) f' (F 6) := by
  obtain ⟨f1, ef1⟩ : ∃ f1, f1 = upd (gA σ 6) 429 (gA σ 6 429 + 1) := ⟨_, rfl⟩
  have fo : ∀ j, j ≠ 429 → f1 j = gA σ 6 j := fun j hj => by rw [ef1, pk_un hj]
  have f9 : f1 429 = gA σ 6 429 + 1 := by rw [ef1, pk_us]
  obtain ⟨_, e1, f2, rfl, a1, a2⟩ := mo_d14 hN hM ef1
  have e1 : lX5_day_14 N N (aS σ 6 f1) 0 = some (aS σ 6 f2) := e1
  obtain ⟨_, e2, f', rfl, b1, b2⟩ := mo_d41 hN hM fo a2
  have e2 : lX5_day_41 N N (aS σ 6 f2) 0 = some (aS σ 6 f') := e2
  refine ⟨f', ?_, ?_, fun m i hm hi => ?_, fun t i ht hi => ?_, fun t ht => ?_, fun i hi => ?_⟩
  · unfold fX5_day
    rw [rA429]
    simp only [Option.bind_some]
    rw [show wA σ 6 429 (gA σ 6 429 + 1) = some (sA σ 6 429 (gA σ 6 429 + 1)) from wA6 (n := 429) (by decide)]
    simp only [Option.bind_some]
    rw [sA_aS, ← ef1, e1]
    simp only [Option.bind_some]
    rw [e2]; rfl
  · rw [b2 429 (by omega), a2 429 (by omega), f9]
  · rw [b2 _ (by omega), a1 m i hm hi]
    exact shf_ext fun _ => fo _ (by omega)
  · rw [(b1 t ht).1 i hi]
    exact shf_ext fun _ => fo _ (by omega)
  · have h2 := (b1 t ht).2
    simp only [tqD, f9, fo (436 + 4 * t) (by omega), fo (436 + 4 * t + 3) (by omega)] at h2
    rcases h2 with h2 | ⟨y1, y2⟩
    · exact Or.inl h2
    · exact Or.inr ⟨y1, fun k hk => (y2 k hk).trans (fo _ (by omega))⟩
  · rw [b2 i (by omega), a2 i (by omega), fo i (by omega)]
end PD2
