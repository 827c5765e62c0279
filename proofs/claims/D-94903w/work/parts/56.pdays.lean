/-! operation: days -/
section PDS
variable {h : HS} {g : Nat → Nat → Int32} {σ : MS} {N b a n : Nat} {F : Nat → Nat} {nm : Nat → Int64}
/-- RP with the day named -/
def RPD (h : HS) (g : Nat → Nat → Int32) (σ : MS) (b : Nat) (F : Nat → Nat) (d : Nat) (s : HS) (s' : MS) : Prop := ∃ g' f', s = iS h g' ∧ s' = aS σ 6 f' ∧ RugR g' (b + 8) F f' ∧ (∀ j, (j < 429 ∨ 10084 ≤ j) → f' j = gA σ 6 j) ∧ (∀ x, (x < b + 8 ∨ b + 2032 ≤ x) → g' x = g x) ∧ f' 429 = nI d
theorem RPD.rp {d : Nat} {s : HS} {s' : MS} (hP : RPD h g σ b F d s s') : RPw h g σ b F s s' := by
  obtain ⟨g', f', h1, h2, h3, h4, h5, -⟩ := hP
  exact ⟨g', f', h1, h2, h3, h4, h5⟩
theorem RP.d {d : Nat} {s : HS} {s' : MS} (hP : RP h g σ b F s s') (hd : gA σ 6 429 = nI d) : RPD h g σ b F d s s' := by
  obtain ⟨g', f', h1, h2, h3, h4, h5⟩ := hP
  exact ⟨g', f', h1, h2, h3, fun j hj => h4 j (by omega), h5, (h4 429 (by omega)).trans hd⟩
theorem isIn_20 (x : Int32) {m : Nat} (hm : m < 1000) : fX1_isIn x 1 (nI m) = 0 ∨ (fX1_isIn x 1 (nI m) = 1 ∧ ∃ k, 1 ≤ k ∧ k ≤ m ∧ x = nI k) := by
  unfold fX1_isIn
  rcases pl_cs x with hx | ⟨i, hi, rfl⟩
  · exact Or.inl (if_pos (Int32.lt_of_lt_of_le hx (by decide)))
  · by_cases c : i < 1
    · left
      simp (disch := omega) only [pl_let, pl_lef, pl_ltt, pl_ltf, pl_eqf, pl_let1, pl_lef1, pl_ltt1, pl_ltf1, pl_eqf1, pl_let2, pl_lef2, pl_ltt2, pl_ltf2, pl_em1, if_true, if_false, ite_self]
    · by_cases c2 : i ≤ m
      · right
        refine ⟨?_, i, by omega, c2, rfl⟩
        simp (disch := omega) only [pl_let, pl_lef, pl_ltt, pl_ltf, pl_eqf, pl_let1, pl_lef1, pl_ltt1, pl_ltf1, pl_eqf1, pl_let2, pl_lef2, pl_ltt2, pl_ltf2, pl_em1, if_true, if_false, ite_self]
      · left
        simp (disch := omega) only [pl_let, pl_lef, pl_ltt, pl_ltf, pl_eqf, pl_let1, pl_lef1, pl_ltt1, pl_ltf1, pl_eqf1, pl_let2, pl_lef2, pl_ltt2, pl_ltf2, pl_em1, if_true, if_false, ite_self]
theorem day_both (hN : 200000 ≤ N) (hC : HouR h g b a F nm) (hR : RugS h (b + 8)) (hk : kR h (b + 8) 0 = some a) (hM : MH (gA σ 6) F) {d : Nat} (hd : d + 1 ≤ 999) {s1 : HS} {s2 : MS} (hP : RPD h g σ b F d s1 s2) : ∃ t1 t2, fX3_dawn N s1 (b + 8) = some t1 ∧ fX5_day N s2 = some t2 ∧ RPD h g σ b F (d + 1) t1 t2 := by
  obtain ⟨g0, f0, rfl, rfl, p1, p2, p3, p4⟩ := hP
  have hH : ∀ g', (∀ y, imm b (kZ h) y → g' y = g0 y) → HouR h g' b a F nm := fun g' hg' => hC.keep ⟨Nat.le_refl _, fun q hq => ⟨rfl, rfl, rfl, (hg' q hq).trans (p3 q (by obtain ⟨_, h9⟩ := hq; omega))⟩⟩
  have hMa : MH (gA (aS σ 6 f0) 6) F := by rw [gA_same]; exact ⟨hM.1, fun j hj => by rw [p2 j (by omega)]; exact hM.2 j hj⟩
  obtain ⟨g', e1, D⟩ := co_dawn (N := N) hN hR hk rfl hH
  obtain ⟨f', e2, Q⟩ := mo_day hN hMa
  rw [gA_same] at Q
  rw [aS_aS] at e2
  obtain ⟨r1, r2⟩ := p1.dawn hM.1.1.2.2.2.2.2.2 p4 hd D Q
  refine ⟨iS h g', aS σ 6 f', e1, e2, g', f', rfl, rfl, r1, fun j hj => ?_, fun x hx => ?_, r2⟩
  · rw [Q.2.2.2.2 j (by omega)]; exact p2 j hj
  · rw [D.1 x (by omega), u2_nf (by omega)]; exact p3 x hx
theorem op_days (hN : 200000 ≤ N) : LO_days N b (LR b) := by
  intro n h σ x hL
  obtain ⟨F, a, hf⟩ := hL.less.f
  have W := hf.nw
  have G := fun {α : Type} (x : Option α) => (fx_g W.1 (kI h) : gT (iS h (kI h)) b 1 1 x = x)
  have R4 := fx_R4 W.1 (kI h)
  have I1 := ru_i W.ru (kI h) (k := 1)
  simp only [iS_k] at G R4 I1
  obtain ⟨⟨d, d1, d2, d3⟩, -⟩ := id W.rr
  have m9 : rA (sI σ 0 0) 6 429 = some (nI d) := by rw [rA429]; exact congrArg some d2
  have c5 : fX5_isIn x 1 20 = fX1_isIn x 1 20 := rfl
  unfold fX1_days fX5_days
  simp only [lt_, c5]
  rcases isIn_20 x (m := 20) (by decide) with h1 | ⟨h1, k, k1, k2, rfl⟩
  · have h1 : fX1_isIn x 1 20 = 0 := h1
    simp only [h1, eq_self, if_true]; exact ⟨-1, h, sI σ 0 0, rfl, rfl, hL.less.thrown 0⟩
  have h1 : fX1_isIn (nI k) 1 20 = 1 := h1
  simp only [h1, one0, if_false, R4, I1, d3, m9, Option.bind_some, nI_add]
  by_cases c : d + k ≤ 999
  · have c9 : nI (d + k) ≤ 999 := nI_le (b := 999) c (by decide)
    simp only [c9, if_true, G]
    obtain ⟨h', σ', e1, e2, hf', e3, -⟩ := snap hN (hf.th 0)
    have W' := hf'.nw
    rw [e1, e2]
    simp only [Option.bind_some]
    have hP0 : RPD h' (kI h') σ' b F (d + 0) h' σ' := ⟨kI h', gA σ' 6, rfl, (aS_id σ' 6).symm, W'.rr, fun _ _ => rfl, fun _ _ => rfl, by rw [e3]; exact d2⟩
    refine exE2 (lp_two (fun m (x : HS) i => lX1_days_33 N m x b (nI k) i) (fun m (x : MS) i => lX5_days_39 N m x (nI k) i) k (fun i x y => RPD h' (kI h') σ' b F (d + i) x y) (fun x y => RPD h' (kI h') σ' b F (d + k) x y) ?_ ?_ k 0 h' σ' N (by omega) (by omega) hP0) fun r r' q1 q2 hq => ?_
    · intro m i x y hi hxy
      right
      obtain ⟨t1, t2, b1, b2, b3⟩ := day_both (N := N) hN W'.ho W'.ru W'.2.2.2.2.1 W'.mh (by omega) hxy
      refine ⟨t1, t2, b3, ?_, ?_⟩
      · obtain ⟨g', f', rfl, rfl, -⟩ := id hxy
        have R4 := fx_R4 W'.1 g'
        rw [lX1_days_33]
        simp (disch := omega) only [pl_let, pl_lef, pl_ltt, pl_ltf, pl_eqf, pl_let1, pl_lef1, pl_ltt1, pl_ltf1, pl_eqf1, pl_let2, pl_lef2, pl_ltt2, pl_ltf2, pl_em1, if_true, if_false, ite_self, pl_la, pl_al, pl_lm, pl_ml, nI_add, pk_mul, pl_sl, pl_m1, R4, Option.bind_some, ru_g W'.ru, b1]
      · rw [lX5_days_39, b2]
        simp (disch := omega) only [pl_let, pl_lef, pl_ltt, pl_ltf, pl_eqf, pl_let1, pl_lef1, pl_ltt1, pl_ltf1, pl_eqf1, pl_let2, pl_lef2, pl_ltt2, pl_ltf2, pl_em1, if_true, if_false, ite_self, pl_la, pl_al, pl_lm, pl_ml, nI_add, pk_mul, pl_sl, pl_m1, Option.bind_some]
    · intro m x y hxy
      refine ⟨x, y, ?_, ?_, hxy⟩
      · rw [lX1_days_33, if_pos (Int32.le_refl _)]
      · rw [lX5_days_39, if_pos (Int32.le_refl _)]
    · have q1 : lX1_days_33 N N h' b (nI k) 0 = some r := q1
      have q2 : lX5_days_39 N N σ' (nI k) 0 = some r' := q2
      obtain ⟨g', f', rfl, rfl, z1, -, -, z4⟩ := id hq
      obtain ⟨⟨d', y1, y2, y3⟩, -⟩ := id z1
      have R4 := fx_R4 W'.1 g'
      have I1 := ru_i W'.ru g' (k := 1)
      have m9 : rA (aS σ' 6 f') 6 429 = some (f' 429) := by rw [rA429, gA_same]
      rw [q1, q2]
      simp only [Option.bind_some, R4, I1, m9, y2, y3]
      exact ⟨_, _, _, rfl, rfl, (hf'.rug hq.rp).lr⟩
  · have c9 : ¬ nI (d + k) ≤ 999 := nI_ge (a := 999) (by omega) (by omega)
    simp only [c9, if_false]
    exact ⟨-1, h, sI σ 0 0, rfl, rfl, hL.less.thrown 0⟩
end PDS
