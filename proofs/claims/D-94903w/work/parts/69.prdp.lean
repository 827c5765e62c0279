/-! readings: the told tufts, both sides -/
section PRP
variable {h : HS} {g : Nat → Nat → Int32} {σ : MS} {N b a n K : Nat} {F : Nat → Nat} {nm : Nat → Int64}
theorem tl_m (hN : 200000 ≤ N) (hM : MH (gA σ 6) F) (hT : gI σ 3 = nI (4 * K)) {q m : Nat} {y1 : Int32} (hq : q < K) (hK : K ≤ 8) (f : Nat → Int32) : (tgd σ F q = true ∧ ∃ f', (∀ w, w < F 3 → f' (6 * q + w) = nI (ovw σ F q w)) ∧ (∀ i, (i < 6 * q ∨ 6 * q + 6 ≤ i) → f' i = f i) ∧ lX5_readings_47 N (m + 1) (aS σ 24 f) y1 (4 * nI q) = lX5_readings_47 N m (aS σ 24 f') y1 (4 * nI (q + 1))) ∨ (¬ tgd σ F q = true ∧ lX5_readings_47 N (m + 1) (aS σ 24 f) y1 (4 * nI q) = some (.inr (-1, aS σ 24 f))) := by
  have k0 := hM.1.1.1
  have k1 := hM.1.1.2.1
  have hMa : MH (gA (aS σ 24 f) 6) F := by rw [gA_o (by decide)]; exact hM
  have oc : ∀ i, i < 940 → fX5_octet N (aS σ 24 f) (nI i) = some (nI (ocN σ i)) := fun i hi => (mo_octet hi).trans (congrArg some (by rw [gA_o (by decide)]; exact (oc_n i).1))
  have n0 : (4 : Int32) * nI q = nI (4 * q) := pl_lm 4 q
  have n4 : nI (4 * q) + 4 = 4 * nI (q + 1) := by rw [show (4 : Int32) * nI (q + 1) = nI (4 * (q + 1)) from pl_lm 4 _]; exact nI_add _ 4
  have o0 := oc (4 * q) (by omega)
  have o1 : fX5_octet N (aS σ 24 f) (nI (4 * q) + 1) = some (nI (ocN σ (4 * q + 1))) := by rw [show nI (4 * q) + 1 = nI (4 * q + 1) from nI_add _ 1]; exact oc _ (by omega)
  have o3 : fX5_octet N (aS σ 24 f) (nI (4 * q) + 3) = some (nI (ocN σ (4 * q + 3))) := by rw [show nI (4 * q) + 3 = nI (4 * q + 3) from nI_add _ 3]; exact oc _ (by omega)
  have b0 := (oc_n (σ := σ) (4 * q)).2
  have b1 := (oc_n (σ := σ) (4 * q + 1)).2
  have b3 := (oc_n (σ := σ) (4 * q + 3)).2
  have l1 : ¬ gI (aS σ 24 f) 3 ≤ nI (4 * q) := by rw [gI_aS, hT]; exact nI_ge (by omega) (by omega)
  have r0 : rA (aS σ 24 f) 6 0 = some (nI (F 0)) := mo_i (i := 0) hMa (by decide)
  have r1 : rA (aS σ 24 f) 6 1 = some (nI (F 1)) := mo_i (i := 1) hMa (by decide)
  obtain ⟨f', e1, e2, e3⟩ := mo_r114 (N := N) (y1 := y1) hN hM (q := q) (by omega) f
  rw [n0, lX5_readings_47, if_neg l1, o0]
  simp only [Option.bind_some, r0]
  by_cases c0 : ocN σ (4 * q) < F 0
  · rw [if_neg (nI_ge c0 (by omega)), o1]
    simp only [Option.bind_some, r1]
    by_cases c1 : ocN σ (4 * q + 1) < F 1
    · rw [if_neg (nI_ge c1 (by omega)), o3]
      simp only [Option.bind_some]
      by_cases c2 : ocN σ (4 * q + 3) ≤ 9
      · left
        refine ⟨decide_eq_true ⟨⟨c0, c1⟩, Or.inl c2⟩, f', e2, e3, ?_⟩
        rw [if_pos (show nI (ocN σ (4 * q + 3)) ≤ 9 from nI_le (b := 9) c2 (by decide)), Option.bind_some, if_pos rfl, e1, Option.bind_some, n4]
      · rw [if_neg (show ¬ nI (ocN σ (4 * q + 3)) ≤ 9 from nI_ge (a := 9) (by omega) (by omega))]
        by_cases c3 : ocN σ (4 * q + 3) = 255
        · left
          refine ⟨decide_eq_true ⟨⟨c0, c1⟩, Or.inr c3⟩, f', e2, e3, ?_⟩
          rw [if_pos (show nI (ocN σ (4 * q + 3)) = 255 from by rw [c3]; rfl), Option.bind_some, if_pos rfl, e1, Option.bind_some, n4]
        · right
          refine ⟨fun e => (of_decide_eq_true e).2.elim c2 c3, ?_⟩
          rw [if_neg (show ¬ nI (ocN σ (4 * q + 3)) = 255 from fun e => c3 ((nI_eq (b := 255) (by omega) (by decide)).mp e)), Option.bind_some, if_neg (by decide)]
    · right
      refine ⟨fun e => c1 (of_decide_eq_true e).1.2, ?_⟩
      rw [if_pos (nI_le (by omega) (by omega))]
  · right
    refine ⟨fun e => c0 (of_decide_eq_true e).1.1, ?_⟩
    rw [if_pos (nI_le (by omega) (by omega))]
theorem tl_all (hN : 200000 ≤ N) (hF : FX h b) (hH : HouR h g b a F nm) (h3 : kR h b 3 = some a) (hT : ∀ i, i < 940 → g (b + 1) i = gA σ 1 i) (hM : MH (gA σ 6) F) (hG : gI σ 3 = nI (4 * K)) {y1 : Int32} (hK : K ≤ 8) : (lX1_takeTold_27 N (iS h g) N b (nI (4 * K)) 0 = some (.inl ()) ∧ ∃ f, lX5_readings_47 N N σ y1 0 = some (.inl (aS σ 24 f)) ∧ (∀ q, q < K → ocN σ (4 * q) < F 0 ∧ ocN σ (4 * q + 1) < F 1) ∧ ∀ q w, q < K → w < F 3 → f (6 * q + w) = nI (ovw σ F q w)) ∨
    (lX1_takeTold_27 N (iS h g) N b (nI (4 * K)) 0 = some (.inr (0, iS h g)) ∧ ∃ f, lX5_readings_47 N N σ y1 0 = some (.inr (-1, aS σ 24 f))) := by
  have k3 : F 3 ≤ 6 := hM.1.1.2.2.2.1
  refine exE2 (lp_two (fun m (_ : Unit) i => lX1_takeTold_27 N (iS h g) m b (nI (4 * K)) (4 * i)) (fun m (x : MS) i => lX5_readings_47 N m x y1 (4 * i)) K (fun i _ y => ∃ f, y = aS σ 24 f ∧ (∀ q, q < i → ocN σ (4 * q) < F 0 ∧ ocN σ (4 * q + 1) < F 1) ∧ ∀ q w, q < i → w < F 3 → f (6 * q + w) = nI (ovw σ F q w)) (fun x y => (x = .inl () ∧ ∃ f, y = .inl (aS σ 24 f) ∧ (∀ q, q < K → ocN σ (4 * q) < F 0 ∧ ocN σ (4 * q + 1) < F 1) ∧ ∀ q w, q < K → w < F 3 → f (6 * q + w) = nI (ovw σ F q w)) ∨ (x = .inr (0, iS h g) ∧ ∃ f, y = .inr (-1, aS σ 24 f))) ?_ ?_ K 0 () σ N (by omega) (by omega) ⟨gA σ 24, (aS_id σ 24).symm, fun q hq => by omega, fun q w hq => by omega⟩) fun r r' e1 e2 hq => ?_
  · rintro m i _ _ hi ⟨f, rfl, p0, p1⟩
    have c := tl_c (m := m) hN hF hH h3 hT hi hK
    rcases tl_m (m := m) (y1 := y1) hN hM hG hi hK f with ⟨t, f', q1, q2, q3⟩ | ⟨t, q3⟩
    · right
      rw [if_pos t] at c
      refine ⟨(), aS σ 24 f', ⟨f', rfl, fun q hq => ?_, fun q w hq hw => ?_⟩, c, q3⟩
      · by_cases e : q = i
        · subst e; exact (of_decide_eq_true t).1
        · exact p0 q (by omega)
      · by_cases e : q = i
        · subst e; exact q1 w hw
        · rw [q2 _ (by omega)]; exact p1 q w (by omega) hw
    · left
      rw [if_neg t] at c
      exact ⟨_, _, c, q3, Or.inr ⟨rfl, f, rfl⟩⟩
  · rintro m _ _ ⟨f, rfl, p0, p1⟩
    have n0 : (4 : Int32) * nI K = nI (4 * K) := pl_lm 4 K
    refine ⟨.inl (), .inl (aS σ 24 f), ?_, ?_, Or.inl ⟨rfl, f, rfl, p0, p1⟩⟩
    · show lX1_takeTold_27 N (iS h g) (m + 1) b (nI (4 * K)) (4 * nI K) = _
      rw [n0, lX1_takeTold_27, if_pos (Int32.le_refl _)]
    · show lX5_readings_47 N (m + 1) (aS σ 24 f) y1 (4 * nI K) = _
      rw [n0, lX5_readings_47, gI_aS, hG, if_pos (Int32.le_refl _)]
  · have e1 : lX1_takeTold_27 N (iS h g) N b (nI (4 * K)) 0 = some r := e1
    have e2 : lX5_readings_47 N N σ y1 0 = some r' := e2
    rcases hq with ⟨rfl, f, rfl, p0, p1⟩ | ⟨rfl, f, rfl⟩
    · exact Or.inl ⟨e1, f, e2, p0, p1⟩
    · exact Or.inr ⟨e1, f, e2⟩
end PRP
