/-! a day keeps the relation of the rugs -/
section PD3
variable {h : HS} {g g' : Nat → Nat → Int32} {σ : MS} {N r b a n : Nat} {F : Nat → Nat} {nm : Nat → Int64} {f f' : Nat → Int32}
theorem shf_z {fd i : Nat} {v : Nat → Int32} (h : i ≠ 0 → i < fd → v (i - 1) = 0) : shf fd v i = 0 := by
  unfold shf
  by_cases c : i = 0 ∨ fd ≤ i
  · rw [if_pos c]
  · rw [if_neg c, h (by omega) (by omega)]
theorem shf_sm {fd i : Nat} {v : Nat → Nat → Int32} {c : Nat → Int32} : sm (fun p => shf fd (v p) i * c p) 6 = shf fd (fun i => sm (fun p => v p i * c p) 6) i := by
  unfold shf
  by_cases e : i = 0 ∨ fd ≤ i
  · simp only [if_pos e]
    exact sm_zero fun p _ => Int32.zero_mul
  · simp only [if_neg e]
theorem TopR.dawn {t d0 : Nat} {g0 : Nat → Nat → Int32} (ht : t < 144) (k6 : 1 ≤ F 6 ∧ F 6 ≤ 9) (hd : d0 + 1 ≤ 999) (h2 : f 429 = nI d0) (hT : TopR g r F f t) (g00 : ∀ k, 2019 ≤ k → k ≤ 2022 → g0 (r + k) t = g (r + k) t) (f9 : f' 429 = f 429 + 1) (tm : ∀ p i, p < 6 → i < 9 → TM f' t p i = shf (F 6) (TM f t p) i)
    (D : (g0 (r + 2022) t = -1 ∧ (∀ k, 2019 ≤ k → k ≤ 2022 → g' (r + k) t = g0 (r + k) t) ∧ ∀ p i, p < 6 → i < 9 → TC g' r 3 t p i = shf (F 6) (TM f t p) i) ∨
   (g0 (r + 2022) t ≠ -1 ∧ g0 (r + 2022) t + 1 = nI (F 6) ∧ (∀ k, 2019 ≤ k → k ≤ 2022 → g' (r + k) t = -1) ∧ ∀ p i, p < 6 → i < 9 → TC g' r 3 t p i = 0) ∨
   (g0 (r + 2022) t ≠ -1 ∧ g0 (r + 2022) t + 1 ≠ nI (F 6) ∧ (∀ k, 2019 ≤ k → k ≤ 2021 → g' (r + k) t = g0 (r + k) t) ∧ g' (r + 2022) t = g0 (r + 2022) t + 1 ∧ ∀ p i, p < 6 → i < 9 → TC g' r 3 t p i = shf (F 6) (TM f t p) i))
    (Q : (¬ f (436 + 4 * t) ≤ 0 ∧ ¬ (f 429 + 1) - f (436 + 4 * t + 3) < nI (F 6) ∧ ∀ k, k < 4 → f' (436 + 4 * t + k) = 0) ∨ ((f (436 + 4 * t) ≤ 0 ∨ (f 429 + 1) - f (436 + 4 * t + 3) < nI (F 6)) ∧ ∀ k, k < 4 → f' (436 + 4 * t + k) = f (436 + 4 * t + k))) :
    TopR g' r F f' t ∧ ∀ p i, p < 6 → i < 9 → TC g' r 3 t p i = TM f' t p i := by
  rcases hT with ⟨a1, a2, a3, a4, a5, a6⟩ | ⟨w, o, d, s, e, ⟨w6, oF, dn, s9, e4⟩, b1, b2, b3, b4, b5, b6, b7, b8, b9, b10⟩
  · rw [g00 2022 (by decide) (by decide), a5] at D
    rcases D with ⟨_, c2, c3⟩ | ⟨c1, _⟩ | ⟨c1, _⟩
    · rcases Q with ⟨q1, _⟩ | ⟨_, q2⟩
      · exact absurd (by rw [a1]; decide) q1
      · refine ⟨Or.inl ⟨(q2 0 (by decide)).trans a1, ?_, ?_, ?_, ?_, fun p i hp hi => ?_⟩, fun p i hp hi => (c3 p i hp hi).trans (tm p i hp hi).symm⟩
        · rw [c2 2019 (by decide) (by decide), g00 2019 (by decide) (by decide), a2]
        · rw [c2 2020 (by decide) (by decide), g00 2020 (by decide) (by decide), a3]
        · rw [c2 2021 (by decide) (by decide), g00 2021 (by decide) (by decide), a4]
        · rw [c2 2022 (by decide) (by decide), g00 2022 (by decide) (by decide), a5]
        · rw [tm p i hp hi]; exact shf_z fun _ _ => a6 p (i - 1) hp (by omega)
    · exact absurd rfl c1
    · exact absurd rfl c1
  · have eo : nI o ≠ (-1 : Int32) := fun h => by have := pl_em1 (a := o) (by omega); exact this.mp h
    have ed : d + o = d0 := (nI_eq (by omega) (by omega)).mp (b1.symm.trans h2)
    have v1 : ¬ f (436 + 4 * t) ≤ 0 := by rw [b2]; simp (disch := omega) only [pl_let, pl_lef, pl_ltt, pl_ltf, pl_eqf, pl_let1, pl_lef1, pl_ltt1, pl_ltf1, pl_eqf1, pl_let2, pl_lef2, pl_ltt2, pl_ltf2, pl_em1, if_true, if_false, ite_self]; exact not_false
    have v2 : f 429 + 1 - f (436 + 4 * t + 3) = nI (o + 1) := by
      rw [b1, b5, show nI (d + o) + 1 = nI (d + o + 1) from nI_add _ 1, pk_sub (by omega), show d + o + 1 - d = o + 1 by omega]
    rw [g00 2022 (by decide) (by decide), b9, show nI o + 1 = nI (o + 1) from nI_add _ 1] at D
    rw [v2] at Q
    rcases D with ⟨c1, _⟩ | ⟨_, c2, c3, c4⟩ | ⟨_, c2, c3, c4, c5⟩
    · exact absurd c1 eo
    · have e1 : o + 1 = F 6 := (nI_eq (by omega) (by omega)).mp c2
      rcases Q with ⟨_, _, q3⟩ | ⟨q1, _⟩
      · have z : ∀ p i, p < 6 → i < 9 → TM f' t p i = 0 := fun p i hp hi => by
          rw [tm p i hp hi]; exact shf_z fun _ hf => b10 p (i - 1) hp (by omega) (by omega)
        exact ⟨Or.inl ⟨q3 0 (by decide), c3 2019 (by decide) (by decide), c3 2020 (by decide) (by decide), c3 2021 (by decide) (by decide), c3 2022 (by decide) (by decide), z⟩, fun p i hp hi => (c4 p i hp hi).trans (z p i hp hi).symm⟩
      · rcases q1 with q1 | q1
        · exact absurd q1 v1
        · exact absurd q1 (nI_nlt (by omega) (by omega))
    · have e1 : o + 1 ≠ F 6 := fun h => c2 (by rw [h])
      rcases Q with ⟨_, q2, _⟩ | ⟨_, q2⟩
      · exact absurd (nI_lt (by omega) (by omega)) q2
      · refine ⟨Or.inr ⟨w, o + 1, d, s, e, ⟨w6, by omega, by omega, s9, e4⟩, ?_, (q2 0 (by decide)).trans b2, (q2 1 (by decide)).trans b3, (q2 2 (by decide)).trans b4, (q2 3 (by decide)).trans b5, ?_, ?_, ?_, c4, fun p i hp hi hio => ?_⟩, fun p i hp hi => (c5 p i hp hi).trans (tm p i hp hi).symm⟩
        · rw [f9, b1]; exact nI_add _ 1
        · rw [c3 2019 (by decide) (by decide), g00 2019 (by decide) (by decide), b6]
        · rw [c3 2020 (by decide) (by decide), g00 2020 (by decide) (by decide), b7]
        · rw [c3 2021 (by decide) (by decide), g00 2021 (by decide) (by decide), b8]
        · rw [tm p i hp hi]; exact shf_z fun _ _ => b10 p (i - 1) hp (by omega) (by omega)
theorem RugR.dawn {d : Nat} (k6 : 1 ≤ F 6 ∧ F 6 ≤ 9) (hR : RugR g r F f) (hd : f 429 = nI d) (hd2 : d + 1 ≤ 999) (hD : dnI (u2 g r 1 (g r 1 + 1)) g' r (F 6) 144) (hQ : dyQ f f' (F 6)) : RugR g' r F f' ∧ f' 429 = nI (d + 1) := by
  obtain ⟨⟨d', h1, h2, h3⟩, h4, h5, h6, h7, h8⟩ := hR
  obtain ⟨p1, p2, _⟩ := hD
  obtain ⟨f9, tm, fm, top, fo⟩ := hQ
  have ed : d' = d := (nI_eq (by omega) (by omega)).mp (h2.symm.trans hd)
  subst ed
  have n9 : f' 429 = nI (d' + 1) := by rw [f9, h2]; exact nI_add _ 1
  have tm : ∀ t p i, t < 144 → p < 6 → i < 9 → TM f' t p i = shf (F 6) (TM f t p) i := fun t p i ht hp hi => by
    have := tm (6 * t + p) i (by omega) hi
    rw [Nat.mul_comm 9] at this
    exact this
  have g0n : ∀ x, x ≠ r → u2 g r 1 (g r 1 + 1) x = g x := fun x hx => u2_nf hx
  have dn : ∀ t, t < 144 → TopR g' r F f' t ∧ ∀ p i, p < 6 → i < 9 → TC g' r 3 t p i = TM f' t p i := fun t ht => by
    have sv : ∀ p i, p < 6 → i < 9 → shf (F 6) (TC (u2 g r 1 (g r 1 + 1)) r 3 t p) i = shf (F 6) (TM f t p) i := fun p i hp hi => shf_ext fun _ => by
      refine Eq.trans ?_ (h5 t p (i - 1) ht hp (by omega))
      unfold TC; rw [g0n _ (by omega)]
    refine TopR.dawn (g0 := u2 g r 1 (g r 1 + 1)) ht k6 hd2 h2 (h8 t ht) (fun k k1 k2 => by rw [g0n _ (by omega)]) f9 (fun p i hp hi => tm t p i ht hp hi) ?_ (top t ht)
    rcases (p2 t ht ht).2 with ⟨c1, c2, c3⟩ | c | ⟨c1, c2, c3, c4, c5⟩
    · exact Or.inl ⟨c1, c2, fun p i hp hi => (c3 p i hp hi).trans (sv p i hp hi)⟩
    · exact Or.inr (Or.inl c)
    · exact Or.inr (Or.inr ⟨c1, c2, c3, c4, fun p i hp hi => (c5 p i hp hi).trans (sv p i hp hi)⟩)
  refine ⟨⟨⟨d' + 1, hd2, n9, ?_⟩, fun p hp => ?_, fun t p i ht => (dn t ht).2 p i, fun t p i ht hp hp2 hi => ?_, fun t i ht hi => ?_, fun t ht => (dn t ht).1⟩, n9⟩
  · rw [p1 r (by omega), u2_eq, h3]; exact nI_add _ 1
  · rw [p1 _ (by omega), g0n _ (by omega), fo _ (by omega)]; exact h4 p hp
  · rw [tm t p i ht hp2 hi]; exact shf_z fun _ _ => h6 t p (i - 1) ht hp hp2 (by omega)
  · refine (fm t i ht hi).trans (Eq.trans ?_ (Eq.trans (shf_sm (fd := F 6) (i := i) (v := TC g r 1012 t) (c := fun p => nI (F (7 + p)))).symm ?_))
    · exact shf_ext fun _ => h7 t (i - 1) ht (by omega)
    · refine sm_ext fun p hp => ?_
      rw [(p2 t ht ht).1 p i hp hi]
      refine congrArg (· * _) (shf_ext fun _ => ?_)
      unfold TC; rw [g0n _ (by omega)]
end PD3
