/-! operation: feed -/
section PO2
variable {b N : Nat}
def PF (b : Nat) (g0 : Nat → Nat → Int32) (σ0 : MS) (g : Nat → Nat → Int32) (σ : MS) (n : Nat) : Prop := g b 1 = nI n ∧ gI σ 2 = nI n ∧ (∀ i, i < 940 → g (b + 1) i = gA σ 1 i) ∧ (∀ q, q ≠ b → q ≠ b + 1 → g q = g0 q) ∧ (∀ k, k ≠ 1 → g b k = g0 b k) ∧ gJ σ = gJ σ0 ∧ (∀ j, j ≠ 2 → gI σ j = gI σ0 j) ∧ ∀ j, j ≠ 1 → gA σ j = gA σ0 j
theorem pf_step {h : HS} {g0 g : Nat → Nat → Int32} {σ0 σ : MS} {n : Nat} (hF : FX h b) (hP : PF b g0 σ0 g σ n) (hn : n < 940) (x k : Int32) (hk : ¬ k < 0) : ∃ g' σ', PF b g0 σ0 g' σ' (n + 1) ∧ ∀ m, lX1_come_3 N (m + 1) (iS h g) b x k = lX1_come_3 N m (iS h g') b x (k + (-8)) ∧ lX5_four_3 N (m + 1) σ x k = lX5_four_3 N m σ' x (k + (-8)) := by
  obtain ⟨h1, h2, h3, h4, h5, h6, h7, h8⟩ := hP
  generalize hv : vp_nar .byte ((x >>> (k &&& 31)).toInt8.toInt32) = v
  refine ⟨u2 (u2 g (b + 1) n v) b 1 (nI (n + 1)), sI (sA σ 1 n v) 2 (nI (n + 1)), ⟨u2_eq _ _ _ _, rfl, fun i hi => ?_, fun q q1 q2 => ?_, fun k hk => ?_, h6, fun j hj => ?_, fun j hj => ?_⟩, fun m => ⟨?_, ?_⟩⟩
  · rw [u2_nf (by omega), show gA (sI (sA σ 1 n v) 2 (nI (n + 1))) 1 i = gA (sA σ 1 n v) 1 i from rfl, gA_sA]
    by_cases e : i = n
    · subst e; rw [u2_eq, if_pos ⟨rfl, rfl⟩]
    · rw [u2_ne (Or.inr e), if_neg (fun q => e q.2)]; exact h3 i hi
  · rw [u2_nf q1, u2_nf q2]; exact h4 q q1 q2
  · rw [u2_ne (Or.inr hk), u2_nf (by omega)]; exact h5 k hk
  · rw [gI_sI, if_neg hj]; exact h7 j hj
  · funext i
    rw [show gA (sI (sA σ 1 n v) 2 (nI (n + 1))) j i = gA (sA σ 1 n v) j i from rfl, gA_sA, if_neg (fun q => hj q.1), h8 j hj]
  · rw [lX1_come_3, if_neg hk, hv]
    simp (disch := omega) only [fx_R0 hF, fx_b hF, h1, Option.bind_some, fx_W0 hF, fx_p hF]
    rw [u2_nf (show b ≠ b + 1 by omega), h1, nI_1]
  · rw [lX5_four_3, if_neg hk, hv, h2, wA1 hn]
    simp only [Option.bind_some, lt_]
    rw [show gI (sA σ 1 n v) 2 = nI n from h2, nI_1]
theorem pf_four {h : HS} {g0 g : Nat → Nat → Int32} {σ0 σ : MS} {n : Nat} (hN : 200000 ≤ N) (hF : FX h b) (hP : PF b g0 σ0 g σ n) (hn : n + 4 ≤ 940) (x : Int32) : ∃ g' σ', PF b g0 σ0 g' σ' (n + 4) ∧ fX1_come N (iS h g) b x = some (iS h g') ∧ fX5_four N σ x = some σ' := by
  obtain ⟨m, rfl⟩ : ∃ m, N = m + 5 := ⟨N - 5, by omega⟩
  obtain ⟨g1, σ1, p1, s1⟩ := pf_step (N := m + 5) hF hP (by omega) x 24 (by decide)
  obtain ⟨g2, σ2, p2, s2⟩ := pf_step (N := m + 5) hF p1 (by omega) x (24 + (-8)) (by decide)
  obtain ⟨g3, σ3, p3, s3⟩ := pf_step (N := m + 5) hF p2 (by omega) x (24 + (-8) + (-8)) (by decide)
  obtain ⟨g4, σ4, p4, s4⟩ := pf_step (N := m + 5) hF p3 (by omega) x (24 + (-8) + (-8) + (-8)) (by decide)
  refine ⟨g4, σ4, p4, ?_, ?_⟩
  · unfold fX1_come
    rw [(s1 (m + 4)).1, (s2 (m + 3)).1, (s3 (m + 2)).1, (s4 (m + 1)).1, lX1_come_3, if_pos (by decide)]; rfl
  · unfold fX5_four
    rw [(s1 (m + 4)).2, (s2 (m + 3)).2, (s3 (m + 2)).2, (s4 (m + 1)).2, lX5_four_3, if_pos (by decide)]; rfl
theorem op_feed (hN : 200000 ≤ N) : LO_feed N b (LR b) := by
  intro n h σ x1 x2 x3 x4 x5 hL
  obtain ⟨⟨hF, hO, hz⟩, hC, ⟨⟨m, m1, e1, e2⟩, ht, hf⟩, ⟨F, a, hH, hU⟩, hK, hR, hM⟩ := id hL.less
  have a1 : fX1_feed N h b x1 x2 x3 x4 x5 = fX1_feed N (iS h (kI h)) b x1 x2 x3 x4 x5 := rfl
  rw [a1]
  unfold fX1_feed fX5_feed
  simp only [fx_b hF, Option.bind_some, lt_, e1, fx_g hF]
  rw [show gI (sI σ 0 0) 2 = nI m from e2, pl_al]
  by_cases c : m + 20 ≤ 940
  · rw [if_pos (show nI (m + 20) ≤ 940 from nI_le (b := 940) c (by decide)), if_pos (show nI (m + 20) ≤ 940 from nI_le (b := 940) c (by decide))]
    have p0 : PF b (kI h) (sI σ 0 0) (kI h) (sI σ 0 0) m := ⟨e1, e2, ht, fun _ _ _ => rfl, fun _ _ => rfl, rfl, fun _ _ => rfl, fun _ _ => rfl⟩
    obtain ⟨g1, σ1, p1, r1, s1⟩ := pf_four hN hF p0 (by omega) x1
    obtain ⟨g2, σ2, p2, r2, s2⟩ := pf_four hN hF p1 (by omega) x2
    obtain ⟨g3, σ3, p3, r3, s3⟩ := pf_four hN hF p2 (by omega) x3
    obtain ⟨g4, σ4, p4, r4, s4⟩ := pf_four hN hF p3 (by omega) x4
    obtain ⟨g5, σ5, p5, r5, s5⟩ := pf_four hN hF p4 (by omega) x5
    have a2 : fX1_come N h b x1 = fX1_come N (iS h (kI h)) b x1 := rfl
    rw [s1, r1]
    simp only [Option.bind_some, fx_g hF, r2, s2, r3, s3, r4, s4, r5, s5, fx_b hF]
    obtain ⟨q1, q2, q3, q4, q5, q6, q7, q8⟩ := p5
    have K : kept b h (iS h g5) (kI h) g5 := ⟨Nat.le_refl _, fun q hq => ⟨rfl, rfl, rfl, q4 q (by obtain ⟨_, h9⟩ := hq; omega) (by obtain ⟨_, h9⟩ := hq; omega)⟩⟩
    refine ⟨nI (m + 4 + 4 + 4 + 4 + 4), iS h g5, σ5, by rw [q1], by rw [q2], ⟨hF, hO, hz⟩, hC.keep K rfl, ⟨⟨m + 4 + 4 + 4 + 4 + 4, by omega, q1, q2⟩, q3, ?_⟩, ⟨F, a, ?_, hU.of (q5 7 (by decide)) rfl (fun q c1 c2 => ⟨q4 q (by omega) (by omega), rfl⟩) (q7 23 (by decide)) (q8 22 (by decide))⟩, hK.of K (fun q c1 c2 => ⟨q4 q (by omega) (by omega), rfl⟩) (q8 54 (by decide)) (q8 52 (by decide)) (by rw [q6]; rfl), hR.of (q5 16 (by decide)) (q5 17 (by decide)) (q5 29 (by decide)) ⟨q4 _ (by omega) (by omega), q4 _ (by omega) (by omega), q4 _ (by omega) (by omega), q4 _ (by omega) (by omega)⟩ ⟨q7 28 (by decide), q7 29 (by decide), q7 35 (by decide), q7 42 (by decide)⟩ ⟨q8 26 (by decide), q8 27 (by decide), q8 31 (by decide), q8 40 (by decide)⟩, fun k hk => by rw [q6]; exact hM k hk⟩
    · rw [kI_iS, q5 2 (by decide), q7 15 (by decide)]; exact hf
    · rw [q6, q8 6 (by decide)]
      exact hH.keep K rfl (fun q c1 c2 => q4 q (by omega) (by omega)) (fun _ _ => rfl)
  · rw [if_neg (show ¬ nI (m + 20) ≤ 940 from nI_ge (a := 940) (by omega) (by omega)), if_neg (show ¬ nI (m + 20) ≤ 940 from nI_ge (a := 940) (by omega) (by omega))]
    exact ⟨-1, h, _, rfl, rfl, hL.less.thrown 0⟩
end PO2
