/-! what a part of the relation rests on -/
section PKE
variable {b n r : Nat} {h h' : HS} {g g' : Nat → Nat → Int32} {σ σ' : MS} {F : Nat → Nat} {f f' : Nat → Int32} {nm : Nat → Int64} {a : Nat}
theorem RugR.of (hR : RugR g r F f) (hg : ∀ q, r ≤ q → q < r + 2024 → g' q = g q) (hf : ∀ i, 429 ≤ i → i < 10084 → f' i = f i) : RugR g' r F f' := by
  obtain ⟨⟨d, h1, h2, h3⟩, h4, h5, h6, h7, h8⟩ := hR
  have eT : ∀ t p i, t < 144 → p < 6 → i < 9 → TM f' t p i = TM f t p i := fun t p i ht hp hi => hf _ (by omega) (by omega)
  have eC : ∀ c t p i, (c = 3 ∨ c = 1012) → t < 144 → p < 6 → TC g' r c t p i = TC g r c t p i := fun c t p i hc ht hp => by unfold TC; rw [hg _ (by omega) (by omega)]
  refine ⟨⟨d, h1, by rw [hf 429 (by omega) (by omega)]; exact h2, by rw [hg r (by omega) (by omega)]; exact h3⟩, fun p hp => ?_, fun t p i ht hp hi => ?_, fun t p i ht hp hp2 hi => ?_, fun t i ht hi => ?_, fun t ht => ?_⟩
  · rw [hg _ (by omega) (by omega), hf _ (by omega) (by omega)]; exact h4 p hp
  · rw [eC 3 t p i (Or.inl rfl) ht hp, eT t p i ht hp hi]; exact h5 t p i ht hp hi
  · rw [eT t p i ht hp2 hi]; exact h6 t p i ht hp hp2 hi
  · unfold FM
    rw [hf _ (by omega) (by omega)]
    exact (h7 t i ht hi).trans (sm_ext fun p hp => by rw [eC 1012 t p i (Or.inr rfl) ht hp])
  · have e1 := hg (r + 2019) (by omega) (by omega)
    have e2 := hg (r + 2020) (by omega) (by omega)
    have e3 := hg (r + 2021) (by omega) (by omega)
    have e4 := hg (r + 2022) (by omega) (by omega)
    rcases h8 t ht with ⟨c1, c2, c3, c4, c5, c6⟩ | ⟨w, o, d, s, e, ⟨k1, k2, k3, k4, k5⟩, c1, c2, c3, c4, c5, c6, c7, c8, c9, c10⟩
    · refine Or.inl ⟨by rw [hf _ (by omega) (by omega)]; exact c1, by rw [e1]; exact c2, by rw [e2]; exact c3, by rw [e3]; exact c4, by rw [e4]; exact c5, fun p i hp hi => by rw [eT t p i ht hp hi]; exact c6 p i hp hi⟩
    · exact Or.inr ⟨w, o, d, s, e, ⟨k1, k2, k3, k4, k5⟩, by rw [hf _ (by omega) (by omega)]; exact c1, by rw [hf _ (by omega) (by omega)]; exact c2, by rw [hf _ (by omega) (by omega)]; exact c3, by rw [hf _ (by omega) (by omega)]; exact c4, by rw [hf _ (by omega) (by omega)]; exact c5, by rw [e1]; exact c6, by rw [e2]; exact c7, by rw [e3]; exact c8, by rw [e4]; exact c9, fun p i hp hi9 hi => by rw [eT t p i ht hp hi9]; exact c10 p i hp hi9 hi⟩
theorem CS.keep (K : kept b h h' g g') (hG : kG h' = kG h) (hC : CS h g b) : CS h' g' b := by
  obtain ⟨⟨⟨a1, a2, a3, a4⟩, ⟨b1, b2, b3, b4⟩⟩, h2, ⟨c1, c2, c3⟩, ⟨d1, d2, d3, d4⟩⟩ := hC
  unfold CS CstR
  rw [hG]
  obtain ⟨p1, p2, p3, p4⟩ := K.2 _ a1
  obtain ⟨q1, q2, q3, q4⟩ := K.2 _ b1
  obtain ⟨r1, r2, r3, r4⟩ := K.2 _ c1
  obtain ⟨s1, s2, s3, s4⟩ := K.2 _ d1
  rw [p1, p2, p4, q1, q2, q4, r1, r2, s1, s2]
  refine ⟨⟨⟨a1.up K.1, a2, a3, a4⟩, ⟨b1.up K.1, b2, b3, b4⟩⟩, fun k k1 k2 => (h2 k k1 k2).keep K, ⟨c1.up K.1, c2, c3⟩, ⟨d1.up K.1, d2, d3, fun i hi => ?_⟩⟩
  obtain ⟨e1, e2, e3, e4⟩ := d4 i hi
  obtain ⟨t1, t2, t3, t4⟩ := K.2 _ e2
  rw [K.rfe d1, t1, t4]
  exact ⟨K.ise d1 e1, e2.up K.1, e3, e4⟩
theorem CondR.keep (K : kept b h h' g g') : ∀ d c L, CondR h g b F d c L → CondR h' g' b F d c L
  | 0, _, _, hc => hc
  | d + 1, c, L, hc => by
    obtain ⟨h1, h2⟩ := hc
    obtain ⟨p1, p2, p3, p4⟩ := K.2 _ h1
    refine ⟨h1.up K.1, ?_⟩
    rw [p1, p4, K.rfe h1, K.rfe h1]
    rcases h2 with ⟨a1, a2, L1, a3, a4⟩ | ⟨a1, a2, a3, L1, L2, k, a4, a5, a6, a7⟩ | h2 | h2
    · exact Or.inl ⟨a1, K.ise h1 a2, L1, CondR.keep K d _ _ a3, a4⟩
    · exact Or.inr (Or.inl ⟨a1, K.ise h1 a2, K.ise h1 a3, L1, L2, k, CondR.keep K d _ _ a4, CondR.keep K d _ _ a5, a6, a7⟩)
    · exact Or.inr (Or.inr (Or.inl h2))
    · exact Or.inr (Or.inr (Or.inr h2))
theorem SenR.keep (K : kept b h h' g g') {c : Option Nat} {s s' : Nat → Int32} (hS : SenR h g b F c s) (hs : ∀ i, i < 181 → s' i = s i) : SenR h' g' b F c s' := by
  rcases hS with ⟨h1, h2⟩ | ⟨q, L, h1, h2, h3, h4, h5, h6⟩
  · exact Or.inl ⟨h1, by rw [hs 0 (by omega)]; exact h2⟩
  · exact Or.inr ⟨q, L, h1, h2, h3, h4.keep K _ _ _, by rw [hs 0 (by omega)]; exact h5, fun i hi => by rw [hs _ (by omega), hs _ (by omega), hs _ (by omega)]; exact h6 i hi⟩
theorem HRS.keep (K : kept b h h' g g') {ha sn : Option Nat} (hH : HRS h g b r ha sn nm f F a) (hr : kR h' r 0 = kR h r 0) (hg : ∀ q, r ≤ q → q < r + 2024 → g' q = g q) (hf : ∀ i, i < 10265 → f' i = f i) : HRS h' g' b r ha sn nm f' F a := by
  obtain ⟨h1, h2, h3, h4, h5, h6⟩ := hH
  exact ⟨h1, h2.keep K, fun i hi => by rw [hf i (by omega)]; exact h3 i hi, by rw [hr]; exact h4, h5.of hg fun i _ hi => hf i (by omega), h6.keep K fun i hi => hf _ (by omega)⟩
theorem LRt.of (hL : LRt b g σ) (h1 : g' b 1 = g b 1) (h2 : g' b 2 = g b 2) (h3 : g' (b + 1) = g (b + 1)) (e1 : gI σ' 2 = gI σ 2) (e2 : gI σ' 15 = gI σ 15) (e3 : gA σ' 1 = gA σ 1) : LRt b g' σ' := by
  unfold LRt
  rw [h1, h2, h3, e1, e2, e3]; exact hL
theorem LRu.of (hL : LRu h g b F a σ) (h7 : g' b 7 = g b 7) (hr : kR h' (b + 2032) = kR h (b + 2032)) (hg : ∀ q, b + 6250 ≤ q → q < b + 18394 → g' q = g q ∧ kR h' q = kR h q) (e1 : gI σ' 23 = gI σ 23) (e2 : gA σ' 22 = gA σ 22) : LRu h' g' b F a σ' := by
  obtain ⟨m, m1, m2, m3, π, p1, p2, p3⟩ := hL
  refine ⟨m, m1, by rw [h7]; exact m2, by rw [e1]; exact m3, π, fun k hk => by rw [hr]; exact p1 k hk, p2, fun k hk => ?_⟩
  have hp := (p1 k (by omega)).1
  rw [(hg _ (by omega) (by omega)).2, e2]
  exact ⟨(p3 k hk).1, (p3 k hk).2.of (fun q q1 q2 => (hg q (by omega) (by omega)).1) fun i _ _ => rfl⟩
theorem LRk.of (K : kept b h h' g g') (hL : LRk h g b σ) (hg : ∀ q, b + 2200 ≤ q → q < b + 6250 → g' q = g q ∧ kR h' q = kR h q) (e1 : gA σ' 54 = gA σ 54) (e2 : gA σ' 52 = gA σ 52) (e3 : gJ σ' 53 = gJ σ 53) : LRk h' g' b σ' := by
  intro k hk
  unfold LRk at hL
  rw [e1, e2, e3, (hg (b + 2200 + 2025 * k) (by omega) (by omega)).2]
  rcases hL k hk with h1 | ⟨h1, F, a, h2⟩
  · exact Or.inl h1
  · exact Or.inr ⟨h1, F, a, h2.keep K (by rw [(hg _ (by omega) (by omega)).2]) (fun q q1 q2 => (hg q (by omega) (by omega)).1) fun i _ => rfl⟩
theorem LRr.of (hL : LRr b g σ) (h16 : g' b 16 = g b 16) (h17 : g' b 17 = g b 17) (h29 : g' b 29 = g b 29) (ha : g' (b + 2037) = g (b + 2037) ∧ g' (b + 2038) = g (b + 2038) ∧ g' (b + 2048) = g (b + 2048) ∧ g' (b + 2198) = g (b + 2198)) (hI : gI σ' 28 = gI σ 28 ∧ gI σ' 29 = gI σ 29 ∧ gI σ' 35 = gI σ 35 ∧ gI σ' 42 = gI σ 42) (hA : gA σ' 26 = gA σ 26 ∧ gA σ' 27 = gA σ 27 ∧ gA σ' 31 = gA σ 31 ∧ gA σ' 40 = gA σ 40) : LRr b g' σ' := by
  unfold LRr
  rw [h16, h17, h29, ha.1, ha.2.1, ha.2.2.1, ha.2.2.2, hI.1, hI.2.1, hI.2.2.1, hI.2.2.2, hA.1, hA.2.1, hA.2.2.1, hA.2.2.2]
  exact hL
end PKE
