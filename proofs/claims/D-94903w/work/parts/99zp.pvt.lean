/-! houses: the operation -/
section PVT
variable {h0 h h' h2 : HS} {σ0 σ σ' : MS} {N b rd sz Z W a n : Nat} {F F' : Nat → Nat}
theorem LR.jn {f : Nat → Int64} (hL : LR b n h σ) (hf : ∀ i, i < 12 → f i = gJ σ 9 i) : LR b n h (jS σ 9 f) := by
  obtain ⟨h1, h2, h3, ⟨F, a, ⟨p1, p2, p3, p4, p5, p6⟩, hU⟩, hK, hR, hM⟩ := hL
  refine ⟨h1, h2, h3.of rfl rfl rfl rfl rfl rfl, ⟨F, a, ⟨p1, ?_, p3, p4, p5, p6⟩, hU.of rfl rfl (fun _ _ _ => ⟨rfl, rfl⟩) rfl rfl⟩, ?_, hR.of rfl rfl rfl ⟨rfl, rfl, rfl, rfl⟩ ⟨rfl, rfl, rfl, rfl⟩ ⟨rfl, rfl, rfl, rfl⟩, ?_⟩
  · rw [gJ_e]; exact p2.nm hf
  · exact hK.of (kept.refl) (fun _ _ _ => ⟨rfl, rfl⟩) rfl rfl (gJ_o (by decide))
  · rw [gJ_o (by decide)]; exact hM
/-- a house is there, its rug begins -/
theorem LR.hou {g' : Nat → Nat → Int32} (L3 : LR b n h σ) (hH : HouR h (kI h) b a F (fun i => gJ σ' 9 i)) (hA : ∀ i, i < 429 → gA σ' 6 i = nI (F i)) (h0 : ∀ i, 429 ≤ i → i < 10265 → gA σ' 6 i = 0)
    (x1 : ∀ x, (x < b + 8 ∨ b + 8 + 2024 ≤ x) → x ≠ b → g' x = kI h x) (xb : ∀ k, k ≠ 7 → g' b k = kI h b k) (xb7 : g' b 7 = 0) (x2 : g' (b + 8) 1 = 0) (x3 : ∀ c u p i, (c = 3 ∨ c = 1012) → u < 144 → p < 6 → i < 9 → TC g' (b + 8) c u p i = 0) (x4 : ∀ k u, 2019 ≤ k → k ≤ 2022 → u < 144 → g' (b + 8 + k) u = -1) (x5 : ∀ p, p < 6 → g' (b + 8 + 2023) p = 0)
    (A : ∀ j, (j = 1 ∨ j = 22 ∨ j = 52 ∨ j = 54 ∨ j = 26 ∨ j = 27 ∨ j = 31 ∨ j = 40) → gA σ' j = gA σ j) (J : gJ σ' 10 = gJ σ 10 ∧ gJ σ' 53 = gJ σ 53) (I : ∀ j, (j = 2 ∨ j = 15 ∨ j = 28 ∨ j = 29 ∨ j = 35 ∨ j = 42) → gI σ' j = gI σ j) (i23 : gI σ' 23 = 0) :
    LR b n (iS (tR (tR (tR h b 3 (some a)) (b + 8) 0 (some a)) b 5 none) g') σ' := by
  obtain ⟨⟨hF, ⟨o1, o2, o3⟩, hz⟩, hC, hT, ⟨F0, a0, -, m, -, -, -, π, p1, p2, -⟩, hK, hR, hM⟩ := L3
  obtain ⟨h5, e5⟩ : ∃ x, x = tR (tR (tR h b 3 (some a)) (b + 8) 0 (some a)) b 5 none := ⟨_, rfl⟩
  rw [← e5]
  have r : ∀ x k, ¬ ((x = b ∧ (k = 3 ∨ k = 5)) ∨ (x = b + 8 ∧ k = 0)) → kR h5 x k = kR h x k := fun x k hn => by
    rw [e5, kR_ne (by omega), kR_ne (by omega), kR_ne (by omega)]
  have rf : ∀ x, x ≠ b → x ≠ b + 8 → kR h5 x = kR h x := fun x q1 q2 => funext fun k => r x k (by omega)
  have r3 : kR h5 b 3 = some a := by rw [e5, kR_ne (by omega), kR_ne (by omega), kR_tR, if_pos ⟨rfl, rfl⟩]
  have r5 : kR h5 b 5 = none := by rw [e5, kR_tR, if_pos ⟨rfl, rfl⟩]
  have r8 : kR h5 (b + 8) 0 = some a := by rw [e5, kR_ne (by omega), kR_tR, if_pos ⟨rfl, rfl⟩]
  have K : kept b h (iS h5 g') (kI h) g' := ⟨by rw [kZ_iS, e5]; exact Nat.le_refl _, fun q hq => by
    obtain ⟨_, h9⟩ := hq
    exact ⟨by rw [e5]; rfl, by rw [e5]; rfl, rf q (by omega) (by omega), x1 q (by omega) (by omega)⟩⟩
  have G5 : kG (iS h5 g') = kG h := by rw [e5]; rfl
  refine ⟨⟨hF.of (by rw [kZ_iS, e5]; exact Nat.le_refl _) (by rw [G5]) (fun _ _ _ => by rw [e5]; exact ⟨rfl, rfl⟩) (fun x k _ _ hn => r x k (by unfold mR at hn; omega)), ⟨by rw [kZ_iS, e5]; exact o1, by rw [e5]; exact o2, by rw [e5]; exact o3⟩, by rw [e5]; exact hz⟩, hC.keep K G5, hT.of (xb 1 (by decide)) (xb 2 (by decide)) (x1 _ (by omega) (by omega)) (I 2 (by omega)) (I 15 (by omega)) (A 1 (by omega)), ⟨F, a, ⟨?_, hH.keep K, hA, r8, ?_, ?_⟩, 0, by decide, xb7, i23, π, fun k hk => ?_, p2, fun k hk => absurd hk (Nat.not_lt_zero _)⟩, hK.of K (fun q q1 q2 => ⟨x1 q (by omega) (by omega), rf q (by omega) (by omega)⟩) (A 54 (by omega)) (A 52 (by omega)) J.2, hR.of (xb 16 (by decide)) (xb 17 (by decide)) (xb 29 (by decide)) ⟨x1 _ (by omega) (by omega), x1 _ (by omega) (by omega), x1 _ (by omega) (by omega), x1 _ (by omega) (by omega)⟩ ⟨I 28 (by omega), I 29 (by omega), I 35 (by omega), I 42 (by omega)⟩ ⟨A 26 (by omega), A 27 (by omega), A 31 (by omega), A 40 (by omega)⟩, by rw [J.1]; exact hM⟩
  · exact r3
  · exact RugR.nw hH.1.1.2.2.2.2.2.2.1 (fun i i1 i2 => h0 i i1 (by omega)) x2 x3 x4 x5
  · exact Or.inl ⟨r5, h0 10084 (by decide) (by decide)⟩
  · exact ⟨(p1 k hk).1, by rw [kR_iS, r _ _ (by omega)]; exact (p1 k hk).2⟩
end PVT
