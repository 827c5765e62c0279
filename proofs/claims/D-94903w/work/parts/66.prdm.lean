/-! readings: the recursion, whole -/
section PRM
variable {h : HS} {g0 g g' : Nat → Nat → Int32} {σ0 σ : MS} {N b a n K c : Nat} {F : Nat → Nat} {nm : Nat → Int64} {ov : Nat → Nat → Nat} {A A' : Nat → Nat}
theorem rt_rec (hN : 200000 ≤ N) (hM : MH (gA σ0 6) F) : ∀ j w d A c g σ, w + j = F 3 → j < d → (∀ i, w ≤ i → i < F 3 → A i = 0) → RTl h g0 σ0 b a K F nm ov w A c g σ → c + 7 ^ j ≤ 200000 → ∃ g2 σ2 c2 k, c ≤ c2 ∧ c2 ≤ c + 7 ^ j ∧ k ≤ 7 ^ j ∧ RTl h g0 σ0 b a K F nm ov w A c2 g2 σ2 ∧ rTW N d (iS h g) b (nI w) = some (iS h g2) ∧ ∀ n, lX5_readings_254 N (n + k) σ (nI K) (nI c) 1 = lX5_readings_254 N n (aS σ2 25 (carry F w (gA σ2 25)).2) (nI K) (nI c2) (carry F w (gA σ2 25)).1 := by
  have k3 : F 3 ≤ 6 := hM.1.1.2.2.2.1
  have k2 : F 2 ≤ 6 := hM.1.1.2.2.1
  intro j
  induction j with
  | zero =>
    intro w d A c g σ hw hd hA T hc
    obtain ⟨d', rfl⟩ : ∃ d', d = d' + 1 := ⟨d - 1, by omega⟩
    obtain rfl : w = F 3 := by omega
    obtain ⟨g2, σ2, c2, s1, s2, s3, s4, s5⟩ := rt_leaf hN (by omega) T.t (rTW N d')
    exact ⟨g2, σ2, c2, 1, s1, s2, Nat.le_refl _, s3.l (Nat.le_refl _), s4, s5⟩
  | succ j ih =>
    intro w d A c g σ hw hd hA T hc
    obtain ⟨d', rfl⟩ : ∃ d', d = d' + 1 := ⟨d - 1, by omega⟩
    have e7 : 7 ^ (j + 1) = 7 * 7 ^ j := by rw [Nat.pow_succ, Nat.mul_comm]
    have le7 : (F 2 + 1) * 7 ^ j ≤ 7 * 7 ^ j := Nat.mul_le_mul_right _ (by omega)
    obtain ⟨g2, σ2, c2, k, s1, s2, s3, s4, s5, s6⟩ := rt_lvl (N := N) (j := j) (w := w) (d := d') (p := 7 ^ j) hN hw hM (fun A c g σ hA T hc => ih (w + 1) d' A c g σ (by omega) (by omega) hA T hc) (F 2) 0 N A c g σ (by omega) (by omega) (fun i i1 i2 => hA i (by omega) i2) (hA w (by omega) (by omega)) T (by omega)
    have es : sv A w 0 = A := by
      funext i; unfold sv
      by_cases e : i = w
      · rw [if_pos e, e, hA w (by omega) (by omega)]
      · rw [if_neg e]
    rw [es] at s4
    refine ⟨g2, σ2, c2, k, s1, by omega, by omega, s4, ?_, s6⟩
    have hF := T.1.1.1
    have hH : HouR h g b a F nm := T.1.1.2.1.keep ⟨Nat.le_refl _, fun q hq => ⟨rfl, rfl, rfl, (gW_o (by obtain ⟨_, h9⟩ := hq; omega)).symm⟩⟩
    have R3 : fR (iS h g) b 1 1 3 = some a := (fx_f hF g).trans T.1.1.2.2.1
    have l1 : ¬ nI (F 3) ≤ nI w := nI_ge (by omega) (by omega)
    show fX1_tryWays N (rTW N d') (iS h g) b (nI w) = _
    rw [fX1_tryWays, R3]
    rw [wk_0] at s5
    simp only [Option.bind_some, ho_R hH (k := 6) (by decide) (by decide), ls_g (ho_w hH), ls_size (N := N) (ho_w hH), if_neg l1, s5]
end PRM
