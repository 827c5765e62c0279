/-! readings: what is told -/
section PRN
variable {h : HS} {g : Nat → Nat → Int32} {σ : MS} {N b a n K : Nat} {F : Nat → Nat} {nm : Nat → Int64}
/-- the tape's number at i -/
def ocN (σ : MS) (i : Nat) : Nat := (gA σ 1 i &&& 255).toNatClampNeg
theorem oc_n (i : Nat) : gA σ 1 i &&& 255 = nI (ocN σ i) ∧ ocN σ i < 256 := by
  obtain ⟨k, k1, k2⟩ := and255 (gA σ 1 i)
  unfold ocN
  rw [k2, nI_clamp (by omega)]
  exact ⟨rfl, k1⟩
/-- the Model's count of a way's steps on the tuft told -/
theorem mo_r126 (hN : 200000 ≤ N) (hM : MH (gA σ 6) F) {q w : Nat} {y1 : Int32} (hq : q < 8) (hw : w < 6) : ∃ v, lX5_readings_126 N σ N y1 (nI (4 * q)) (nI w) 0 0 = some v ∧ (w < F 3 → v = nI (cnt F w (12 * ocN σ (4 * q + 1) + ocN σ (4 * q)) (F (177 + w)))) := by
  have k3 : F 3 ≤ 6 := hM.1.1.2.2.2.1
  have r1 : rA σ 6 (177 + nI w) = some (nI (F (177 + w))) := by rw [pl_la]; exact mo_i hM (by show 177 + w < 429; omega)
  have r3 : rA σ 6 3 = some (nI (F 3)) := mo_i (i := 3) hM (by decide)
  by_cases c : w < F 3
  · obtain ⟨kw1, kw2, kw3⟩ := hM.1.2.2.2.2.2 w c
    have tl : ∀ i, i < F (177 + w) → F (183 + 41 * w + i) < 144 := fun i hi => tuf_lt hM.1.1.1 hM.1.1.2.1 (kw3 i hi)
    have o0 : fX5_octet N σ (nI (4 * q)) = some (nI (ocN σ (4 * q))) := (mo_octet (by omega)).trans (congrArg some (oc_n _).1)
    have o1 : fX5_octet N σ (nI (4 * q) + 1) = some (nI (ocN σ (4 * q + 1))) := by rw [show nI (4 * q) + 1 = nI (4 * q + 1) from nI_add _ 1]; exact (mo_octet (by omega)).trans (congrArg some (oc_n _).1)
    have b0 := (oc_n (σ := σ) (4 * q)).2
    have b1 := (oc_n (σ := σ) (4 * q + 1)).2
    have l3 : ¬ nI (F 3) ≤ nI w := nI_ge c (by omega)
    have e := lp_fold (fun m s i => lX5_readings_126 N σ m y1 (nI (4 * q)) (nI w) s i) (fun i => nI (cnt F w (12 * ocN σ (4 * q + 1) + ocN σ (4 * q)) i)) (F (177 + w)) (nI (cnt F w (12 * ocN σ (4 * q + 1) + ocN σ (4 * q)) (F (177 + w)))) (fun m i hi => by
      have l1 : ¬ nI (F (177 + w)) ≤ nI i := nI_ge hi (by omega)
      have r4 : rA σ 6 (183 + 41 * nI w + nI i) = some (nI (F (183 + 41 * w + i))) := by rw [pl_lm, pl_la, nI_add]; exact mo_i hM (by show 183 + 41 * w + i < 429; omega)
      rw [lX5_readings_126, r1]
      simp only [Option.bind_some, if_neg l1, r3, if_neg l3, r4, o0, o1, show (12 : Int32) * nI (ocN σ (4 * q + 1)) = nI (12 * ocN σ (4 * q + 1)) from pl_lm 12 _, nI_add, show nI i + 1 = nI (i + 1) from nI_add _ 1, Int32.add_zero]
      by_cases c : F (183 + 41 * w + i) = 12 * ocN σ (4 * q + 1) + ocN σ (4 * q)
      · rw [if_pos (congrArg nI c), cnt_y c, show nI (cnt F w (12 * ocN σ (4 * q + 1) + ocN σ (4 * q)) i) + 1 = nI (cnt F w (12 * ocN σ (4 * q + 1) + ocN σ (4 * q)) i + 1) from nI_add _ 1]
      · rw [if_neg (fun q => c ((nI_eq (by have := tl i hi; omega) (by omega)).mp q)), cnt_n c]) (fun m => by
      rw [lX5_readings_126, r1]
      simp only [Option.bind_some]
      rw [if_pos (Int32.le_refl _)]) (F (177 + w)) 0 N (by omega) (by omega)
    exact ⟨_, e, fun _ => rfl⟩
  · refine ⟨0, ?_, fun q => absurd q c⟩
    obtain ⟨m, rfl⟩ : ∃ m, N = m + 1 := ⟨N - 1, by omega⟩
    rw [lX5_readings_126, r1]
    simp only [Option.bind_some, r3]
    rw [if_pos (show nI (F 3) ≤ nI w from nI_le (by omega) (by omega))]
    exact ite_self _
end PRN
