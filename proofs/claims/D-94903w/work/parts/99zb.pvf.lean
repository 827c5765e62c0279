/-! houses: line rug -/
section PVF
variable {S : Nat → Prop} {h0 h h' h2 : HS} {σ0 σ σ' : MS} {N b rd sz lim P Zm Wm Z W a l n q p w : Nat} {sp : Bool} {F F' : Nat → Nat} {nm nm' : Nat → Int64}
/-- a field of the house is set -/
theorem PRS.hw {k : Nat} {v : Int32} (R : PRS h0 b rd sz lim Zm Wm sp P h σ) (t2 : kT h (rd + 1) = 2) : PRS h0 b rd sz lim Zm Wm sp P (tI h (rd + 1) k v) σ := by
  have z0 : kZ h0 ≤ rd := R.1.2.1.2.1
  have zz := R.1.2.2.2.1
  exact PRS.ob2 (t := 0) (w := 0) R ond.tI (fun q _ z => by have z : q = rd + 1 := z; rw [z, t2]; exact ⟨by omega, by omega, by decide, by decide⟩) (Nat.le_refl _) (Nat.le_refl _) zz.2.1 zz.2.2
theorem l34_1 {m : Nat} {y : Nat} (hy : y < 2) {f : Nat → Int32} {x : Nat} (tk : fX5_takes N σ 2 12 = some (1, σ')) (g18 : gI σ' 18 = nI x) (gf : gA σ' 7 = f) : lX5_line_34 N (m + 1) σ (nI y) = lX5_line_34 N m (aS σ' 7 (upd f y (nI x))) (nI (y + 1)) := by
  rw [lX5_line_34, if_neg (show ¬ (2 : Int32) ≤ nI y from nI_ge (b := 2) (by omega) (by decide)), tk, Option.bind_some, if_neg (show ¬ (1 : Int32) = 0 by decide)]
  show ((wA σ' 7 (0 + nI y) (gI σ' 18)).bind fun σ83 => lX5_line_34 N m σ83 (nI y + 1)) = _
  rw [Int32.zero_add, wA7 (by omega), Option.bind_some, sA_aS, gf, g18, show nI y + 1 = nI (y + 1) from nI_add y 1]
theorem l34_0 {m : Nat} {y : Nat} (hy : y < 2) (tk : fX5_takes N σ 2 12 = some (0, σ')) : lX5_line_34 N (m + 1) σ (nI y) = some (.inr (0, σ')) := by
  rw [lX5_line_34, if_neg (show ¬ (2 : Int32) ≤ nI y from nI_ge (b := 2) (by omega) (by decide)), tk, Option.bind_some, if_pos rfl]
theorem l34_2 {m : Nat} : lX5_line_34 N (m + 1) σ (nI 2) = some (.inl σ) := by
  rw [lX5_line_34, if_pos (by decide)]
theorem rug_c (hN : 200000 ≤ N) (m1 : Z + 80 ≤ kG h0 1) (m2 : W + 4000 ≤ kG h0 2) (X : HBS h0 b rd sz Z W σ0 F P h σ) (kd : kI h rd 4 = 2) : LinC h0 b rd sz Z W σ0 (fX7_rug N h rd) (mRug N σ) P := by
  obtain ⟨R, H, hA, hM, f15, ln, u, v, ⟨u2, v2⟩, on, i20, i21, u0⟩ := X
  have ht := hT_le H.1.1
  have G : kG h = kG h0 := R.1.2.1.1.2.1
  have gr : kG h 0 ≤ rd := R.rb.1.2.2.1
  have z0 : kZ h0 ≤ rd := R.1.2.1.2.1
  have q3 : kI h rd 4 = 1 ∨ kI h rd 4 = 5 → (3 : Int32) = 1 := fun z => by rw [kd] at z; rcases z with z | z <;> exact absurd z (by decide)
  unfold fX7_rug mRug
  rw [H.gt]
  by_cases cu : u = 1
  · have bit : fX1_isOf (kI h rd 10) 0 = 1 := by
      rw [on, cu]
      rcases (show v = 0 ∨ v = 1 by omega) with rfl | rfl <;> decide
    obtain ⟨fa, h', e1, e2⟩ := need_0 (N := N) R (k := 3) q3
    exact Or.inl ⟨fa, h', _, by rw [once_no H bit e1]; rfl, by rw [if_neg (by rw [i20, cu]; decide)], e2.mono (by omega) (by omega), hM.bad⟩
  · obtain rfl : u = 0 := by omega
    have bit : fX1_isOf (kI h rd 10) 0 = 0 := by
      rw [on]
      rcases (show v = 0 ∨ v = 1 by omega) with rfl | rfl <;> decide
    have en : kI h rd 10 ||| (1 <<< ((0 : Int32) &&& 31)) = nI (1 + 2 * v) := by
      rw [on]
      rcases (show v = 0 ∨ v = 1 by omega) with rfl | rfl <;> decide
    have f0 := u0 rfl
    obtain ⟨z3, z5⟩ := H.1.1.z f0
    have R1 : PRS h0 b rd sz 900 (Z + hT F) (W + 60 * hT F) true P (tI h rd 10 (nI (1 + 2 * v))) (sI σ 20 1) := (prs_tI R (by decide)).ms rfl rfl rfl fun k hk => by rw [gI_sI, if_neg (by omega)]
    obtain ⟨h3, σ3, P1, g1, g2, R3, g4, g5, g6⟩ := go_both (N := N) hN R1.1
    have H3 : HBc b rd h3 F (fun i => gJ σ 9 (12 + i)) := (H.rk rK.tI).rk g6.c.r
    have M3 : HMe σ0 σ3 := (hM.si (k := 20) (v := 1) (by omega)).mk g6.m
    obtain ⟨m, em⟩ : ∃ m, N = m + 3 := ⟨N - 3, by omega⟩
    rw [once_ok H gr bit en, g1, Option.bind_some, Option.bind_some]
    simp only [thr]
    rw [if_pos (by rw [i20]; rfl), g2, Option.bind_some, H3.a9, Option.bind_some, H3.gt]
    rcases num_both (N := N) hN R3 2 12 with ⟨fa, h', σ', q1, q2, q3, q4⟩ | ⟨x, h4, σ4, P4, x1, x2, q1, q2, q3, R4, p1, p2, K4, M4, f4⟩
    · refine Or.inl ⟨fa, h', σ', by rw [q1]; rfl, ?_, q3.mono (by omega) (by omega), M3.mk q4⟩
      rw [show lX5_line_34 N N σ3 0 = lX5_line_34 N (m + 2 + 1) σ3 (nI 0) by rw [← em]; rfl, l34_0 (by decide) q2]; rfl
    · have xr : 2 ≤ x ∧ x ≤ 12 := isIn_rng (x := 2) (y := 12) x1 (by decide) (by decide) x2
      have H4 : HBc b rd h4 F (fun i => gJ σ 9 (12 + i)) := H3.ck K4
      have G4 : kG h4 = kG h0 := R4.1.2.1.1.2.1
      have t4 : kT h4 (rd + 1) = 2 := H4.1.2.2.1
      have gJ4 : gJ σ4 = gJ σ := by rw [M4.2.1, g6.2.2.2.2.2.1]; rfl
      have gA4 : gA σ4 = gA σ := by rw [M4.1, g6.2.2.2.2.1]; rfl
      obtain ⟨h5, e5⟩ : ∃ y, y = tI h4 (rd + 1) 0 (nI x) := ⟨_, rfl⟩
      have K5 : ond (fun q => q = rd + 1) h4 h5 := by rw [e5]; exact ond.tI
      have i5 : ∀ k, kI h5 (rd + 1) k = if k = 0 then nI x else kI h4 (rd + 1) k := fun k => by
        rw [e5, kI_tI]
        by_cases c : k = 0
        · rw [if_pos ⟨rfl, c⟩, if_pos c]
        · rw [if_neg (fun z => c z.2), if_neg c]
      have s4 : ∀ k, k ≠ 0 → uF F 0 x k = F k := fun k hk => uF_o hk
      have hi4 := H4.1.2.2.2.2.1
      have ok5 : HOK (uF F 0 x) := H.1.1.ru z3 z5 (fun i i0 _ => s4 i i0) (by rw [uF_s]; exact xr.2) (by rw [s4 1 (by decide)]; exact H.1.1.1.2.1)
      have H5 : HBc b rd h5 (uF F 0 x) (fun i => gJ σ 9 (12 + i)) := hb_f H4 K5 (by rw [e5]; exact t4) (by rw [e5]; rfl) ⟨by rw [i5, uF_s]; rfl, by rw [i5, s4 1 (by decide)]; exact hi4.2.1, by rw [i5, s4 6 (by decide)]; exact hi4.2.2.1, by rw [i5, s4 4 (by decide)]; exact hi4.2.2.2⟩ ok5 fun i i0 _ _ => s4 i i0
      have t5 : kT h5 (rd + 1) = 2 := H5.1.2.2.1
      have rl := hb_z H4
      have v5 := K5.2.2 rd (by omega) (show ¬ rd = rd + 1 by omega)
      obtain ⟨σ5, es5⟩ : ∃ s, s = aS σ4 7 (upd (gA σ 7) 0 (nI x)) := ⟨_, rfl⟩
      have R5 : PRS h0 b rd sz 900 (Z + hT F) (W + 60 * hT F) true P4 h5 σ5 := by
        rw [e5, es5]
        exact (R4.hw t4).ms (gA_o (by decide)) rfl rfl fun k hk => rfl
      have M5 : HMe σ0 σ5 := by rw [es5]; exact (M3.mk M4).as
      rw [q1, Option.bind_some]
      simp only []
      rw [pI_n (Nat.le_of_eq t4.symm) (Nat.le_of_eq t4) (by rw [G4, ← G]; omega), Option.bind_some, ← e5, H5.a9, Option.bind_some, H5.gt, show lX5_line_34 N N σ3 0 = lX5_line_34 N (m + 2 + 1) σ3 (nI 0) by rw [← em]; rfl, l34_1 (by decide) q2 q3 (by rw [gA4]), ← es5]
      rcases num_both (N := N) hN R5 2 12 with ⟨fa, h', σ', q1, q2, q3, q4⟩ | ⟨y, h6, σ6, P6, y1, y2, q1, q2, q3, R6, p3, p4, K6, M6, f6⟩
      · refine Or.inl ⟨fa, h', σ', by rw [q1]; rfl, ?_, q3.mono (by omega) (by omega), M5.mk q4⟩
        rw [l34_0 (by decide) q2]; rfl
      · have yr : 2 ≤ y ∧ y ≤ 12 := isIn_rng (x := 2) (y := 12) y1 (by decide) (by decide) y2
        have H6 : HBc b rd h6 (uF F 0 x) (fun i => gJ σ 9 (12 + i)) := H5.ck K6
        have G6 : kG h6 = kG h0 := R6.1.2.1.1.2.1
        have t6 : kT h6 (rd + 1) = 2 := H6.1.2.2.1
        have gJ6 : gJ σ6 = gJ σ := by rw [M6.2.1, es5]; exact gJ4
        have gA6 : gA σ6 7 = upd (gA σ 7) 0 (nI x) := by rw [M6.1, es5, gA_same]
        obtain ⟨h7, e7⟩ : ∃ y', y' = tI h6 (rd + 1) 1 (nI y) := ⟨_, rfl⟩
        have K7 : ond (fun q => q = rd + 1) h6 h7 := by rw [e7]; exact ond.tI
        have i7 : ∀ k, kI h7 (rd + 1) k = if k = 1 then nI y else kI h6 (rd + 1) k := fun k => by
          rw [e7, kI_tI]
          by_cases c : k = 1
          · rw [if_pos ⟨rfl, c⟩, if_pos c]
          · rw [if_neg (fun z => c z.2), if_neg c]
        have s6 : ∀ k, k ≠ 1 → uF (uF F 0 x) 1 y k = uF F 0 x k := fun k hk => uF_o hk
        have hi6 := H6.1.2.2.2.2.1
        have ok7 : HOK (uF (uF F 0 x) 1 y) := ok5.ru (by rw [s4 3 (by decide)]; exact z3) (by rw [s4 5 (by decide)]; exact z5) (fun i _ i1 => s6 i i1) (by rw [s6 0 (by decide), uF_s]; exact xr.2) (by rw [uF_s]; exact yr.2)
        have H7 : HBc b rd h7 (uF (uF F 0 x) 1 y) (fun i => gJ σ 9 (12 + i)) := hb_f H6 K7 (by rw [e7]; exact t6) (by rw [e7]; rfl) ⟨by rw [i7, s6 0 (by decide)]; exact hi6.1, by rw [i7, uF_s]; rfl, by rw [i7, s6 6 (by decide)]; exact hi6.2.2.1, by rw [i7, s6 4 (by decide)]; exact hi6.2.2.2⟩ ok7 fun i _ i1 _ => s6 i i1
        have v7 := K7.2.2 rd (by have := hb_z H6; omega) (show ¬ rd = rd + 1 by omega)
        refine Or.inr ⟨h7, aS σ6 7 (upd (upd (gA σ 7) 0 (nI x)) 1 (nI y)), uF (uF F 0 x) 1 y, P6, ?_, ?_, ⟨?_, ?_, ?_, ?_, ?_, ?_, 1, v, ⟨by decide, v2⟩, ?_, ?_, ?_, fun z => by omega⟩, by omega, ?_⟩
        · rw [q1, Option.bind_some]
          simp only []
          rw [pI_n (Nat.le_of_eq t6.symm) (Nat.le_of_eq t6) (by rw [G6, ← G]; omega), Option.bind_some, ← e7]
        · rw [l34_1 (by decide) q2 q3 gA6, l34_2]; rfl
        · rw [e7]
          exact (R6.hw t6).ms (gA_o (by decide)) rfl rfl fun k hk => rfl
        · show HBc b rd h7 (uF (uF F 0 x) 1 y) (fun i => gJ σ6 9 (12 + i))
          rw [gJ6]; exact H7
        · intro i hi
          rw [gA_same]; exact upd_uF (upd_uF hA) i hi
        · exact (M5.mk M6).as
        · rw [gI_aS, f6, es5, gI_aS, f4, g6.2.2.2.2.2.2 15 (by decide) (by decide) (by decide) (by decide) (by decide), gI_sI, if_neg (by decide)]; exact f15
        · rw [i7, if_neg (by decide), H5.i3 K6.r, i5, if_neg (by decide), H3.i3 K4.r, (H.rk rK.tI).i3 g6.c.r, gI_aS, M6.2.2 19 (by decide) (by decide) (by decide) (by decide) (by decide) (by decide) (by decide) (by decide), es5, gI_aS, M4.2.2 19 (by decide) (by decide) (by decide) (by decide) (by decide) (by decide) (by decide) (by decide), g6.2.2.2.2.2.2 19 (by decide) (by decide) (by decide) (by decide) (by decide), gI_sI, if_neg (by decide), kI_tIo (by omega)]; exact ln
        · rw [v7.2.2.1, K6.2.2.2 10 (by omega), v5.2.2.1, K4.2.2.2 10 (by omega), g6.2.2.2.1 10 (by decide), kI_tI, if_pos ⟨rfl, rfl⟩]
        · rw [gI_aS, M6.2.2 20 (by decide) (by decide) (by decide) (by decide) (by decide) (by decide) (by decide) (by decide), es5, gI_aS, M4.2.2 20 (by decide) (by decide) (by decide) (by decide) (by decide) (by decide) (by decide) (by decide), g6.2.2.2.2.2.2 20 (by decide) (by decide) (by decide) (by decide) (by decide), gI_sI, if_pos rfl]; rfl
        · rw [gI_aS, M6.2.2 21 (by decide) (by decide) (by decide) (by decide) (by decide) (by decide) (by decide) (by decide), es5, gI_aS, M4.2.2 21 (by decide) (by decide) (by decide) (by decide) (by decide) (by decide) (by decide) (by decide), g6.2.2.2.2.2.2 21 (by decide) (by decide) (by decide) (by decide) (by decide), gI_sI, if_neg (by decide)]; exact i21
        · rw [v7.2.2.1]
          intro w1 w2
          have := p4 w1 w2
          omega
end PVF
