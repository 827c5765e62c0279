/-! readings: one reading, whole -/
section PRJ
variable {h : HS} {g0 g g' : Nat → Nat → Int32} {σ0 σ : MS} {N b a n K c : Nat} {F : Nat → Nat} {nm : Nat → Int64} {ov : Nat → Nat → Nat} {A : Nat → Nat}
/-- what holds between two readings: c of them were so -/
def RT (h : HS) (g0 : Nat → Nat → Int32) (σ0 : MS) (b a K : Nat) (F : Nat → Nat) (nm : Nat → Int64) (ov : Nat → Nat → Nat) (A : Nat → Nat) (c : Nat) (g : Nat → Nat → Int32) (σ : MS) : Prop :=
  RK h g b a K F nm ov A σ ∧ (∀ x, x ≠ b → x ≠ b + 2036 → x ≠ b + 2037 → x ≠ b + 2038 → g x = g0 x) ∧ (∀ k, k ≠ 16 → k ≠ 18 → g b k = g0 b k) ∧ g b 18 = nI c ∧
  ((∀ j, j ≠ 28 → j ≠ 29 → gI σ j = gI σ0 j) ∧ (∀ j, j ≠ 25 → j ≠ 26 → j ≠ 27 → gA σ j = gA σ0 j) ∧ gJ σ = gJ σ0) ∧
  ((c = 0 ∧ g b 16 = g0 b 16 ∧ g (b + 2037) = g0 (b + 2037) ∧ g (b + 2038) = g0 (b + 2038) ∧ gI σ 28 = gI σ0 28 ∧ gI σ 29 = gI σ0 29 ∧ gA σ 26 = gA σ0 26 ∧ gA σ 27 = gA σ0 27) ∨
   (1 ≤ c ∧ g b 16 = gI σ 29 ∧ gI σ 28 = nI (F 3) ∧ ∀ w, w < F 3 → g (b + 2037) w = gA σ 26 w ∧ g (b + 2038) w = gA σ 27 w))
theorem RK.of (R : RK h g b a K F nm ov A σ) {σ' : MS} (hx : ∀ x, x ≠ b → x ≠ b + 2037 → x ≠ b + 2038 → g' x = g x) (h15 : g' b 15 = g b 15) (e1 : gA σ' 1 = gA σ 1) (e6 : gA σ' 6 = gA σ 6) (e24 : gA σ' 24 = gA σ 24) (e25 : gA σ' 25 = gA σ 25) : RK h g' b a K F nm ov A σ' := by
  obtain ⟨hF, hH, h3, hM, ⟨hK, K8⟩, hT, hO, hA⟩ := R
  have k3 : F 3 ≤ 6 := hM.1.1.2.2.2.1
  refine ⟨hF, hH.keep ⟨Nat.le_refl _, fun q hq => ⟨rfl, rfl, rfl, hx q (by obtain ⟨_, h9⟩ := hq; omega) (by obtain ⟨_, h9⟩ := hq; omega) (by obtain ⟨_, h9⟩ := hq; omega)⟩⟩, h3, by rw [e6]; exact hM, ⟨by rw [h15]; exact hK, K8⟩, fun k hk => ?_, fun k w hk hw => ?_, fun w hw => ?_⟩
  · rw [hx _ (by omega) (by omega) (by omega), hx _ (by omega) (by omega) (by omega), e1]; exact hT k hk
  · rw [hx _ (by omega) (by omega) (by omega), e24]; exact hO k w hk hw
  · rw [hx _ (by omega) (by omega) (by omega), e25]; exact hA w hw
/-- a reading is put down, whole -/
theorem rt_put (hN : 200000 ≤ N) (hc : c < 1000000) (T : RT h g0 σ0 b a K F nm ov A c g σ) (rec : HS → Nat → Int32 → Option HS) : ∃ g2 σ2 q mk, RT h g0 σ0 b a K F nm ov A (c + 1) g2 σ2 ∧ lX1_tryWays_90 N rec N (iS h (u2 g b 18 (nI (c + 1)))) b 0 0 = some (iS h q, mk) ∧ (oI (iS h q) b 1 1 18 = some (nI (c + 1))) ∧ (nI (c + 1) = 1 → pI (iS h q) b 1 1 16 (fJ16_bitCount mk) = some (iS h g2)) ∧ (¬ nI (c + 1) = 1 → oI (iS h q) b 1 1 16 = some (q b 16) ∧ pI (iS h q) b 1 1 16 (imin (q b 16) (fJ16_bitCount mk)) = some (iS h g2)) ∧ fX5_reads N σ (if c = 0 then 1 else 0) = some σ2 := by
  obtain ⟨R, t1, t2, t3, ⟨t4, t5, t6⟩, t7⟩ := T
  have hF := R.1
  have hM := R.2.2.2.1
  have k3 : F 3 ≤ 6 := hM.1.1.2.2.2.1
  have R1 : RK h (u2 g b 18 (nI (c + 1))) b a K F nm ov A σ := R.of (fun x x1 _ _ => u2_nf x1) (u2_ne (Or.inr (by decide))) rfl rfl rfl rfl
  refine exE2 (lp_two (fun m (x : HS × Int32) i => lX1_tryWays_90 N rec m x.1 b x.2 i) (fun m (x : MS × Int32) i => lX5_reads_4 N m x.1 (if c = 0 then 1 else 0) x.2 i) (F 3) (fun i x y => RI h (u2 g b 18 (nI (c + 1))) σ b c F i x y) (fun x y => RI h (u2 g b 18 (nI (c + 1))) σ b c F (F 3) x y) ?_ ?_ (F 3) 0 (iS h (u2 g b 18 (nI (c + 1))), 0) (σ, 0) N (by omega) (by omega) ?_) fun r r' e1 e2 hq => ?_
  · intro m i x y hi hI
    exact Or.inr (ri_step R1 hc (u2_eq _ _ _ _) rec hi hI)
  · intro m x y hI
    obtain ⟨gx, cm, c64, rfl, e2, x1, ⟨x2, x3, x4⟩, x5⟩ := id hI
    refine ⟨_, y, ?_, ?_, hI⟩
    · have hHx : HouR h gx b a F nm := R1.2.1.keep ⟨Nat.le_refl _, fun q hq => ⟨rfl, rfl, rfl, x1 q (by obtain ⟨_, h9⟩ := hq; omega) (by obtain ⟨_, h9⟩ := hq; omega)⟩⟩
      have R3 : fR (iS h gx) b 1 1 3 = some a := (fx_f hF gx).trans R.2.2.1
      rw [lX1_tryWays_90, R3]
      simp only [Option.bind_some, ho_R hHx (k := 6) (by decide) (by decide), ls_g (ho_w hHx), ls_size (N := N) (ho_w hHx)]
      rw [if_pos (Int32.le_refl _)]
    · have r3 : rA y.1 6 3 = some (nI (F 3)) := by rw [show rA y.1 6 3 = some (gA y.1 6 3) from rL6 (n := 3) (by decide), x3 6 (by decide) (by decide)]; exact congrArg some (hM.2 3 (by decide))
      rw [lX5_reads_4, r3]
      simp only [Option.bind_some]
      rw [if_pos (Int32.le_refl _)]
  · refine ⟨_, 0, by decide, rfl, rfl, fun _ _ _ => rfl, ⟨fun _ => rfl, fun _ _ _ => rfl, rfl⟩, fun w hw hwi => ?_⟩
    rcases t7 with ⟨z, -⟩ | ⟨z, -, -, z3⟩
    · omega
    · rw [u2_nf (by omega), u2_nf (by omega)]; exact z3 w hw
  · have e1 : lX1_tryWays_90 N rec N (iS h (u2 g b 18 (nI (c + 1)))) b 0 0 = some r := e1
    have e2 : lX5_reads_4 N N σ (if c = 0 then 1 else 0) 0 0 = some r' := e2
    obtain ⟨gx, cm, c64, rfl, m2, x1, ⟨x2, x3, x4⟩, x5⟩ := hq
    obtain ⟨σx, mm⟩ := r'
    obtain rfl : mm = nI (2 * cm) := m2
    obtain ⟨bc, ebc⟩ : ∃ bc, bc = fJ16_bitCount (nI cm) := ⟨_, rfl⟩
    have bm : mkS (nI (2 * cm)) = bc := by rw [ebc]; exact (mk_bits ⟨cm, c64⟩).symm
    have x2 : ∀ j, gI σx j = gI σ j := x2
    have x3 : ∀ j, j ≠ 26 → j ≠ 27 → gA σx j = gA σ j := x3
    have x4 : gJ σx = gJ σ := x4
    have x5 : ∀ w, w < F 3 → (w < F 3 ∨ c ≠ 0) → gx (b + 2037) w = gA σx 26 w ∧ gx (b + 2038) w = gA σx 27 w := x5
    have gb : ∀ k, k ≠ 18 → gx b k = g b k := fun k hk => by rw [x1 b (by omega) (by omega), u2_ne (Or.inr hk)]
    have g18 : gx b 18 = nI (c + 1) := by rw [x1 b (by omega) (by omega), u2_eq]
    have r3 : ∀ v w, rA (sI σx v w) 6 3 = some (nI (F 3)) := fun v w => by rw [show rA (sI σx v w) 6 3 = some (gA σx 6 3) from rL6 (n := 3) (by decide), x3 6 (by decide) (by decide)]; exact congrArg some (hM.2 3 (by decide))
    have r3' : rA σx 6 3 = some (nI (F 3)) := by rw [show rA σx 6 3 = some (gA σx 6 3) from rL6 (n := 3) (by decide), x3 6 (by decide) (by decide)]; exact congrArg some (hM.2 3 (by decide))
    obtain ⟨σ2, s1, s2, s3, s4, s5, s6⟩ : ∃ σ2, fX5_reads N σ (if c = 0 then 1 else 0) = some σ2 ∧ gI σ2 29 = (if c = 0 then bc else imin (gx b 16) bc) ∧ gI σ2 28 = nI (F 3) ∧ (∀ j, j ≠ 28 → j ≠ 29 → gI σ2 j = gI σx j) ∧ gA σ2 = gA σx ∧ gJ σ2 = gJ σx := by
      unfold fX5_reads
      rw [e2]
      simp only [Option.bind_some, mo_bitS hN, bm, lt_]
      by_cases c0 : c = 0
      · simp only [if_pos c0, one0, if_false, if_true, r3, Option.bind_some]
        exact ⟨_, rfl, rfl, rfl, fun j j1 j2 => by rw [gI_sI, if_neg j1, gI_sI, if_neg j2], rfl, rfl⟩
      · have z9 : gx b 16 = gI σx 29 := by
          rw [gb 16 (by decide), x2]
          rcases t7 with ⟨z, -⟩ | ⟨-, z, -⟩
          · exact absurd z c0
          · exact z
        simp only [if_neg c0, if_true]
        by_cases q : gI σx 29 ≤ bc
        · simp only [if_pos q, Bool.false_eq_true, if_false, r3', Option.bind_some]
          refine ⟨_, rfl, ?_, rfl, fun j j1 j2 => by rw [gI_sI, if_neg j1], rfl, rfl⟩
          rw [z9, gI_sI, if_neg (by decide), imin, if_neg (Int32.not_lt.mpr q)]
        · simp only [if_neg q, if_true, r3, Option.bind_some]
          refine ⟨_, rfl, ?_, rfl, fun j j1 j2 => by rw [gI_sI, if_neg j1, gI_sI, if_neg j2], rfl, rfl⟩
          rw [z9, gI_sI, if_neg (by decide), gI_sI, if_pos rfl, imin, if_pos (Int32.not_le.mp q)]
    refine ⟨u2 gx b 16 (if c = 0 then bc else imin (gx b 16) bc), σ2, gx, nI cm, ⟨?_, fun x y1 y2 y3 y4 => ?_, fun k k1 k2 => ?_, ?_, ⟨fun j j1 j2 => ?_, fun j j1 j2 j3 => ?_, ?_⟩, Or.inr ⟨by omega, ?_, s3, fun w hw => ?_⟩⟩, e1, (fx_b hF gx).trans (congrArg some g18), fun q => ?_, fun q => ⟨fx_b hF gx, ?_⟩, s1⟩
    · exact R.of (fun x y1 y2 y3 => by rw [u2_nf y1, x1 x y2 y3, u2_nf y1]) (by rw [u2_ne (Or.inr (by decide)), gb 15 (by decide)]) (by rw [s5]; exact x3 1 (by decide) (by decide)) (by rw [s5]; exact x3 6 (by decide) (by decide)) (by rw [s5]; exact x3 24 (by decide) (by decide)) (by rw [s5]; exact x3 25 (by decide) (by decide))
    · rw [u2_nf y1, x1 x y3 y4, u2_nf y1]; exact t1 x y1 y2 y3 y4
    · rw [u2_ne (Or.inr k1), gb k k2]; exact t2 k k1 k2
    · rw [u2_ne (Or.inr (by decide)), g18]
    · rw [s4 j j1 j2, x2]; exact t4 j j1 j2
    · rw [s5, x3 j j2 j3]; exact t5 j j1 j2 j3
    · rw [s6, x4]; exact t6
    · rw [u2_eq, s2]
    · rw [u2_nf (by omega), u2_nf (by omega), s5]; exact x5 w hw (Or.inl hw)
    · have c0 : c = 0 := by have := (nI_eq (b := 1) (by omega) (by decide)).mp q; omega
      rw [if_pos c0, ← ebc]; exact fx_p hF gx
    · have c0 : ¬ c = 0 := fun e => q (by rw [e]; rfl)
      rw [if_neg c0, ← ebc]; exact fx_p hF gx
end PRJ
