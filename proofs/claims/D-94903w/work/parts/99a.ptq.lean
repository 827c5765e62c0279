/-! walks: the operation -/
section PTQ
variable {h0 h h' : HS} {σ σ' : MS} {N b n a : Nat} {F : Nat → Nat}
/-- a reader is made -/
theorem rd_init {t sl x1 : Nat} {v lim : Int32} (t1 : 5 ≤ t) (t2 : t ≤ 7) (hg : kG h 0 ≤ kZ h) : ∃ h1, fX6_init N (tA h t 0 sl) (kZ h) x1 v lim = some h1 ∧ ond (fun _ => False) h h1 ∧ kZ h1 = kZ h + 1 ∧ kW h1 = kW h + sl ∧ kT h1 (kZ h) = t ∧ kI h1 (kZ h) = upd (upd (fun _ => 0) 1 v) 2 lim ∧ kR h1 (kZ h) 0 = some x1 ∧ kR h1 (kZ h) 8 = some (kG h 30) ∧ kG h1 = kG h ∧ ∀ k, k ≠ 0 → k ≠ 8 → kR h1 (kZ h) k = none := by
  have T : kT (tA h t 0 sl) (kZ h) = t := by rw [kT_tA, if_pos rfl]
  have e1 : 5 ≤ kT (tA h t 0 sl) (kZ h) := by rw [T]; exact t1
  have e2 : kT (tA h t 0 sl) (kZ h) ≤ 7 := by rw [T]; exact t2
  refine ⟨tI (tI (tR (tR (tA h t 0 sl) (kZ h) 8 (some (kG h 30))) (kZ h) 0 (some x1)) (kZ h) 1 v) (kZ h) 2 lim, ?_, ?_, rfl, rfl, T, ?_, ?_, ?_, rfl, fun k k1 k2 => ?_⟩
  · unfold fX6_init
    rw [kG_tA, pR_n (h := tA h t 0 sl) e1 e2 hg]
    simp only [Option.bind_some]
    rw [pR_n (h := tR (tA h t 0 sl) (kZ h) 8 (some (kG h 30))) e1 e2 hg]
    simp only [Option.bind_some]
    rw [pI_n (h := tR (tR (tA h t 0 sl) (kZ h) 8 (some (kG h 30))) (kZ h) 0 (some x1)) e1 e2 hg]
    simp only [Option.bind_some]
    rw [pI_n (h := tI (tR (tR (tA h t 0 sl) (kZ h) 8 (some (kG h 30))) (kZ h) 0 (some x1)) (kZ h) 1 v) e1 e2 hg]; rfl
  · exact (((ond.tA.tr ond.tR fun q hq z => by omega).tr ond.tR fun q hq z => by omega).tr ond.tI fun q hq z => by omega).tr ond.tI fun q hq z => by omega
  · funext k
    rw [kI_tI]
    by_cases c2 : k = 2
    · rw [if_pos ⟨rfl, c2⟩, c2, pk_us]
    · rw [if_neg (fun z => c2 z.2), pk_un c2, kI_tI]
      by_cases c1 : k = 1
      · rw [if_pos ⟨rfl, c1⟩, c1, pk_us]
      · rw [if_neg (fun z => c1 z.2), pk_un c1, kI_tR, kI_tR, kI_tA, if_pos rfl]
  · show kR (tR (tR (tA h t 0 sl) (kZ h) 8 (some (kG h 30))) (kZ h) 0 (some x1)) (kZ h) 0 = _
    rw [kR_tR, if_pos ⟨rfl, rfl⟩]
  · show kR (tR (tR (tA h t 0 sl) (kZ h) 8 (some (kG h 30))) (kZ h) 0 (some x1)) (kZ h) 8 = _
    rw [kR_tR, if_neg (by omega), kR_tR, if_pos ⟨rfl, rfl⟩]
  · show kR (tR (tR (tA h t 0 sl) (kZ h) 8 (some (kG h 30))) (kZ h) 0 (some x1)) (kZ h) k = _
    rw [kR_tR, if_neg (fun z => k1 z.2), kR_tR, if_neg (fun z => k2 z.2), kR_tA, if_pos rfl]
/-- the tape is taken, the fault is set back: both sides -/
theorem take_both (hL : LRF b (n + 1) h σ F a) (lim : Nat) (hl : lim ≤ 940) : ∃ m g, m ≤ 940 ∧ g = u2 (u2 (kI h) b 1 0) b 2 0 ∧ fX1_take N h b = some (nI m, iS h (u2 (kI h) b 1 0)) ∧ pI (iS h (u2 (kI h) b 1 0)) b 1 1 2 0 = some (iS h g) ∧ LRF b (n + 1) (iS h g) (sI (fX5_taken (sI σ 0 0) (nI lim)) 15 0) F a ∧ gI (sI (fX5_taken (sI σ 0 0) (nI lim)) 15 0) 3 = nI m ∧ gI (sI (fX5_taken (sI σ 0 0) (nI lim)) 15 0) 4 = 0 ∧ gI (sI (fX5_taken (sI σ 0 0) (nI lim)) 15 0) 5 = nI lim ∧ ∀ i, i < 940 → g (b + 1) i = gA σ 1 i := by
  obtain ⟨⟨hF, -⟩, -, ⟨⟨m, m1, t1, t2⟩, hT, hf⟩, -, -, hR, -⟩ := id hL
  have x1 : ∀ q, q ≠ b → u2 (u2 (kI h) b 1 0) b 2 0 q = kI h q := fun q hq => by rw [u2_nf hq, u2_nf hq]
  have xb : ∀ k, k ≠ 1 → k ≠ 2 → u2 (u2 (kI h) b 1 0) b 2 0 b k = kI h b k := fun k k1 k2 => by rw [u2_ne (Or.inr k2), u2_ne (Or.inr k1)]
  refine ⟨m, _, m1, rfl, ?_, fx_p hF _, ?_, t2, rfl, rfl, fun i hi => by rw [x1 _ (by omega)]; exact hT i hi⟩
  · show fX1_take N (iS h (kI h)) b = _
    unfold fX1_take
    rw [fx_b hF, fx_p hF, t1]; rfl
  · refine hL.chg (fun q q1 _ => x1 q q1) (xb 7 (by decide) (by decide)) ⟨⟨0, by decide, by rw [u2_ne (Or.inr (by decide)), u2_eq]; rfl, rfl⟩, fun i hi => by rw [x1 _ (by omega)]; exact hT i hi, u2_eq ..⟩ (hR.of (xb 16 (by decide) (by decide)) (xb 17 (by decide) (by decide)) (xb 29 (by decide) (by decide)) ⟨x1 _ (by omega), x1 _ (by omega), x1 _ (by omega), x1 _ (by omega)⟩ ⟨rfl, rfl, rfl, rfl⟩ ⟨rfl, rfl, rfl, rfl⟩) rfl rfl rfl rfl rfl rfl rfl rfl
/-- a fault ends the operation -/
theorem flt_end {Zm Wm fa : Nat} (L0 : LR b (n + 1) h0 σ) (hfl : FLT h0 Zm Wm h' fa σ') (hz : Zm + 1 ≤ kZ h0 + 8000) (hw : Wm + 8 ≤ kW h0 + 100000) (A : ∀ j, (j = 1 ∨ j = 6 ∨ j = 22 ∨ j = 52 ∨ j = 54 ∨ j = 26 ∨ j = 27 ∨ j = 31 ∨ j = 40) → gA σ' j = gA σ j) (J : gJ σ' 9 = gJ σ 9 ∧ gJ σ' 10 = gJ σ 10 ∧ gJ σ' 53 = gJ σ 53) (I : ∀ j, (j = 2 ∨ j = 23 ∨ j = 28 ∨ j = 29 ∨ j = 35 ∨ j = 42) → gI σ' j = gI σ j) (hfa : fa ≠ b) : ∃ h2, (∀ c : Int32, gT h' fa 8 8 (((oI h' fa 8 8 0).bind fun v21 => ((pI h' b 1 1 2 v21).bind fun σ22 => ((oI σ22 fa 8 8 1).bind fun v23 => some (c - v23, σ22))))) = some (c - gI σ' 16, h2)) ∧ LR b n h2 σ' := by
  obtain ⟨f1, f2, f3, f4, f5, f6⟩ := hfl
  obtain ⟨⟨-, -, q1, q2⟩, -⟩ := id L0
  have L1 : LR b n h' σ := L0.less.grow f4 (by omega) (by omega)
  obtain ⟨F, a, L2⟩ := L1.f
  obtain ⟨⟨hF, -⟩, -, hLt, -, -, hR, -⟩ := id L2
  have hg : ∀ q, q ≠ b → u2 (kI h') b 2 (gI σ' 15) q = kI h' q := fun q hq => u2_nf hq
  have hb : ∀ k, k ≠ 2 → u2 (kI h') b 2 (gI σ' 15) b k = kI h' b k := fun k hk => u2_ne (Or.inr hk)
  refine ⟨iS h' (u2 (kI h') b 2 (gI σ' 15)), fun c => ?_, ?_⟩
  · rw [gT_n (Nat.le_of_eq f1.symm) (Nat.le_of_eq f1), oI_n (Nat.le_of_eq f1.symm) (Nat.le_of_eq f1), f2]
    simp only [Option.bind_some]
    rw [show pI h' b 1 1 2 (gI σ' 15) = some (iS h' (u2 (kI h') b 2 (gI σ' 15))) from fx_p hF (kI h')]
    simp only [Option.bind_some]
    rw [oI_n (h := iS h' (u2 (kI h') b 2 (gI σ' 15))) (Nat.le_of_eq f1.symm) (Nat.le_of_eq f1), kI_iS, hg fa hfa, f3]; rfl
  · refine LRF.lr (F := F) (a := a) (L2.chg (fun q q1 _ => hg q q1) (hb 7 (by decide)) ?_ (hR.of (hb 16 (by decide)) (hb 17 (by decide)) (hb 29 (by decide)) ⟨hg _ (by omega), hg _ (by omega), hg _ (by omega), hg _ (by omega)⟩ ⟨I 28 (by omega), I 29 (by omega), I 35 (by omega), I 42 (by omega)⟩ ⟨A 26 (by omega), A 27 (by omega), A 31 (by omega), A 40 (by omega)⟩) (A 6 (by omega)) J.1 J.2.1 J.2.2 (A 22 (by omega)) (A 52 (by omega)) (A 54 (by omega)) (I 23 (by omega)))
    obtain ⟨⟨m, m1, t1, t2⟩, hT, hf⟩ := hLt
    exact ⟨⟨m, m1, by rw [hb 1 (by decide)]; exact t1, by rw [I 2 (by omega)]; exact t2⟩, fun i hi => by rw [hg _ (by omega), A 1 (by omega)]; exact hT i hi, u2_eq ..⟩
end PTQ
