/-! readings: the operation -/
section PRR
variable {h : HS} {g : Nat → Nat → Int32} {σ : MS} {N b a n K : Nat} {F : Nat → Nat} {nm : Nat → Int64}
/-- what comes behind the taking -/
def rdK (N b : Nat) (q29 : HS) : Option (Int32 × HS) := ((lX1_readings_11 N (rTW N 10) N q29 b 0).bind fun q20 => ((pI q20 b 1 1 18 0).bind fun σ21 => gT σ21 b 1 1 (((rTW N 10 σ21 b 0).bind fun r22 => ((oI r22 b 1 1 18).bind fun v23 => (if v23 ≤ 0 then ((oI r22 b 1 1 18).bind fun v25 => some (v25, r22)) else ((fR r22 b 1 1 3).bind fun a26 => ((fR r22 a26 2 2 6).bind fun a27 => gT r22 a27 15 15 (((fJ2_size N r22 a27).bind fun r28 => ((pI r22 b 1 1 17 r28).bind fun σ29 => ((oI σ29 b 1 1 18).bind fun v30 => some (v30, σ29)))))))))))))
/-- all readings of a rug, both sides, once what is told is taken -/
theorem rd_run (hN : 200000 ≤ N) (L1 : LRF b n (iS h g) σ F a) (hT : ∀ i, i < 940 → g (b + 1) i = gA σ 1 i) (K8 : K ≤ 8) (h15 : g b 15 = nI K) (hc : ∀ q, q < K → ocN σ (4 * q) < F 0 ∧ ocN σ (4 * q + 1) < F 1) {f : Nat → Int32} (hf : ∀ q w, q < K → w < F 3 → f (6 * q + w) = nI (ovw σ F q w)) :
    ∃ gE σE c, LRF b n (iS h gE) σE F a ∧ ((lX1_takeTold_96 N N (iS h g) b 0).bind (rdK N b)) = some (c, iS h gE) ∧
      ((lX5_readings_231 N N (aS σ 24 f) (nI K) 0).bind fun q33 => ((lX5_readings_254 N N q33 (nI K) 0 1).bind fun q42 => some (q42.2, q42.1))) = some (c, σE) := by
  obtain ⟨⟨hF, -⟩, -, hLt, ⟨⟨h3, hH, -⟩, -⟩, -, hR, -⟩ := id L1
  have hF : FX h b := hF
  have h3 : kR h b 3 = some a := h3
  have hH : HouR h g b a F (gJ σ 9) := hH
  have hM : MH (gA σ 6) F := L1.nw.mh
  have k0 := hM.1.1.1
  have k1 := hM.1.1.2.1
  have k2 : F 2 ≤ 6 := hM.1.1.2.2.1
  have k3 : F 3 ≤ 6 := hM.1.1.2.2.2.1
  obtain ⟨g2, c1, p1, p2⟩ := tk_96 (σ := σ) hN hF hT h15 K8
  have hH2 : HouR h g2 b a F (gJ σ 9) := hH.keep ⟨Nat.le_refl _, fun q hq => ⟨rfl, rfl, rfl, p1 q (by obtain ⟨_, h9⟩ := hq; omega) (by obtain ⟨_, h9⟩ := hq; omega) (by obtain ⟨_, h9⟩ := hq; omega)⟩⟩
  obtain ⟨g3, c2, r1, r2⟩ := rd_11 (tt := fun k => 12 * ocN σ (4 * k + 1) + ocN σ (4 * k)) hN hF hH2 h3 (by rw [p1 b (by omega) (by omega) (by omega)]; exact h15) K8 (fun k hk => ⟨(p2 k hk).1, by have := hc k hk; omega⟩) (rTW N 10)
  obtain ⟨g4, e4⟩ : ∃ g4, g4 = u2 g3 b 18 0 := ⟨_, rfl⟩
  obtain ⟨f2, s1, s2⟩ := mo_231 (σ := aS σ 24 f) hN (nI K)
  obtain ⟨σ3, es3⟩ : ∃ σ3, σ3 = aS (aS σ 24 f) 25 f2 := ⟨_, rfl⟩
  rw [← es3] at s1
  have x4 : ∀ q, q ≠ b → (q < b + 2033 ∨ (b + 2036 ≤ q ∧ q < b + 2040) ∨ b + 2046 ≤ q) → g4 q = g q := fun q z1 z2 => by
    rw [e4, u2_nf z1, r1 q (by omega)]; exact p1 q (by omega) (by omega) (by omega)
  have xb : ∀ k, k ≠ 18 → g4 b k = g b k := fun k hk => by
    rw [e4, u2_ne (Or.inr hk), r1 b (by omega)]; exact congrFun (p1 b (by omega) (by omega) (by omega)) k
  have b18 : g4 b 18 = nI 0 := by rw [e4, u2_eq]; rfl
  have hH4 : HouR h g4 b a F (gJ σ 9) := hH.keep ⟨Nat.le_refl _, fun q hq => ⟨rfl, rfl, rfl, x4 q (by obtain ⟨_, h9⟩ := hq; omega) (by obtain ⟨_, h9⟩ := hq; omega)⟩⟩
  have aA : ∀ j, j ≠ 24 → j ≠ 25 → gA σ3 j = gA σ j := fun j j1 j2 => by rw [es3, gA_o j2, gA_o j1]
  have aI' : ∀ j, gI σ3 j = gI σ j := fun j => by rw [es3]; rfl
  have aJ : gJ σ3 = gJ σ := by rw [es3]; rfl
  have a24 : gA σ3 24 = f := by rw [es3, gA_o (by decide), gA_same]
  have a25 : gA σ3 25 = f2 := by rw [es3, gA_same]
  have T0 : RTl h g4 σ3 b a K F (gJ σ 9) (ovw σ F) 0 (fun _ => 0) 0 g4 σ3 := by
    refine ⟨⟨⟨hF, ?_, h3, by rw [aA 6 (by decide) (by decide)]; exact hM, ⟨by rw [gW_o (by omega), xb 15 (by decide)]; exact h15, K8⟩, fun k hk => ?_, fun k w hk hw => ?_, fun w hw => ⟨Nat.zero_le _, by rw [a25, s2 w (by omega)]; rfl, gW_i⟩⟩, fun x y1 y2 y3 y4 => gW_o y2, fun k z1 z2 => by rw [gW_o (by omega)], by rw [gW_o (by omega)]; exact b18, ⟨fun _ _ _ => rfl, fun _ _ _ _ => rfl, rfl⟩, Or.inl ⟨rfl, by rw [gW_o (by omega)], gW_o (by omega), gW_o (by omega), rfl, rfl, rfl, rfl⟩⟩, fun i hi => by omega⟩
    · exact hH4.keep ⟨Nat.le_refl _, fun q hq => ⟨rfl, rfl, rfl, gW_o (by obtain ⟨_, h9⟩ := hq; omega)⟩⟩
    · rw [gW_o (by omega), gW_o (by omega), aA 1 (by decide) (by decide), e4, u2_nf (by omega), u2_nf (by omega), r1 _ (by omega), r1 _ (by omega), (p2 k hk).2.1, (p2 k hk).2.2]
      exact ⟨(oc_n _).1.symm, (oc_n _).1.symm⟩
    · refine ⟨Nat.le_trans (cnt_le _ _ _ _) (hM.1.2.2.2.2.2 w hw).2.1, ?_, by rw [a24]; exact hf k w hk hw⟩
      rw [gW_o (by omega), e4, u2_nf (by omega)]; exact r2 w k hw hk
  have p7 : 7 ^ F 3 ≤ 117649 := Nat.le_trans (Nat.pow_le_pow_right (by decide) k3) (by decide)
  obtain ⟨g5, σ5, c, k, -, q2, q3, T5, q5, q6⟩ := rt_rec (N := N) hN (by rw [aA 6 (by decide) (by decide)]; exact hM) (F 3) 0 10 (fun _ => 0) 0 g4 σ3 (by omega) (by omega) (fun _ _ _ => rfl) T0 (by omega)
  have q6 : lX5_readings_254 N N σ3 (nI K) 0 1 = some (σ5, nI c) := by
    have := q6 (N - k)
    rw [show N - k + k = N by omega] at this
    rw [show lX5_readings_254 N N σ3 (nI K) 0 1 = lX5_readings_254 N N σ3 (nI K) (nI 0) 1 from rfl, this]
    obtain ⟨m, em⟩ : ∃ m, N - k = m + 1 := ⟨N - k - 1, by omega⟩
    rw [em, lX5_readings_254]
    show (if (0 : Int32) = 0 then some (aS σ5 25 (gA σ5 25), nI c) else _) = _
    rw [if_pos rfl, aS_id]
  obtain ⟨⟨-, t1, t2, t3, ⟨t4, t5, t6⟩, t7⟩, -⟩ := T5
  have y1 : ∀ q, q ≠ b → (q < b + 2033 ∨ b + 2046 ≤ q) → g5 q = g q := fun q z1 z2 => by
    have := t1 q z1 (by omega) (by omega) (by omega)
    rw [gW_o (by omega)] at this
    rw [this]; exact x4 q z1 (by omega)
  rw [gW_o (by omega)] at t3 t7
  have yb : ∀ k, k ≠ 16 → k ≠ 18 → g5 b k = g b k := fun k z1 z2 => by
    have := t2 k z1 z2
    rw [gW_o (by omega)] at this
    rw [this]; exact xb k z2
  have C1 : pI (iS h g3) b 1 1 18 0 = some (iS h g4) := by rw [e4]; exact fx_p hF g3
  have hLt5 : ∀ g' : Nat → Nat → Int32, (∀ k, k ≠ 17 → g' b k = g5 b k) → (∀ q, q ≠ b → g' q = g5 q) → LRt b g' σ5 := fun g' h1 h2 => hLt.of (by rw [h1 1 (by decide)]; exact yb 1 (by decide) (by decide)) (by rw [h1 2 (by decide)]; exact yb 2 (by decide) (by decide)) (by rw [h2 _ (by omega)]; exact y1 _ (by omega) (by omega)) ((t4 2 (by decide) (by decide)).trans (aI' 2)) ((t4 15 (by decide) (by decide)).trans (aI' 15)) ((t5 1 (by decide) (by decide) (by decide)).trans (aA 1 (by decide) (by decide)))
  have fin : ∀ g' : Nat → Nat → Int32, (∀ k, k ≠ 17 → g' b k = g5 b k) → (∀ q, q ≠ b → g' q = g5 q) → LRr b g' σ5 → LRF b n (iS h g') σ5 F a := fun g' h1 h2 hr => by
    have := L1.chg (g' := g') (σ' := σ5) (fun q z1 z2 => by rw [h2 q z1]; exact y1 q z1 (by omega)) (by rw [h1 7 (by decide)]; exact yb 7 (by decide) (by decide)) (hLt5 g' h1 h2) hr ((t5 6 (by decide) (by decide) (by decide)).trans (aA 6 (by decide) (by decide))) (by rw [t6, aJ]) (by rw [t6, aJ]) (by rw [t6, aJ]) ((t5 22 (by decide) (by decide) (by decide)).trans (aA 22 (by decide) (by decide))) ((t5 52 (by decide) (by decide) (by decide)).trans (aA 52 (by decide) (by decide))) ((t5 54 (by decide) (by decide) (by decide)).trans (aA 54 (by decide) (by decide))) ((t4 23 (by decide) (by decide)).trans (aI' 23))
    exact this
  obtain ⟨hr1, hr2, hr3⟩ := hR
  have hr2 : (gI σ 35 = 0 ∧ ∀ i, i < 4 → g (b + 2048) i = -1) ∨ (gI σ 35 = 1 ∧ ∀ i, i < 4 → g (b + 2048) i = gA σ 31 i) := hr2
  have hr3 : ∃ m, m ≤ 4 ∧ g b 29 = nI m ∧ gI σ 42 = nI m ∧ ∀ i, i < m → g (b + 2198) i = gA σ 40 i := hr3
  have hr23 : ∀ g' : Nat → Nat → Int32, (∀ k, k ≠ 17 → g' b k = g5 b k) → (∀ q, q ≠ b → g' q = g5 q) → ((gI σ5 35 = 0 ∧ ∀ i, i < 4 → g' (b + 2048) i = -1) ∨ (gI σ5 35 = 1 ∧ ∀ i, i < 4 → g' (b + 2048) i = gA σ5 31 i)) ∧ ∃ m, m ≤ 4 ∧ g' b 29 = nI m ∧ gI σ5 42 = nI m ∧ ∀ i, i < m → g' (b + 2198) i = gA σ5 40 i := fun g' h1 h2 => by
    rw [t4 35 (by decide) (by decide), aI', t4 42 (by decide) (by decide), aI', t5 31 (by decide) (by decide) (by decide), aA 31 (by decide) (by decide), t5 40 (by decide) (by decide) (by decide), aA 40 (by decide) (by decide), h2 (b + 2048) (by omega), y1 (b + 2048) (by omega) (by omega), h2 (b + 2198) (by omega), y1 (b + 2198) (by omega) (by omega), h1 29 (by decide), yb 29 (by decide) (by decide)]
    exact ⟨hr2, hr3⟩
  have b5 : oI (iS h g5) b 1 1 18 = some (nI c) := (fx_b hF g5).trans (congrArg some t3)
  rw [c1, Option.bind_some]
  unfold rdK
  simp only [Option.bind_some, c2, C1, fx_g hF, show rTW N 10 (iS h g4) b 0 = some (iS h g5) from q5, b5, s1, q6]
  by_cases c0 : c = 0
  · subst c0
    refine ⟨g5, σ5, nI 0, fin g5 (fun _ _ => rfl) (fun _ _ => rfl) ⟨?_, hr23 g5 (fun _ _ => rfl) (fun _ _ => rfl)⟩, by rw [if_pos (by decide)], rfl⟩
    rcases t7 with ⟨-, z1, z2, z3, z4, z5, z6, z7⟩ | ⟨z, -⟩
    · rw [gW_o (by omega)] at z2 z3
      rw [z1, z2, z3, z4, z5, z6, z7, aI', aI', aA 26 (by decide) (by decide), aA 27 (by decide) (by decide), yb 17 (by decide) (by decide), xb 16 (by decide), x4 _ (by omega) (by omega), x4 _ (by omega) (by omega)]
      exact hr1
    · omega
  · have z0 : ¬ nI c ≤ 0 := nI_ge (a := 0) (by omega) (by omega)
    have hH5 : HouR h g5 b a F (gJ σ 9) := hH.keep ⟨Nat.le_refl _, fun q hq => ⟨rfl, rfl, rfl, y1 q (by obtain ⟨_, h9⟩ := hq; omega) (by obtain ⟨_, h9⟩ := hq; omega)⟩⟩
    have R3 : fR (iS h g5) b 1 1 3 = some a := (fx_f hF g5).trans h3
    have b6 : oI (iS h (u2 g5 b 17 (nI (F 3)))) b 1 1 18 = some (nI c) := (fx_b hF _).trans (by rw [u2_ne (Or.inr (by decide)), t3])
    refine ⟨u2 g5 b 17 (nI (F 3)), σ5, nI c, fin _ (fun k hk => u2_ne (Or.inr hk)) (fun q hq => u2_nf hq) ⟨Or.inr ⟨F 3, k3, ?_⟩, hr23 _ (fun k hk => u2_ne (Or.inr hk)) (fun q hq => u2_nf hq)⟩, ?_, rfl⟩
    · rcases t7 with ⟨z, -⟩ | ⟨-, z1, z2, z3⟩
      · exact absurd z c0
      · refine ⟨z2, u2_eq .., by rw [u2_ne (Or.inr (by decide))]; exact z1, fun w hw => ?_⟩
        have := z3 w hw
        rw [gW_o (by omega), gW_o (by omega)] at this
        rw [u2_nf (by omega), u2_nf (by omega)]
        exact this
    · simp only [if_neg z0, R3, Option.bind_some, ho_R hH5 (k := 6) (by decide) (by decide), ls_g (ho_w hH5), ls_size (N := N) (ho_w hH5), fx_p hF g5, b6]
theorem op_readings (hN : 200000 ≤ N) : LO_readings N b (LR b) := by
  intro n h σ hL
  obtain ⟨F, a, hL⟩ := hL.f
  have hL := hL.less
  obtain ⟨⟨hF, -⟩, -, ⟨⟨m, m1, t1, t2⟩, hT, hf⟩, ⟨⟨h3, -⟩, -⟩, -, hR, -⟩ := id hL
  obtain ⟨g1, eg1⟩ : ∃ g1, g1 = u2 (kI h) b 1 0 := ⟨_, rfl⟩
  obtain ⟨σ1, es1⟩ : ∃ σ1, σ1 = fX5_taken (sI σ 0 0) 940 := ⟨_, rfl⟩
  have x1 : ∀ q, q ≠ b → g1 q = kI h q := fun q hq => by rw [eg1, u2_nf hq]
  have xb : ∀ k, k ≠ 1 → g1 b k = kI h b k := fun k hk => by rw [eg1, u2_ne (Or.inr hk)]
  have hg3 : gI σ1 3 = nI m := by rw [es1]; exact t2
  have L1 : LRF b n (iS h g1) σ1 F a := by
    refine hL.chg (fun q q1 _ => x1 q q1) (xb 7 (by decide)) ⟨⟨0, by decide, by rw [eg1]; exact u2_eq .., by rw [es1]; rfl⟩, fun i hi => ?_, ?_⟩ (hR.of (xb 16 (by decide)) (xb 17 (by decide)) (xb 29 (by decide)) ⟨x1 _ (by omega), x1 _ (by omega), x1 _ (by omega), x1 _ (by omega)⟩ ?_ ?_) ?_ ?_ ?_ ?_ ?_ ?_ ?_ ?_
    · rw [x1 _ (by omega), es1]; exact hT i hi
    · rw [xb 2 (by decide), es1]; exact hf
    all_goals rw [es1]
    · exact ⟨rfl, rfl, rfl, rfl⟩
    · exact ⟨rfl, rfl, rfl, rfl⟩
    all_goals rfl
  have hM : MH (gA σ1 6) F := L1.nw.mh
  have hT1 : ∀ i, i < 940 → g1 (b + 1) i = gA σ1 1 i := fun i hi => by rw [x1 _ (by omega), es1]; exact hT i hi
  have hH1 : HouR h g1 b a F (gJ σ1 9) := L1.nw.ho
  have eT : fX1_takeTold N h b = (if irm (nI m) 4 = 0 then (if fX1_isIn (nI m / 4) 1 8 = 0 then some (0, iS h g1) else osm (lX1_takeTold_27 N (iS h g1) N b (nI m) 0) id fun q15 => ((pI (iS h g1) b 1 1 15 (nI m / 4)).bind fun σ16 => ((lX1_takeTold_96 N N σ16 b 0).bind fun q29 => some (1, q29)))) else some (0, iS h g1)) := by
    show fX1_takeTold N (iS h (kI h)) b = _
    unfold fX1_takeTold fX1_take
    rw [fx_g hF, fx_b hF, t1, fx_p hF, ← eg1]; rfl
  have eS : fX5_readings N σ = (if irm (nI m) 4 = 0 then (if fX1_isIn (nI m / 4) 1 8 = 0 then some (-1, σ1) else osm (lX5_readings_47 N N σ1 (nI m / 4) 0) id fun q30 => ((lX5_readings_231 N N q30 (nI m / 4) 0).bind fun q33 => ((lX5_readings_254 N N q33 (nI m / 4) 0 1).bind fun q42 => some (q42.2, q42.1)))) else some (-1, σ1)) := by
    unfold fX5_readings
    simp only [lt_, ← es1, hg3]; rfl
  have eR : fX1_readings N (rTW N 10) h b = ((fX1_takeTold N h b).bind fun r1 => (if r1.1 = 0 then (some ((-1), r1.2)) else rdK N b r1.2)) := by
    show fX1_readings N (rTW N 10) (iS h (kI h)) b = _
    unfold fX1_readings
    rw [fx_g hF]; rfl
  have bad : fX1_takeTold N h b = some (0, iS h g1) → fX1_readings N (rTW N 10) h b = some (-1, iS h g1) := fun e => by
    rw [eR, e]; rfl
  by_cases c4 : irm (nI m) 4 = 0
  · rw [if_pos c4] at eT eS
    have d4 : nI m / 4 = nI (m / 4) := pl_div (n := 4) (by omega) (by decide) (by decide)
    rcases isIn_20 (nI m / 4) (m := 8) (by decide) with c8 | ⟨c8, K, K1, K8, eK⟩
    · have c8 : fX1_isIn (nI m / 4) 1 8 = 0 := c8
      rw [if_pos c8] at eT eS
      exact ⟨-1, iS h g1, σ1, bad eT, eS, L1.lr⟩
    · have c8 : fX1_isIn (nI m / 4) 1 8 = 1 := c8
      rw [if_neg (by rw [c8]; decide)] at eT eS
      have eKm : m / 4 = K := by rw [d4] at eK; exact (nI_eq (by omega) (by omega)).mp eK
      have e4 : m % 4 = 0 := by
        rw [show irm (nI m) 4 = nI (m % 4) from pl_irm (n := 4) (by omega) (by decide) (by decide)] at c4
        exact (nI_eq (b := 0) (by omega) (by decide)).mp c4
      obtain rfl : m = 4 * K := by omega
      rw [eK] at eT eS
      rcases tl_all (y1 := nI K) hN hF hH1 h3 hT1 hM hg3 K8 with ⟨z1, f, z2, z3, z4⟩ | ⟨z1, f, z2⟩
      · rw [z1] at eT
        rw [z2] at eS
        have e15 : pI (iS h g1) b 1 1 15 (nI K) = some (iS h (u2 g1 b 15 (nI K))) := fx_p hF g1
        simp only [osm, e15, Option.bind_some] at eT
        simp only [osm] at eS
        have L2 : LRF b n (iS h (u2 g1 b 15 (nI K))) σ1 F a := by
          obtain ⟨-, -, hLt, -, -, hR1, -⟩ := id L1
          have hb : ∀ k, k ≠ 15 → u2 g1 b 15 (nI K) b k = g1 b k := fun k hk => u2_ne (Or.inr hk)
          have hg : ∀ q, q ≠ b → u2 g1 b 15 (nI K) q = g1 q := fun q hq => u2_nf hq
          exact L1.chg (fun q q1 _ => hg q q1) (hb 7 (by decide)) (hLt.of (hb 1 (by decide)) (hb 2 (by decide)) (hg _ (by omega)) rfl rfl rfl) (hR1.of (hb 16 (by decide)) (hb 17 (by decide)) (hb 29 (by decide)) ⟨hg _ (by omega), hg _ (by omega), hg _ (by omega), hg _ (by omega)⟩ ⟨rfl, rfl, rfl, rfl⟩ ⟨rfl, rfl, rfl, rfl⟩) rfl rfl rfl rfl rfl rfl rfl rfl
        obtain ⟨gE, σE, c, LE, E1, E2⟩ := rd_run (K := K) hN L2 (fun i hi => by rw [u2_nf (by omega)]; exact hT1 i hi) K8 (u2_eq ..) z3 z4
        refine ⟨c, iS h gE, σE, ?_, by rw [eS]; exact E2, LE.lr⟩
        rw [eR, eT, ← E1]
        cases lX1_takeTold_96 N N (iS h (u2 g1 b 15 (nI K))) b 0 with
        | none => rfl
        | some q => rfl
      · rw [z1] at eT
        rw [z2] at eS
        refine ⟨-1, iS h g1, aS σ1 24 f, bad eT, eS, ?_⟩
        obtain ⟨-, -, hLt, -, -, hR1, -⟩ := id L1
        have ga : ∀ j, j ≠ 24 → gA (aS σ1 24 f) j = gA σ1 j := fun j hj => gA_o hj
        have := L1.chg (g' := g1) (σ' := aS σ1 24 f) (fun _ _ _ => rfl) rfl (hLt.of rfl rfl rfl rfl rfl (ga _ (by decide))) (hR1.of rfl rfl rfl ⟨rfl, rfl, rfl, rfl⟩ ⟨rfl, rfl, rfl, rfl⟩ ⟨ga _ (by decide), ga _ (by decide), ga _ (by decide), ga _ (by decide)⟩) (ga _ (by decide)) rfl rfl rfl (ga _ (by decide)) (ga _ (by decide)) (ga _ (by decide)) rfl
        exact this.lr
  · rw [if_neg c4] at eT eS
    exact ⟨-1, iS h g1, σ1, bad eT, eS, L1.lr⟩
end PRR
