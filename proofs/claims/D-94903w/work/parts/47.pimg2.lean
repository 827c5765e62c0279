/-! operations: image, restore -/
section PI2
variable {b n N a : Nat} {h h' : HS} {g g' : Nat → Nat → Int32} {σ : MS} {F : Nat → Nat}
theorem isIn_2 (x : Int32) : (fX1_isIn x 0 1 = 0) ∨ (fX1_isIn x 0 1 = 1 ∧ ∃ k, k < 2 ∧ x = nI k) := by
  rw [show fX1_isIn x 0 1 = fX1_isIn x 0 (nI 2 - 1) from isIn_lit x 1 (by decide)]
  rcases isIn_cs x (n := 2) (by decide) with ⟨h9, -⟩ | h9
  · exact Or.inl h9
  · exact Or.inr h9
theorem kp_A (hF : FX h b) {k : Nat} (hk : k < 2) : fA h (b + 2199) 37 (nI k) = some (b + 2200 + 2025 * k) := by
  obtain ⟨tA, tN⟩ := hF.2.2.2.2.1 2199 _ _ rfl
  exact (fA_n tA (by rw [tN]; exact hk) (by rw [tN]; decide)).trans (hF.2.2.2.2.2.2.2.1 k hk).1
theorem op_image (hN : 200000 ≤ N) : LO_image N b (LR b) := by
  intro n h σ x hL
  obtain ⟨F, a, hf⟩ := hL.less.f
  obtain ⟨⟨hF, hO, hz⟩, hC, hT, ⟨hH, hU⟩, hK, hR, hM⟩ := id hf
  unfold fX1_image fX5_image
  simp only [lt_]
  rcases isIn_2 x with c | ⟨c, k, hk, rfl⟩
  · rw [if_pos c, if_pos (show fX5_isIn x 0 1 = 0 from c)]
    exact ⟨0, h, _, rfl, rfl, hL.less.thrown 0⟩
  · rw [if_neg (by rw [c]; decide), if_neg (show ¬ fX5_isIn (nI k) 0 1 = 0 by rw [isIn_5, c]; decide)]
    obtain ⟨w1, w2, w3, w4⟩ := hF.2.2.2.2.2.2.2.1 k hk
    obtain ⟨Kp, eK⟩ : ∃ Kp, Kp = b + 2200 + 2025 * k := ⟨_, rfl⟩
    have eR : b + 2201 + 2025 * k = Kp + 1 := by omega
    rw [← eK] at w2 w3
    rw [eR] at w3 w4
    have hgK : kG h 0 ≤ Kp := by have := hF.2.1; omega
    obtain ⟨h1, eh1⟩ : ∃ h1, h1 = tR (tR h Kp 0 (kR h b 3)) Kp 1 (kR h b 5) := ⟨_, rfl⟩
    have k1o : ∀ q, q ≠ Kp → kR h1 q = kR h q := fun q hq => funext fun j => by rw [eh1, kR_ne (by omega), kR_ne (by omega)]
    have k1_0 : kR h1 Kp 0 = kR h b 3 := by rw [eh1, kR_ne (by omega), kR_tR, if_pos ⟨rfl, rfl⟩]
    have k1_1 : kR h1 Kp 1 = kR h b 5 := by rw [eh1, kR_tR, if_pos ⟨rfl, rfl⟩]
    have k1_2 : ∀ j, 2 ≤ j → kR h1 Kp j = kR h Kp j := fun j hj => by rw [eh1, kR_ne (by omega), kR_ne (by omega)]
    have hT1 : kT h1 = kT h := by rw [eh1]; rfl
    have hN1 : kN h1 = kN h := by rw [eh1]; rfl
    have hI1 : kI h1 = kI h := by rw [eh1]; rfl
    have hZ1 : kZ h1 = kZ h := by rw [eh1]; rfl
    have hW1 : kW h1 = kW h := by rw [eh1]; rfl
    have hG1 : kG h1 = kG h := by rw [eh1]; rfl
    have hF1 : FX h1 b := hF.of (Nat.le_of_eq hZ1.symm) (by rw [hG1]) (fun _ _ _ => by rw [hT1, hN1]; exact ⟨rfl, rfl⟩) fun q j q1 q2 hn => by
      by_cases e : q = Kp
      · subst e
        exact k1_2 j (by unfold mR at hn; omega)
      · rw [k1o q e]
    have hnow := hF1.2.2.2.2.2.2.2.2.1
    obtain ⟨y1, y2, y3, y4⟩ := hF1.2.2.2.2.2.2.2.1 k hk
    rw [eR] at y3 y4
    rw [← eK] at y3
    obtain ⟨g1, e1, c1, f1⟩ := co_as (h := h1) (g := kI h) (r := Kp + 1) (s := b + 8) hN y4 hnow (by omega)
    rw [show iS h1 (kI h) = h1 by rw [← hI1]; rfl] at e1
    have R31 := fx_R31 hF (kI h)
    have O3 := fx_o hF (kI h) (k := 3)
    rw [iS_k] at R31 O3
    have ha : kR h1 (b + 8) 0 = some a := by rw [k1o _ (by omega)]; exact hH.2.2.2.1
    rw [ha] at e1
    have comp : ∀ z, (some (1, iS (tR h1 (Kp + 1) 0 (some a)) g1)) = z → ((fR h b 1 1 31).bind fun a3 => ((fA h a3 37 (nI k)).bind fun a4 => ((oR h b 1 1 3).bind fun o5 => ((pR h a4 4 4 0 o5).bind fun σ6 => ((fR σ6 b 1 1 31).bind fun a7 => ((fA σ6 a7 37 (nI k)).bind fun a8 => ((oR σ6 b 1 1 5).bind fun o9 => ((pR σ6 a8 4 4 1 o9).bind fun σ10 => ((fR σ10 b 1 1 31).bind fun a11 => ((fA σ10 a11 37 (nI k)).bind fun a12 => ((fR σ10 a12 4 4 2).bind fun a13 => ((fR σ10 b 1 1 4).bind fun a14 => gT σ10 a13 3 3 (((fX3_as N σ10 a13 a14).bind fun r15 => some ((1 : Int32), r15.2))))))))))))))) = z := by
      intro z hz9
      rw [R31]
      simp only [Option.bind_some]
      rw [kp_A hF hk, O3, ← eK]
      simp only [Option.bind_some]
      rw [pR_n (by rw [w2]; decide) (by rw [w2]; decide) hgK]
      simp only [Option.bind_some]
      have hF0 : FX (tR h Kp 0 (kR h b 3)) b := hF.of (Nat.le_refl _) rfl (fun _ _ _ => ⟨rfl, rfl⟩) fun q j q1 q2 hn => kR_ne (fun e => hn (by unfold mR; omega))
      have R31' := fx_R31 hF0 (kI h)
      have O5' := fx_o hF0 (kI h) (k := 5)
      rw [show iS (tR h Kp 0 (kR h b 3)) (kI h) = tR h Kp 0 (kR h b 3) from rfl] at R31' O5'
      rw [R31']
      simp only [Option.bind_some]
      rw [kp_A hF0 hk, O5', ← eK]
      simp only [Option.bind_some]
      rw [pR_n (h := tR h Kp 0 (kR h b 3)) (by show 4 ≤ kT h Kp; rw [w2]; decide) (by show kT h Kp ≤ 4; rw [w2]; decide) hgK, kR_ne (show ¬ (b = Kp ∧ 5 = 0) by omega), ← eh1]
      simp only [Option.bind_some]
      have R31'' := fx_R31 hF1 (kI h1)
      have R4'' := fx_R4 hF1 (kI h1)
      rw [iS_k] at R31'' R4''
      rw [R31'']
      simp only [Option.bind_some]
      rw [kp_A hF1 hk, ← eK]
      simp only [Option.bind_some]
      rw [fR_n (by rw [hT1, w2]; decide) (by rw [hT1, w2]; decide), y3, R4'']
      simp only [Option.bind_some]
      rw [gT_n (by rw [y4.1]; decide) (by rw [y4.1]; decide), e1]
      exact hz9
    have kRo : ∀ q, q ≠ Kp → q ≠ Kp + 1 → kR (tR h1 (Kp + 1) 0 (some a)) q = kR h q := fun q q1 q2 => funext fun j => by rw [kR_ne (by omega), k1o q q1]
    have kRK : kR (tR h1 (Kp + 1) 0 (some a)) Kp = kR h1 Kp := funext fun j => kR_ne (by omega)
    have hF2 : FX (tR h1 (Kp + 1) 0 (some a)) b := hF1.of (Nat.le_refl _) rfl (fun _ _ _ => ⟨rfl, rfl⟩) fun q j q1 q2 hn => kR_ne (fun e => hn (by unfold mR; omega))
    have K : kept b h (iS (tR h1 (Kp + 1) 0 (some a)) g1) (kI h) g1 := ⟨Nat.le_of_eq hZ1.symm, fun q hq => ⟨by rw [kT_iS, kT_tR, hT1], by rw [kN_iS, kN_tR, hN1], kRo q (by obtain ⟨_, h9⟩ := hq; omega) (by obtain ⟨_, h9⟩ := hq; omega), f1 q (by obtain ⟨_, h9⟩ := hq; omega)⟩⟩
    have hg : ∀ q, (q < Kp + 1 ∨ Kp + 2025 ≤ q) → g1 q = kI h q := fun q hq => f1 q (by omega)
    refine ⟨1, iS (tR h1 (Kp + 1) 0 (some a)) g1, sA (jS (aS (sI σ 0 0) 52 (cpA (gA σ 52) (10265 * k) 10265 (gA σ 6))) 53 (cpJ (gJ σ 53) (12 * k) 12 (gJ σ 9))) 54 k 1, comp _ rfl, ?_, LRF.lr (F := F) (a := a) ⟨⟨hF2, ?_, ?_⟩, hC.keep K hG1, hT.of (by rw [kI_iS, hg b (by omega)]) (by rw [kI_iS, hg b (by omega)]) (hg (b + 1) (by omega)) rfl rfl rfl, ⟨?_, hU.of (by rw [kI_iS, hg b (by omega)]) (kRo _ (by omega) (by omega)) (fun q q1 q2 => ⟨hg q (by omega), kRo q (by omega) (by omega)⟩) rfl rfl⟩, fun j hj => ?_, hR.of (by rw [kI_iS, hg b (by omega)]) (by rw [kI_iS, hg b (by omega)]) (by rw [kI_iS, hg b (by omega)]) ⟨hg (b + 2037) (by omega), hg (b + 2038) (by omega), hg (b + 2048) (by omega), hg (b + 2198) (by omega)⟩ ⟨rfl, rfl, rfl, rfl⟩ ⟨rfl, rfl, rfl, rfl⟩, hM⟩⟩
    · rw [mo_i18 hN hk]
      simp only [Option.bind_some]
      rw [mo_i51 hN hk]
      simp only [Option.bind_some]
      rw [wA54 hk]; rfl
    · show b + 18420 ≤ kZ h1 ∧ kT h1 (b + 18419) = 41 ∧ kN h1 (b + 18419) = 1
      rw [hZ1, hT1, hN1]; exact hO
    · show kZ h1 + 8000 * n ≤ kG h1 1 ∧ kW h1 + 100000 * n ≤ kG h1 2
      rw [hZ1, hG1, hW1]; exact hz
    · rw [kR_iS, kR_iS, kRo b (by omega) (by omega)]
      exact hH.keep K (by rw [kR_iS, kRo _ (by omega) (by omega)]) (fun q q1 q2 => hg q (by omega)) fun _ _ => rfl
    · rw [show gA (sA (jS (aS (sI σ 0 0) 52 (cpA (gA σ 52) (10265 * k) 10265 (gA σ 6))) 53 (cpJ (gJ σ 53) (12 * k) 12 (gJ σ 9))) 54 k 1) 52 = cpA (gA σ 52) (10265 * k) 10265 (gA σ 6) from (gA_o (σ := jS (aS (sI σ 0 0) 52 (cpA (gA σ 52) (10265 * k) 10265 (gA σ 6))) 53 (cpJ (gJ σ 53) (12 * k) 12 (gJ σ 9))) (by decide)).trans (gA_same (sI σ 0 0) 52 (cpA (gA σ 52) (10265 * k) 10265 (gA σ 6))), show gJ (sA (jS (aS (sI σ 0 0) 52 (cpA (gA σ 52) (10265 * k) 10265 (gA σ 6))) 53 (cpJ (gJ σ 53) (12 * k) 12 (gJ σ 9))) 54 k 1) 53 = cpJ (gJ σ 53) (12 * k) 12 (gJ σ 9) from gJ_e, gA_sA]
      by_cases ej : j = k
      · subst ej
        rw [if_pos ⟨rfl, rfl⟩]
        refine Or.inr ⟨rfl, F, a, ?_⟩
        rw [← eK, eR, kR_iS, kR_iS, kRK]
        exact hH.mv K k1_0 k1_1 (by rw [kR_iS, kR_tR, if_pos ⟨rfl, rfl⟩]) c1 (fun i hi => by rw [cpA_in (by omega) (by omega)]; congr 1; omega) (fun i hi => by rw [cpJ_in (by omega) (by omega)]; congr 1; omega)
      · rw [if_neg (fun q => ej q.2), kR_iS, kR_iS, kRo (b + 2200 + 2025 * j) (by omega) (by omega)]
        rcases hK j hj with z | ⟨z1, F2, a2, z2⟩
        · exact Or.inl z
        · refine Or.inr ⟨z1, F2, a2, ?_⟩
          have z3 := z2.keep (f' := fun i => cpA (gA σ 52) (10265 * k) 10265 (gA σ 6) (10265 * j + i)) K (by rw [kR_iS, kRo _ (by omega) (by omega)]) (fun q q1 q2 => hg q (by omega)) fun i hi => cpA_out (by omega)
          obtain ⟨t1, t2, t3⟩ := z3
          exact ⟨t1, t2.nm fun i hi => cpJ_out (by omega), t3⟩
theorem op_restore (hN : 200000 ≤ N) : LO_restore N b (LR b) := by
  intro n h σ x hL
  obtain ⟨F0, a0, hf⟩ := hL.less.f
  obtain ⟨⟨hF, hO, hz⟩, hC, hT, ⟨hH, ⟨m, m1, m2, m3, π, p1, p2, p3⟩⟩, hK, hR, hM⟩ := id hf
  unfold fX1_restore fX5_restore
  simp only [lt_]
  rcases isIn_2 x with c | ⟨c, k, hk, rfl⟩
  · rw [if_pos c, if_pos (show fX5_isIn x 0 1 = 0 from c)]
    exact ⟨0, h, _, rfl, rfl, hL.less.thrown 0⟩
  · rw [if_neg (by rw [c]; decide), if_neg (show ¬ fX5_isIn (nI k) 0 1 = 0 by rw [isIn_5, c]; decide), rA54 hk]
    obtain ⟨w1, w2, w3, w4⟩ := hF.2.2.2.2.2.2.2.1 k hk
    have R31 := fx_R31 hF (kI h)
    rw [iS_k] at R31
    rw [R31]
    simp only [Option.bind_some]
    rw [kp_A hF hk]
    simp only [Option.bind_some]
    rw [oR_n (by rw [w2]; decide) (by rw [w2]; decide)]
    simp only [Option.bind_some]
    rw [show gA (sI σ 0 0) 54 k = gA σ 54 k from rfl]
    rcases hK k hk with ⟨z1, z2⟩ | ⟨z1, F, a, hS⟩
    · rw [z1, z2, if_pos rfl]
      exact ⟨0, h, _, rfl, rfl, hL.less.thrown 0⟩
    · rw [z1, if_neg (by decide), hS.1]
      obtain ⟨Kp, eK⟩ : ∃ Kp, Kp = b + 2200 + 2025 * k := ⟨_, rfl⟩
      have eR : b + 2201 + 2025 * k = Kp + 1 := by omega
      rw [← eK] at w2 w3 hS
      rw [eR] at w3 w4 hS
      obtain ⟨h1, eh1⟩ : ∃ h1, h1 = tR (tR h b 3 (some a)) b 5 (kR h Kp 1) := ⟨_, rfl⟩
      have k1o : ∀ q, q ≠ b → kR h1 q = kR h q := fun q hq => funext fun j => by rw [eh1, kR_ne (by omega), kR_ne (by omega)]
      have k1_3 : kR h1 b 3 = some a := by rw [eh1, kR_ne (by omega), kR_tR, if_pos ⟨rfl, rfl⟩]
      have k1_5 : kR h1 b 5 = kR h Kp 1 := by rw [eh1, kR_tR, if_pos ⟨rfl, rfl⟩]
      have hT1 : kT h1 = kT h := by rw [eh1]; rfl
      have hN1 : kN h1 = kN h := by rw [eh1]; rfl
      have hI1 : kI h1 = kI h := by rw [eh1]; rfl
      have hZ1 : kZ h1 = kZ h := by rw [eh1]; rfl
      have hW1 : kW h1 = kW h := by rw [eh1]; rfl
      have hG1 : kG h1 = kG h := by rw [eh1]; rfl
      have hF1 : FX h1 b := hF.of (Nat.le_of_eq hZ1.symm) (by rw [hG1]) (fun _ _ _ => by rw [hT1, hN1]; exact ⟨rfl, rfl⟩) fun q j q1 q2 hn => by
        by_cases e : q = b
        · subst e
          rw [eh1, kR_ne (by unfold mR at hn; omega), kR_ne (by unfold mR at hn; omega)]
        · rw [k1o q e]
      have hnow := hF1.2.2.2.2.2.2.2.2.1
      obtain ⟨y1, y2, y3, y4⟩ := hF1.2.2.2.2.2.2.2.1 k hk
      rw [eR] at y3 y4
      rw [← eK] at y2 y3
      obtain ⟨g1, e1, c1, f1⟩ := co_as (h := h1) (g := kI h) (r := b + 8) (s := Kp + 1) hN hnow y4 (by omega)
      rw [show iS h1 (kI h) = h1 by rw [← hI1]; rfl] at e1
      have ha : kR h1 (Kp + 1) 0 = some a := by rw [k1o _ (by omega)]; exact hS.2.2.2.1
      rw [ha] at e1
      have hF2 : FX (tR h1 (b + 8) 0 (some a)) b := hF1.of (Nat.le_refl _) rfl (fun _ _ _ => ⟨rfl, rfl⟩) fun q j q1 q2 hn => kR_ne (fun e => hn (by unfold mR; omega))
      have kRo : ∀ q, q ≠ b → q ≠ b + 8 → kR (tR h1 (b + 8) 0 (some a)) q = kR h q := fun q q1 q2 => funext fun j => by rw [kR_ne (by omega), k1o q q1]
      have kRb : kR (tR h1 (b + 8) 0 (some a)) b = kR h1 b := funext fun j => kR_ne (by omega)
      have hg : ∀ q, q ≠ b → (q < b + 8 ∨ b + 2032 ≤ q) → u2 g1 b 7 0 q = kI h q := fun q q1 q2 => by rw [u2_nf q1]; exact f1 q (by omega)
      have hb : ∀ j, j ≠ 7 → u2 g1 b 7 0 b j = kI h b j := fun j hj => by rw [u2_ne (Or.inr hj), f1 b (by omega)]
      have K : kept b h (iS (tR h1 (b + 8) 0 (some a)) (u2 g1 b 7 0)) (kI h) (u2 g1 b 7 0) := ⟨Nat.le_of_eq hZ1.symm, fun q hq => ⟨by rw [kT_iS, kT_tR, hT1], by rw [kN_iS, kN_tR, hN1], kRo q (by obtain ⟨_, h9⟩ := hq; omega) (by obtain ⟨_, h9⟩ := hq; omega), hg q (by obtain ⟨_, h9⟩ := hq; omega) (by obtain ⟨_, h9⟩ := hq; omega)⟩⟩
      refine ⟨1, iS (tR h1 (b + 8) 0 (some a)) (u2 g1 b 7 0), sI (jS (aS (sI σ 0 0) 6 (cpA (gA σ 6) 0 10265 (fun j => gA σ 52 (10265 * k + j)))) 9 (cpJ (gJ σ 9) 0 12 (fun j => gJ σ 53 (12 * k + j)))) 23 0, ?_, ?_, LRF.lr (F := F) (a := a) ⟨⟨hF2, ?_, ?_⟩, hC.keep K hG1, hT.of (hb 1 (by decide)) (hb 2 (by decide)) (hg (b + 1) (by omega) (by omega)) rfl rfl rfl, ⟨?_, 0, by decide, u2_eq _ _ _ _, rfl, π, fun j hj => by rw [kR_iS, kRo _ (by omega) (by omega)]; exact p1 j hj, p2, fun j hj => by omega⟩, hK.of K (fun q q1 q2 => ⟨hg q (by omega) (by omega), kRo q (by omega) (by omega)⟩) rfl rfl rfl, hR.of (hb 16 (by decide)) (hb 17 (by decide)) (hb 29 (by decide)) ⟨hg (b + 2037) (by omega) (by omega), hg (b + 2038) (by omega) (by omega), hg (b + 2048) (by omega) (by omega), hg (b + 2198) (by omega) (by omega)⟩ ⟨rfl, rfl, rfl, rfl⟩ ⟨rfl, rfl, rfl, rfl⟩, hM⟩⟩
      · show ((pR h b 1 1 3 (some a)).bind fun σ10 => _) = _
        rw [pR_n (by rw [hF.1]; decide) (by rw [hF.1]; decide) hF.2.1]
        simp only [Option.bind_some]
        have hF0 : FX (tR h b 3 (some a)) b := hF.of (Nat.le_refl _) rfl (fun _ _ _ => ⟨rfl, rfl⟩) fun q j q1 q2 hn => kR_ne (fun e => hn (by unfold mR; omega))
        have R31' := fx_R31 hF0 (kI h)
        rw [show iS (tR h b 3 (some a)) (kI h) = tR h b 3 (some a) from rfl] at R31'
        rw [R31']
        simp only [Option.bind_some]
        rw [kp_A hF0 hk, ← eK]
        simp only [Option.bind_some]
        rw [oR_n (h := tR h b 3 (some a)) (by show 4 ≤ kT h Kp; rw [w2]; decide) (by show kT h Kp ≤ 4; rw [w2]; decide), kR_ne (show ¬ (Kp = b ∧ 1 = 3) by omega)]
        simp only [Option.bind_some]
        rw [pR_n (h := tR h b 3 (some a)) (by show 1 ≤ kT h b; rw [hF.1]; decide) (by show kT h b ≤ 1; rw [hF.1]; decide) hF.2.1, ← eh1]
        simp only [Option.bind_some]
        have R31'' := fx_R31 hF1 (kI h1)
        have R4'' := fx_R4 hF1 (kI h1)
        rw [iS_k] at R31'' R4''
        rw [R4'']
        simp only [Option.bind_some]
        rw [R31'']
        simp only [Option.bind_some]
        rw [kp_A hF1 hk, ← eK]
        simp only [Option.bind_some]
        rw [fR_n (by rw [y2]; decide) (by rw [y2]; decide), y3]
        simp only [Option.bind_some]
        rw [gT_n (by rw [hnow.1]; decide) (by rw [hnow.1]; decide), e1]
        simp only [Option.bind_some, fx_p hF2]
      · rw [mo_r27 hN hk]
        simp only [Option.bind_some]
        rw [mo_r60 hN hk]; rfl
      · show b + 18420 ≤ kZ h1 ∧ kT h1 (b + 18419) = 41 ∧ kN h1 (b + 18419) = 1
        rw [hZ1, hT1, hN1]; exact hO
      · show kZ h1 + 8000 * n ≤ kG h1 1 ∧ kW h1 + 100000 * n ≤ kG h1 2
        rw [hZ1, hG1, hW1]; exact hz
      · rw [kR_iS, kR_iS, kRb, show gA (sI (jS (aS (sI σ 0 0) 6 (cpA (gA σ 6) 0 10265 (fun j => gA σ 52 (10265 * k + j)))) 9 (cpJ (gJ σ 9) 0 12 (fun j => gJ σ 53 (12 * k + j)))) 23 0) 6 = cpA (gA σ 6) 0 10265 (fun j => gA σ 52 (10265 * k + j)) from gA_same (sI σ 0 0) 6 (cpA (gA σ 6) 0 10265 (fun j => gA σ 52 (10265 * k + j))), show gJ (sI (jS (aS (sI σ 0 0) 6 (cpA (gA σ 6) 0 10265 (fun j => gA σ 52 (10265 * k + j)))) 9 (cpJ (gJ σ 9) 0 12 (fun j => gJ σ 53 (12 * k + j)))) 23 0) 9 = cpJ (gJ σ 9) 0 12 (fun j => gJ σ 53 (12 * k + j)) from gJ_e]
        have c2 : cpR (u2 g1 b 7 0) (b + 8) (kI h) (Kp + 1) := ⟨by rw [u2_nf (by omega)]; exact c1.1, fun c t p i hc ht hp hi => by unfold TC; rw [u2_nf (by omega)]; exact c1.2.1 c t p i hc ht hp hi, fun j t k1 k2 ht => by rw [u2_nf (by omega)]; exact c1.2.2.1 j t k1 k2 ht, fun p hp => by rw [u2_nf (by omega)]; exact c1.2.2.2 p hp⟩
        exact hS.mv K (k1_3.trans hS.1.symm) k1_5 (by rw [kR_iS, kR_tR, if_pos ⟨rfl, rfl⟩]) c2 (fun i hi => by rw [cpA_in (by omega) (by omega)]; congr 2) (fun i hi => by rw [cpJ_in (by omega) (by omega)]; congr 2)
end PI2
