/-! sentences: the operation -/
section PUV
variable {h0 h h' h2 : HS} {σ0 σ σ' σ1 σ2 σ3 : MS} {N b rd sz Z W a O t n c : Nat} {F : Nat → Nat}
/-- a sentence is set -/
theorem LRF.sen (hL : LRF b n h σ F a) (e6 : ∀ i, i < 10084 → gA σ' 6 i = gA σ 6 i) (hS : SenR h (kI h) b F (some c) (fun i => gA σ' 6 (10084 + i))) (A : ∀ j, (j = 1 ∨ j = 22 ∨ j = 52 ∨ j = 54 ∨ j = 26 ∨ j = 27 ∨ j = 31 ∨ j = 40) → gA σ' j = gA σ j) (J : gJ σ' = gJ σ) (I : ∀ j, (j = 2 ∨ j = 15 ∨ j = 23 ∨ j = 28 ∨ j = 29 ∨ j = 35 ∨ j = 42) → gI σ' j = gI σ j) : LRF b n (tR h b 5 (some c)) σ' F a := by
  obtain ⟨⟨hF, ⟨o1, o2, o3⟩, hz⟩, hC, hT, ⟨⟨p1, p2, p3, p4, p5, p6⟩, hU⟩, hK, hR, hM⟩ := hL
  have K : kept b h (tR h b 5 (some c)) (kI h) (kI (tR h b 5 (some c))) := ⟨Nat.le_refl _, fun q hq => ⟨rfl, rfl, kR_tRo (by obtain ⟨_, h9⟩ := hq; omega), rfl⟩⟩
  have r5 : kR (tR h b 5 (some c)) b 5 = some c := by rw [kR_tR, if_pos ⟨rfl, rfl⟩]
  have r3 : kR (tR h b 5 (some c)) b 3 = kR h b 3 := by rw [kR_tR, if_neg (by omega)]
  refine ⟨⟨hF.of (Nat.le_refl _) rfl (fun _ _ _ => ⟨rfl, rfl⟩) (fun x k x1 x2 hn => ?_), ⟨o1, o2, o3⟩, hz⟩, hC.keep K rfl, hT.of rfl rfl rfl (I 2 (by omega)) (I 15 (by omega)) (A 1 (by omega)), ⟨⟨by rw [r3]; exact p1, by rw [J]; exact p2.keep K, fun i hi => (e6 i (by omega)).trans (p3 i hi), by rw [kR_tRo (by omega)]; exact p4, p5.of (fun _ _ _ => rfl) (fun i _ hi => e6 i hi), ?_⟩, hU.of rfl (kR_tRo (by omega)) (fun q q1 q2 => ⟨rfl, kR_tRo (by omega)⟩) (I 23 (by omega)) (A 22 (by omega))⟩, hK.of K (fun q q1 q2 => ⟨rfl, kR_tRo (by omega)⟩) (A 54 (by omega)) (A 52 (by omega)) (by rw [J]), hR.of rfl rfl rfl ⟨rfl, rfl, rfl, rfl⟩ ⟨I 28 (by omega), I 29 (by omega), I 35 (by omega), I 42 (by omega)⟩ ⟨A 26 (by omega), A 27 (by omega), A 31 (by omega), A 40 (by omega)⟩, by rw [J]; exact hM⟩
  · rw [kR_tR, if_neg fun z => hn (by unfold mR; omega)]
  · rw [r5]; exact hS.keep K fun _ _ => rfl
/-- the codes are copied -/
theorem mo_146 {C : Nat} (hC : C ≤ 45) (h46 : gI σ 46 = nI C) : ∀ k i f fuel, i + k = 3 * C → k < fuel → ∃ f', lX5_sentence_146 N fuel (aS σ 6 f) (nI i) = some (aS σ 6 f') ∧ (∀ j, j < 10085 + i → f' j = f j) ∧ ∀ j, i ≤ j → j < 3 * C → f' (10085 + j) = gA σ 8 j := by
  have e0 : ∀ f, (3 : Int32) * gI (aS σ 6 f) 46 = nI (3 * C) := fun f => by rw [gI_aS, h46]; exact pl_lm 3 C
  intro k
  induction k with
  | zero =>
    intro i f fuel hi hf
    obtain ⟨m, rfl⟩ : ∃ m, fuel = m + 1 := ⟨fuel - 1, by omega⟩
    refine ⟨f, ?_, fun _ _ => rfl, fun j j1 j2 => by omega⟩
    rw [lX5_sentence_146, e0, if_pos (nI_le (by omega) (by omega))]
  | succ k ih =>
    intro i f fuel hi hf
    obtain ⟨m, rfl⟩ : ∃ m, fuel = m + 1 := ⟨fuel - 1, by omega⟩
    obtain ⟨f', q1, q2, q3⟩ := ih (i + 1) (upd f (10085 + i) (gA σ 8 i)) m (by omega) (by omega)
    refine ⟨f', ?_, fun j hj => ?_, fun j j1 j2 => ?_⟩
    · rw [lX5_sentence_146, e0, if_neg (nI_ge (by omega) (by omega)), rA8 (by omega), Option.bind_some, show (10085 : Int32) + nI i = nI (10085 + i) from pl_la 10085 i, wA6 (by omega), Option.bind_some, sA_aS, gA_same, aS_aS, gA_o (by decide), show nI i + 1 = nI (i + 1) from nI_add i 1]
      exact q1
    · rw [q2 j (by omega), pk_un (by omega)]
    · by_cases e : j = i
      · rw [e, q2 (10085 + i) (by omega), pk_us]
      · exact q3 j (by omega) j2
theorem sn_a {x y Z : Nat} (h : x + 8000 * (n + 1) ≤ y) (e : Z = x + 7800) : Z + 60 ≤ y ∧ Z + 41 + 1 ≤ x + 8000 := by omega
theorem sn_b {x y W : Nat} (h : x + 100000 * (n + 1) ≤ y) (e : W = x + 70000) : W + 500 ≤ y ∧ W + 328 + 8 ≤ x + 100000 := by omega
theorem op_sentence (hN : 200000 ≤ N) : LO_sentence N b (LR b) := by
  intro n h σ hL
  obtain ⟨F, a, hL⟩ := hL.f
  obtain ⟨m, g, m1, eg, tk, pt, L0, m3, m4, m5, tp⟩ := take_both (N := N) hL 200 (by decide)
  obtain ⟨σ1, es1⟩ : ∃ σ1, σ1 = sI (fX5_taken (sI σ 0 0) (nI 200)) 15 0 := ⟨_, rfl⟩
  rw [← es1] at L0 m3 m4 m5
  obtain ⟨⟨hF, ⟨hO1, hO2, hO3⟩, hz1, hz2⟩, hC, hLt, ⟨⟨h3, hH, -⟩, -⟩, -, -, hJ⟩ := id L0
  have hF : FX h b := hF
  have h3 : kR h b 3 = some a := h3
  obtain ⟨hS, eS⟩ : ∃ hS, hS = iS h g := ⟨_, rfl⟩
  rw [← eS] at L0 pt
  have zS : kZ hS = kZ h := by rw [eS]; rfl
  have wS : kW hS = kW h := by rw [eS]; rfl
  have GS : kG hS = kG h := by rw [eS]; rfl
  have hFS : FX hS b := by rw [eS]; exact hF
  have hz1 : kZ hS + 8000 * (n + 1) ≤ kG hS 1 := by rw [zS, GS]; exact hz1
  have hz2 : kW hS + 100000 * (n + 1) ≤ kG hS 2 := by rw [wS, GS]; exact hz2
  have hg0 : kG hS 0 ≤ kZ hS := by have := hFS.2.1; have := hFS.2.2.1; omega
  have hO1 : b + 18420 ≤ kZ hS := by rw [zS]; exact hO1
  -- the reader
  obtain ⟨hB1, i1, i2, i3, i4, i5, i6, i7, i8, i9, i10⟩ := rd_init (N := N) (h := hS) (t := 7) (sl := 12) (x1 := b + 1) (v := nI m) (lim := 200) (by decide) (by decide) hg0
  obtain ⟨rd, erd⟩ : ∃ rd, rd = kZ hS := ⟨_, rfl⟩
  rw [← erd] at i1 i5 i6 i7 i8 i10
  obtain ⟨hB, eB⟩ : ∃ hB, hB = tR hB1 rd 9 (some a) := ⟨_, rfl⟩
  have iB : fX13_init N (tA hS 7 0 12) rd (b + 1) (nI m) a = some hB := by
    unfold fX13_init
    rw [i1]
    simp only [Option.bind_some]
    rw [pR_n (h := hB1) (Nat.le_of_eq i5.symm) (Nat.le_of_eq i5) (by rw [i9, erd]; exact hg0), eB]; rfl
  have KB : ond (fun _ => False) hS hB := by
    rw [eB]
    exact i2.tr ond.tR fun q hq z => by omega
  have TB : kT hB rd = 7 := by rw [eB]; exact i5
  have IB : ∀ k, kI hB rd k = if k = 2 then 200 else if k = 1 then nI m else 0 := fun k => by
    rw [eB, kI_tR, i6]
    by_cases c2 : k = 2
    · rw [c2, pk_us]; rfl
    · rw [pk_un c2, if_neg c2]
      by_cases c1 : k = 1
      · rw [c1, pk_us]; rfl
      · rw [pk_un c1, if_neg c1]
  have RB0' : kR hB rd 0 = some (b + 1) := by rw [eB, kR_tR, if_neg (by omega)]; exact i7
  have RB9 : kR hB rd 9 = some a := by rw [eB, kR_tR, if_pos ⟨rfl, rfl⟩]
  have zB : kZ hB = kZ hS + 1 := by rw [eB]; exact i3
  have wB : kW hB = kW hS + 12 := by rw [eB]; exact i4
  have GB : kG hB = kG hS := KB.2.1
  obtain ⟨tt, tn⟩ := hFS.2.2.2.2.1 1 32 940 rfl
  have b1z : b + 1 < kZ hS := by omega
  obtain ⟨y1, y2, y3, y4⟩ := KB.2.2 (b + 1) b1z id
  obtain ⟨σ2, es2⟩ : ∃ σ2, σ2 = sI (sI (sI (sI (sI σ1 46 0) 47 0) 48 0) 49 1) 50 0 := ⟨_, rfl⟩
  have L2 : LRF b (n + 1) hS σ2 F a := by
    rw [es2]
    obtain ⟨-, -, hLt, -, -, hR, -⟩ := id L0
    exact L0.chg (g' := kI hS) (σ' := sI (sI (sI (sI (sI σ1 46 0) 47 0) 48 0) 49 1) 50 0) (fun _ _ _ => rfl) rfl (hLt.of rfl rfl rfl rfl rfl rfl) (hR.of rfl rfl rfl ⟨rfl, rfl, rfl, rfl⟩ ⟨rfl, rfl, rfl, rfl⟩ ⟨rfl, rfl, rfl, rfl⟩) rfl rfl rfl rfl rfl rfl rfl rfl
  have hCS : CS hS (kI hS) b := L0.2.1
  have hHS : HouR hS (kI hS) b a F (gJ σ2 9) := by rw [es2]; exact L0.nw.ho
  have hM2 : ∀ i, i < 429 → gA σ2 6 i = nI (F i) := L2.2.2.2.1.1.2.2.1
  obtain ⟨Z, eZ⟩ : ∃ Zm, Zm = kZ hS + 7800 := ⟨_, rfl⟩
  obtain ⟨W, eWm⟩ : ∃ Wm, Wm = kW hS + 70000 := ⟨_, rfl⟩
  have n200 : (200 : Int32) = nI 200 := by decide
  have I1 : kI hB rd 1 = nI m := by rw [IB]; rfl
  have I2 : kI hB rd 2 = nI 200 := by rw [IB, if_pos rfl]; exact n200
  have I3 : kI hB rd 3 = nI 0 := by rw [IB]; rfl
  have R : PR0 hS b rd m 200 Z W 0 hB σ2 := by
    refine ⟨⟨⟨by rw [TB]; decide, by rw [TB]; decide, by rw [GB, erd]; exact hg0, by rw [erd]; exact hO1, by rw [erd, zB]; omega⟩, ⟨RB0', by rw [y1]; exact tt, by rw [y2]; exact tn, fun i hi => ?_⟩, ⟨Nat.zero_le _, m1, by decide⟩, ⟨I1, I2, I3⟩, by rw [es2]; exact m3, by rw [es2]; exact m5, by rw [es2]; exact m4⟩, ⟨KB.grow, by rw [erd]; exact Nat.le_refl _, hO1, hCS⟩, fun k hk => by rw [es2]; exact hJ k hk, ⟨by rw [GB, zB]; omega, by rw [GB]; omega, by rw [GB]; omega⟩, by rw [zB]; omega, by rw [wB]; omega⟩
    rw [y3, es2, es1, eS]
    exact tp i hi
  obtain ⟨hG, σG, PG, g1, g2, RG, g4, g5, g6⟩ := go_both (N := N) hN R
  have TG : kT hG rd = 7 := g6.2.1.trans TB
  have S2 : SM σ2 [] [] 0 false σ2 := by
    refine ⟨⟨?_, ?_, ?_, ?_, ?_⟩, ⟨fun j hj => absurd hj (Nat.not_lt_zero _), fun x hx => by cases hx⟩, fun j hj => absurd hj (Nat.not_lt_zero _), fun _ _ _ => rfl, rfl, fun _ _ _ _ _ => rfl⟩ <;> rw [es2] <;> rfl
  have XG : SX hS b rd m Z W a σ2 0 0 [] [] false hG σG := by
    refine ⟨⟨PG, RG⟩, ⟨TG, (g6.2.2.1 9 (by decide)).trans RB9, ?_⟩, sm_mk S2 g6.m, ?_, by decide, Nat.le_refl _, Nat.le_refl _⟩
    · rw [g6.2.2.2.1 10 (by decide), IB]; rfl
    · rw [g6.2.2.2.2.2.2 15 (by decide) (by decide) (by decide) (by decide) (by decide), es2, es1]; rfl
  have w11 : kI hG rd 11 = 0 := by rw [g6.2.2.2.1 11 (by decide), IB]; rfl
  -- both sides unfolded
  have nO' : nO hS 7 12 = some (rd, tA hS 7 0 12) := by unfold nO; rw [if_pos ⟨by omega, by omega⟩, erd]
  have bne : b ≠ kZ hS := by omega
  have fA0 : fR (tA hS 7 0 12) b 1 1 0 = some (b + 1) := by
    rw [fR_n (by rw [kT_tA, if_neg bne]; exact Nat.le_of_eq hFS.1.symm) (by rw [kT_tA, if_neg bne]; exact Nat.le_of_eq hFS.1), kR_tA, if_neg bne]
    exact hFS.2.2.2.1 0 1 rfl
  have fA3 : fR (tA hS 7 0 12) b 1 1 3 = some a := by
    rw [fR_n (by rw [kT_tA, if_neg bne]; exact Nat.le_of_eq hFS.1.symm) (by rw [kT_tA, if_neg bne]; exact Nat.le_of_eq hFS.1), kR_tA, if_neg bne, eS]
    exact h3
  obtain ⟨X, hX⟩ : ∃ X, fX1_sentence N (rOne N 12) h b = X := ⟨_, rfl⟩
  have e0 := hX
  unfold fX1_sentence at e0
  rw [show ∀ {α : Type} (x : Option α), gT h b 1 1 x = x from fun x => fx_g hF (kI h), tk] at e0
  simp only [Option.bind_some, pt, nO', fA0, fA3, iB] at e0
  rw [gT_n (Nat.le_of_eq TB.symm) (Nat.le_of_eq TB)] at e0
  unfold fX13_read at e0
  rw [gT_n (Nat.le_of_eq TB.symm) (Nat.le_of_eq TB), g1, Option.bind_some, gT_n (Nat.le_of_eq TG.symm) (Nat.le_of_eq TG)] at e0
  have eM : fX5_sentence N σ = (osm (lX5_sentence_48 N N σG 1) id fun q23 => ((wA q23 6 10084 (gI q23 46)).bind fun σ24 => ((lX5_sentence_146 N N σ24 0).bind fun q28 => some ((gI q28 47), q28)))) := by
    unfold fX5_sentence
    simp only [lt_]
    rw [show sI (sI (sI (sI (sI (sI (fX5_taken (sI σ 0 0) 200) 15 0) 46 0) 47 0) 48 0) 49 1) 50 0 = σ2 from by rw [es2, es1]; rfl, g2, Option.bind_some]
  have fane : ∀ (x : HS) (fa : Nat) (s : MS), FLT hS (Z + 41) (W + 328) x fa s → fa ≠ b := fun x fa s q e => by
    have k1 := q.1
    have k2 := (q.2.2.2.1.2.2 b (by omega)).1
    rw [e, k2] at k1
    have := hFS.1
    omega
  obtain ⟨mm1, mm3⟩ := sn_a hz1 eZ
  obtain ⟨mm2, mm4⟩ := sn_b hz2 eWm
  rcases rd_top (N := N) hN ⟨hHS, hM2⟩ mm1 mm2 XG w11 with ⟨fa, h', σ', q1, q2, q3, q4⟩ | ⟨c, h', σ', L, O', P, q1, q2, q3, q4, q5, q6, q7, q8, q9, q10⟩
  · -- a fault
    obtain ⟨h2, f1, f2⟩ := flt_end (σ' := σ') L2.lr q3 mm3 mm4 (fun j hj => q4.1 j (by omega) (by omega)) ⟨by rw [q4.2.1], by rw [q4.2.1], by rw [q4.2.1]⟩ (fun j hj => q4.2.2 j (by omega) (by omega) (by omega) (by omega)) (fane _ _ _ q3)
    refine ⟨-1 - gI σ' 16, h2, σ', ?_, ?_, f2⟩
    · rw [hX, ← e0, q1]
      simp only [Option.bind_some, thr]
      exact f1 (-1)
    · rw [eM, q2]; rfl
  · -- a sentence
    have gr' := q4.1.2.1.1
    have zz := q4.1.2.2.2.2
    obtain ⟨⟨-, -, qz1, qz2⟩, -⟩ := id L2
    have L3 : LR b n h' σ2 := L2.lr.less.grow gr' (by omega) (by omega)
    have HA : HouR h' (kI h') b a F (gJ σ2 9) := hHS.keep gr'.kept
    obtain ⟨⟨s46, s47, -⟩, -, sC, sA', sJ, sI'⟩ := id q3
    obtain ⟨f', c1, c2, c3⟩ := mo_146 (N := N) (σ := σ') (C := L.length) (by omega) s46 (3 * L.length) 0 (upd (gA σ' 6) 10084 (nI L.length)) N (by omega) (by omega)
    have L4 : LRF b n h' σ2 F a := by
      obtain ⟨r1, r2, r3, r4, r5⟩ := L3
      obtain ⟨F2, a2, hH2, hU2⟩ := r4
      have l0 := L2.2.2.2.1
      refine ⟨r1, r2, r3, ⟨?_, ?_⟩, r5⟩
      · have e8 := gr'.2.2 (b + 8) (by omega)
        rw [(gr'.2.2 b (by omega)).2.2.2]
        exact l0.1.keep gr'.kept (by rw [e8.2.2.2]) (fun q z1 z2 => (gr'.2.2 q (by omega)).2.2.1) fun _ _ => rfl
      · exact l0.2.of (by rw [(gr'.2.2 b (by omega)).2.2.1]) (gr'.2.2 _ (by omega)).2.2.2 (fun q z1 z2 => ⟨(gr'.2.2 q (by omega)).2.2.1, (gr'.2.2 q (by omega)).2.2.2⟩) rfl rfl
    have hF' : FX h' b := L4.1.1
    have sen : SenR h' (kI h') b F (some c) (fun i => f' (10084 + i)) := by
      refine Or.inr ⟨c, L, rfl, q6.pos, by omega, q6.up _ _ _ _ (by omega), ?_, fun i hi => ?_⟩
      · show f' (10084 + 0) = _
        rw [c2 (10084 + 0) (by omega)]
        exact pk_us
      · have s1 := sC i hi
        show f' (10084 + (1 + 3 * i)) = _ ∧ f' (10084 + (1 + 3 * i + 1)) = _ ∧ f' (10084 + (1 + 3 * i + 2)) = _
        rw [show 10084 + (1 + 3 * i) = 10085 + 3 * i by omega, show 10084 + (1 + 3 * i + 1) = 10085 + (3 * i + 1) by omega, show 10084 + (1 + 3 * i + 2) = 10085 + (3 * i + 2) by omega, c3 _ (by omega) (by omega), c3 _ (by omega) (by omega), c3 _ (by omega) (by omega)]
        exact s1
    refine ⟨nI O', tR h' b 5 (some c), aS σ' 6 f', ?_, ?_, ?_⟩
    · rw [hX, ← e0, q1]
      simp only [Option.bind_some, thr]
      rw [pR_n (h := h') (Nat.le_of_eq hF'.1.symm) (Nat.le_of_eq hF'.1) hF'.2.1, Option.bind_some, oI_n (h := tR h' b 5 (some c)) (Nat.le_of_eq q9.symm) (Nat.le_of_eq q9), kI_tR, q8]; rfl
    · rw [eM, q2]
      show ((wA σ' 6 (nI 10084) (gI σ' 46)).bind fun σ24 => ((lX5_sentence_146 N N σ24 0).bind fun q28 => some ((gI q28 47), q28))) = _
      rw [wA6 (by decide), Option.bind_some, sA_aS, s46, show lX5_sentence_146 N N (aS σ' 6 (upd (gA σ' 6) 10084 (nI L.length))) 0 = _ from c1, Option.bind_some, gI_aS, s47]
    · refine LRF.lr (F := F) (a := a) (L4.sen (fun i hi => ?_) ?_ (fun j hj => ?_) sJ fun j hj => ?_)
      · rw [gA_same, c2 i (by omega), pk_un (by omega), sA' 6 (by decide) (by decide)]
      · rw [gA_same]; exact sen
      · rw [gA_o (by omega)]; exact sA' j (by omega) (by omega)
      · rw [gI_aS]
        by_cases e15 : j = 15
        · rw [e15, q5, es2, es1]; rfl
        · exact sI' j (by omega) (by omega) (by omega) (by omega)
end PUV
