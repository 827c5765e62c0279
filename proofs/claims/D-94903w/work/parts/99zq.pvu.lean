/-! houses: the operation, whole -/
section PVU
variable {h0 h h' h2 : HS} {σ0 σ σ' : MS} {N b rd sz Z W a n : Nat} {F F' : Nat → Nat}
theorem hs_a {x y Z : Nat} (h : x + 8000 * (n + 1) ≤ y) (e : Z = x + 7700) : Z + 80 ≤ y ∧ Z + 60 + 1 ≤ x + 8000 ∧ Z + 10 ≤ y := by omega
theorem hs_b {x y W : Nat} (h : x + 100000 * (n + 1) ≤ y) (e : W = x + 70000) : W + 4000 ≤ y ∧ W + 3600 + 8 ≤ x + 100000 ∧ W + 100 ≤ y := by omega
theorem hs_c {x y x' y' : Nat} (h : x + 8000 * (n + 1) ≤ y) (h' : x' + 100000 * (n + 1) ≤ y') : x + 7 ≤ y ∧ x' + 21 + 297 ≤ y' ∧ x' + 11 ≤ y' ∧ x' + 11 + 10 ≤ y' ∧ x + 1 ≤ y := by omega
theorem hs_d {x y W w p t : Nat} (h : x + 100000 * (n + 1) ≤ y) (e : W = x + 70000) (hp : w + 64 * p ≤ W + 60 * t) (ht : t ≤ 52) : w + 100000 * n ≤ y := by omega
theorem hs_e {x Z k p t y : Nat} (h : x + 8000 * (n + 1) ≤ y) (e : Z = x + 7700) (hp : k + 8 * p ≤ Z + t) (ht : t ≤ 52) : k + 8000 * n ≤ y := by omega
theorem op_house (hN : 200000 ≤ N) : LO_house N b (LR b) := by
  intro n h σ hL
  obtain ⟨F, a, hL⟩ := hL.f
  obtain ⟨m, g, m1, eg, tk, pt, L0, m3, m4, m5, tp⟩ := take_both (N := N) hL 900 (by decide)
  obtain ⟨σ1, es1⟩ : ∃ σ1, σ1 = sI (fX5_taken (sI σ 0 0) (nI 900)) 15 0 := ⟨_, rfl⟩
  rw [← es1] at L0 m3 m4 m5
  obtain ⟨⟨hF, ⟨hO1, hO2, hO3⟩, hz1, hz2⟩, hC, hLt, ⟨⟨h3, hH, -⟩, -⟩, -, -, hJ⟩ := id L0
  have hF : FX h b := hF
  obtain ⟨hS, eS⟩ : ∃ hS, hS = iS h g := ⟨_, rfl⟩
  rw [← eS] at L0 pt
  have zS : kZ hS = kZ h := by rw [eS]; rfl
  have wS : kW hS = kW h := by rw [eS]; rfl
  have GS : kG hS = kG h := by rw [eS]; rfl
  have hFS : FX hS b := by rw [eS]; exact hF
  have hz1 : kZ hS + 8000 * (n + 1) ≤ kG hS 1 := by rw [zS, GS]; exact hz1
  have hz2 : kW hS + 100000 * (n + 1) ≤ kG hS 2 := by rw [wS, GS]; exact hz2
  obtain ⟨rr1, rr2, rr3, rr4, rr5⟩ := hs_c hz1 hz2
  have hg0 : kG hS 0 ≤ kZ hS := by have := hFS.2.1; have := hFS.2.2.1; omega
  have hO1 : b + 18420 ≤ kZ hS := by rw [zS]; exact hO1
  -- the reader, and its house
  obtain ⟨hB1, i1, i2, i3, i4, i5, i6, i7, i8, i9, i10⟩ := rd_init (N := N) (h := hS) (t := 5) (sl := 11) (x1 := b + 1) (v := nI m) (lim := 900) (by decide) (by decide) hg0
  obtain ⟨rd, erd⟩ : ∃ rd, rd = kZ hS := ⟨_, rfl⟩
  rw [← erd] at i1 i3 i5 i6 i7 i8 i10
  have rdb : b + 18420 ≤ rd := by rw [erd]; exact hO1
  obtain ⟨hB2, eB2⟩ : ∃ x, x = tA hB1 2 0 10 := ⟨_, rfl⟩
  have z2 : kZ hB2 = rd + 2 := by rw [eB2]; show kZ hB1 + 1 = _; rw [i3]
  have G2 : kG hB2 = kG hS := by rw [eB2]; exact i9
  have w2 : kW hB2 = kW hS + 21 := by rw [eB2]; show kW hB1 + 10 = _; rw [i4]
  have T2 : kT hB2 (rd + 1) = 2 := by rw [eB2, kT_tA, if_pos i3.symm]
  obtain ⟨hB3, c1, c2, c3, c4, c5, c6, c7, c8, c9⟩ := hou_i (N := N) (h := hB2) (a := rd + 1) T2 (by rw [G2]; omega) (by rw [z2]) (fun j => by rw [eB2, kI_tA, if_pos i3.symm]) (by rw [z2, G2, erd]; exact rr1) (by rw [w2, G2]; exact rr2)
  obtain ⟨hB, eB⟩ : ∃ hB, hB = tR hB3 rd 9 (some (rd + 1)) := ⟨_, rfl⟩
  have y1 := c2.2.2 rd (by omega) (show ¬ rd = rd + 1 by omega)
  have T2r : kT hB2 rd = 5 := by rw [eB2, kT_tA, if_neg (by omega)]; exact i5
  have T3r : kT hB3 rd = 5 := y1.1.trans T2r
  have G3 : kG hB3 = kG hS := c2.2.1.trans G2
  have nO2 : nO hB1 2 10 = some (rd + 1, hB2) := by unfold nO; rw [if_pos ⟨by rw [i3, i9]; omega, by rw [i4, i9]; exact rr4⟩, i3, eB2]
  have iB : fX7_init N (tA hS 5 0 11) rd (b + 1) (nI m) = some hB := by
    unfold fX7_init
    rw [i1, Option.bind_some, nO2, Option.bind_some]
    simp only []
    rw [c1, Option.bind_some, pR_n (h := hB3) (Nat.le_of_eq T3r.symm) (Nat.le_of_eq T3r) (by rw [G3, erd]; exact hg0), Option.bind_some, eB]
  have K2 : ond (fun _ => False) hS hB2 := by rw [eB2]; exact i2.tr ond.tA fun _ _ z => z
  have K3 : ond (fun _ => False) hS hB3 := K2.tr c2 fun q hq z => by have z : q = rd + 1 := z; omega
  have KB : ond (fun _ => False) hS hB := by rw [eB]; exact K3.tr ond.tR fun q hq z => by omega
  have TB : kT hB rd = 5 := by rw [eB]; exact T3r
  have IB : ∀ k, kI hB rd k = if k = 2 then 900 else if k = 1 then nI m else 0 := fun k => by
    rw [eB]
    show kI hB3 rd k = _
    rw [y1.2.2.1, eB2, kI_tAo (by omega), i6]
    by_cases c2 : k = 2
    · rw [c2, pk_us]; rfl
    · rw [pk_un c2, if_neg c2]
      by_cases c1 : k = 1
      · rw [c1, pk_us]; rfl
      · rw [pk_un c1, if_neg c1]
  have RB0' : kR hB rd 0 = some (b + 1) := by rw [eB, kR_tR, if_neg (by omega), y1.2.2.2, eB2, kR_tAo (by omega)]; exact i7
  have RB9 : kR hB rd 9 = some (rd + 1) := by rw [eB, kR_tR, if_pos ⟨rfl, rfl⟩]
  have zB : kZ hB = kZ hS + 7 := by rw [eB]; show kZ hB3 = _; rw [c3, ← erd]
  have wB : kW hB = kW hS + 318 := by rw [eB]; show kW hB3 = _; rw [c4, w2]
  have GB : kG hB = kG hS := KB.2.1
  obtain ⟨tt, tn⟩ := hFS.2.2.2.2.1 1 32 940 rfl
  have b1z : b + 1 < kZ hS := by omega
  obtain ⟨y1', y2, y3, y4⟩ := KB.2.2 (b + 1) b1z id
  -- the Model ahead of its lines
  obtain ⟨σ1', es1'⟩ : ∃ s, s = sI (sI (sI σ1 19 0) 20 0) 21 0 := ⟨_, rfl⟩
  obtain ⟨A, eA⟩ : ∃ A, A = upd (cpA (gA σ1' 7) 0 429 fun _ => 0) 6 9 := ⟨_, rfl⟩
  obtain ⟨σ2, es2⟩ : ∃ s, s = aS σ1' 7 A := ⟨_, rfl⟩
  have hA2 : ∀ i, i < 429 → gA σ2 7 i = nI (F0n i) := fun i hi => by
    rw [es2, gA_same, eA]
    unfold F0n
    by_cases c : i = 6
    · rw [c, pk_us, if_pos rfl]; rfl
    · rw [pk_un c, if_neg c, cpA_in (by omega) (by omega)]; rfl
  have gi2 : ∀ k, k ≠ 19 → k ≠ 20 → k ≠ 21 → gI σ2 k = gI σ1 k := fun k k1 k2 k3 => by rw [es2, gI_aS, es1', gI_sI, if_neg k3, gI_sI, if_neg k2, gI_sI, if_neg k1]
  have ga2 : ∀ j, j ≠ 7 → gA σ2 j = gA σ1 j := fun j hj => by rw [es2, gA_o hj, es1']; rfl
  have gj2 : gJ σ2 = gJ σ1 := by rw [es2, es1']; rfl
  have L2 : LRF b (n + 1) hS σ2 F a := by
    obtain ⟨-, -, hLt, -, -, hR, -⟩ := id L0
    exact L0.chg (g' := kI hS) (σ' := σ2) (fun _ _ _ => rfl) rfl (hLt.of rfl rfl rfl (gi2 2 (by decide) (by decide) (by decide)) (gi2 15 (by decide) (by decide) (by decide)) (ga2 1 (by decide))) (hR.of rfl rfl rfl ⟨rfl, rfl, rfl, rfl⟩ ⟨gi2 28 (by decide) (by decide) (by decide), gi2 29 (by decide) (by decide) (by decide), gi2 35 (by decide) (by decide) (by decide), gi2 42 (by decide) (by decide) (by decide)⟩ ⟨ga2 26 (by decide), ga2 27 (by decide), ga2 31 (by decide), ga2 40 (by decide)⟩) (ga2 6 (by decide)) (by rw [gj2]) (by rw [gj2]) (by rw [gj2]) (ga2 22 (by decide)) (ga2 52 (by decide)) (ga2 54 (by decide)) (gi2 23 (by decide) (by decide) (by decide))
  have hCS : CS hS (kI hS) b := L0.2.1
  obtain ⟨Z, eZ⟩ : ∃ Zm, Zm = kZ hS + 7700 := ⟨_, rfl⟩
  obtain ⟨W, eWm⟩ : ∃ Wm, Wm = kW hS + 70000 := ⟨_, rfl⟩
  obtain ⟨mm1, mm3, mm5⟩ := hs_a hz1 eZ
  obtain ⟨mm2, mm4, mm6⟩ := hs_b hz2 eWm
  have n900 : (900 : Int32) = nI 900 := by decide
  have I1 : kI hB rd 1 = nI m := by rw [IB]; rfl
  have I2 : kI hB rd 2 = nI 900 := by rw [IB, if_pos rfl]; exact n900
  have I3 : kI hB rd 3 = nI 0 := by rw [IB]; rfl
  have R : PR0 hS b rd m 900 Z W 0 hB σ2 := by
    refine ⟨⟨⟨by rw [TB]; decide, by rw [TB]; decide, by rw [GB, erd]; exact hg0, by rw [erd]; exact hO1, by rw [erd, zB]; omega⟩, ⟨RB0', by rw [y1']; exact tt, by rw [y2]; exact tn, fun i hi => ?_⟩, ⟨Nat.zero_le _, m1, by decide⟩, ⟨I1, I2, I3⟩, by rw [gi2 3 (by decide) (by decide) (by decide)]; exact m3, by rw [gi2 5 (by decide) (by decide) (by decide)]; exact m5, by rw [gi2 4 (by decide) (by decide) (by decide)]; exact m4⟩, ⟨KB.grow, by rw [erd]; exact Nat.le_refl _, hO1, hCS⟩, fun k hk => by rw [gj2]; exact hJ k hk, ⟨by rw [GB, zB]; omega, by rw [GB]; exact mm5, by rw [GB]; exact mm6⟩, by rw [zB]; omega, by rw [wB]; omega⟩
    rw [y3, ga2 1 (by decide), es1, eS]
    exact tp i hi
  obtain ⟨hG, σG, PG, g1, g2, RG, g4, g5, g6⟩ := go_both (N := N) hN R
  -- the new house
  obtain ⟨⟨s2, s3, s4⟩, -⟩ := hCS.2.2
  have x12 := KB.2.2 _ s2.1 id
  have Ga : kG hB 12 = kG hS 12 := by rw [GB]
  have oB : ond (fun q => q = rd) hB3 hB := by rw [eB]; exact ond.tR
  have ib : ∀ x, x ≠ rd → kT hB x = kT hB3 x ∧ kN hB x = kN hB3 x ∧ kI hB x = kI hB3 x ∧ kR hB x = kR hB3 x := fun x hx => by rw [eB]; exact ⟨rfl, rfl, rfl, kR_tRo hx⟩
  have H0 : HouR hB (kI hB) b (rd + 1) F0n (fun i => gJ σ2 9 (12 + i)) := by
    refine hou_0 ?_ ?_ ?_ ?_ ?_ ?_ ?_ ?_ ?_
    · rw [(ib (rd + 1) (by omega)).1]; exact c5
    · intro j; rw [(ib (rd + 1) (by omega)).2.2.1]; exact c6 j
    · intro j j1 j2; rw [(ib (rd + 1) (by omega)).2.2.2]; exact c7 j j1 j2
    · intro j j1 j2
      obtain ⟨q1, q2, q3, q4⟩ := ib (rd + 1 + j) (by omega)
      rw [q1, q3, q4, Ga, ← G2]; exact c8 j j1 j2
    · intro j hj
      obtain ⟨q1, q2, q3, q4⟩ := ib (rd + 1 + j) (by omega)
      rw [q1, q2, q3]; exact c9 j hj
    · intro j hj; exact ⟨by omega, Or.inr (Or.inl (Nat.le_trans rdb (Nat.le_trans (Nat.le_add_right rd 1) (Nat.le_add_right _ _))))⟩
    · rw [Ga]; exact s2.up KB.1
    · rw [Ga, x12.1]; exact s3
    · rw [Ga, x12.2.1]; exact s4
  have rfB : ∀ k, 5 ≤ k → k ≤ 9 → rf hB (rd + 1) k = rd + k - 3 := fun k k1 k2 => by
    unfold rf
    rw [(ib (rd + 1) (by omega)).2.2.2, c7 k k1 k2]
    show rd + 1 + k - 4 = _
    omega
  have HB0 : HBc b rd hB F0n (fun i => gJ σ2 9 (12 + i)) := by
    refine ⟨H0, rfB, fun j j1 j2 => Or.inl ⟨?_, ?_⟩, fun j k j1 j2 k1 k2 _ z _ => ?_, by rw [Ga]; have := s2.1; omega, TB, RB9⟩
    · rcases (show j = 2 ∨ j = 3 ∨ j = 4 by omega) with rfl | rfl | rfl <;> rfl
    · unfold rf
      have := (c8 (j - 1) (by omega) (by omega)).2.1
      rw [show rd + 1 + (j - 1) = rd + j by omega] at this
      rw [(ib (rd + j) (by omega)).2.2.2, this, Ga, ← G2]; rfl
    · rcases (show j = 2 ∨ j = 3 ∨ j = 4 by omega) with rfl | rfl | rfl <;> exact absurd z (by decide)
  have M2 : HMe σ2 σ2 := ⟨fun _ _ => rfl, fun _ _ => rfl, fun _ _ => rfl, fun _ _ _ _ _ _ _ => rfl⟩
  have XG : HBS hS b rd m Z W σ2 F0n PG hG σG := by
    refine ⟨RG, ?_, ?_, M2.mk g6.m, ?_, ?_, 0, 0, ⟨by decide, by decide⟩, ?_, ?_, ?_, fun _ => rfl⟩
    · rw [show (fun i => gJ σG 9 (12 + i)) = fun i => gJ σ2 9 (12 + i) from by rw [g6.2.2.2.2.2.1]]
      exact HB0.ck g6.c
    · rw [g6.2.2.2.2.1]; exact hA2
    · rw [g6.2.2.2.2.2.2 15 (by decide) (by decide) (by decide) (by decide) (by decide), gi2 15 (by decide) (by decide) (by decide), es1]; rfl
    · rw [HB0.i3 g6.c.r, (ib (rd + 1) (by omega)).2.2.1, c6, g6.2.2.2.2.2.2 19 (by decide) (by decide) (by decide) (by decide) (by decide), es2, gI_aS, es1']; rfl
    · rw [g6.2.2.2.1 10 (by decide), IB]; rfl
    · rw [g6.2.2.2.2.2.2 20 (by decide) (by decide) (by decide) (by decide) (by decide), es2, gI_aS, es1']; rfl
    · rw [g6.2.2.2.2.2.2 21 (by decide) (by decide) (by decide) (by decide) (by decide), es2, gI_aS, es1']; rfl
  have TG : kT hG rd = 5 := g6.2.1.trans TB
  -- both sides unfolded
  have nO' : nO hS 5 11 = some (rd, tA hS 5 0 11) := by unfold nO; rw [if_pos ⟨rr5, rr3⟩, erd]
  have bne : b ≠ kZ hS := by omega
  have fA0 : fR (tA hS 5 0 11) b 1 1 0 = some (b + 1) := by
    rw [fR_n (by rw [kT_tA, if_neg bne]; exact Nat.le_of_eq hFS.1.symm) (by rw [kT_tA, if_neg bne]; exact Nat.le_of_eq hFS.1), kR_tA, if_neg bne]
    exact hFS.2.2.2.1 0 1 rfl
  obtain ⟨X, hX⟩ : ∃ X, fX1_house N h b = X := ⟨_, rfl⟩
  have e0 := hX
  unfold fX1_house at e0
  rw [show ∀ {α : Type} (x : Option α), gT h b 1 1 x = x from fun x => fx_g hF (kI h), tk] at e0
  simp only [Option.bind_some, pt, nO', fA0, iB] at e0
  rw [gT_n (Nat.le_of_eq TB.symm) (Nat.le_of_eq TB)] at e0
  unfold fX7_read at e0
  rw [gT_n (Nat.le_of_eq TB.symm) (Nat.le_of_eq TB), g1, Option.bind_some] at e0
  have eM : fX5_house N σ = (osm (lX5_house_67 N N σG) id fun q18 => ((lX5_house_112 N N q18 0).bind fun q24 => ((lX5_house_150 N N q24 0).bind fun q28 => some ((gI (sI q28 23 0) 19), sI q28 23 0)))) := by
    unfold fX5_house
    simp only [lt_]
    rw [show sI (sI (sI (sI (fX5_taken (sI σ 0 0) 900) 15 0) 19 0) 20 0) 21 0 = σ1' from by rw [es1', es1]; rfl, mo_h34 hN, Option.bind_some, show wA (aS σ1' 7 (cpA (gA σ1' 7) 0 429 fun _ => 0)) 7 6 9 = some σ2 from by rw [es2, eA]; exact (wA7f (i := 6) (by decide) (gA_same _ _ _)).trans (by rw [aS_aS]), Option.bind_some, g2, Option.bind_some]
  have fane : ∀ (x : HS) (fa : Nat) (s : MS), FLT hS (Z + 60) (W + 3600) x fa s → fa ≠ b := fun x fa s q e => by
    have k1 := q.1
    have k2 := (q.2.2.2.1.2.2 b (by omega)).1
    rw [e, k2] at k1
    have := hFS.1
    omega
  rcases read_lp (N := N) hN mm1 mm2 m PG F0n hG σG N (by omega) (by omega) XG with ⟨fa, h', σ', q1, q2, q3, q4⟩ | ⟨h', σ', F', P', q1, q2, X'⟩
  · -- a fault
    have L2j : LR b (n + 1) hS (jS σ2 9 (gJ σ' 9)) := L2.lr.jn q4.2.2.1
    obtain ⟨h2, f1, f2⟩ := flt_end (σ' := σ') L2j q3 mm3 mm4 (fun j hj => q4.1 j (by omega)) ⟨by rw [gJ_e], by rw [gJ_o (by decide)]; exact q4.2.1 10 (by decide), by rw [gJ_o (by decide)]; exact q4.2.1 53 (by decide)⟩ (fun j hj => q4.2.2.2 j (by omega) (by omega) (by omega) (by omega) (by omega) (by omega)) (fane _ _ _ q3)
    refine ⟨-1 - gI σ' 16, h2, σ', ?_, ?_, f2⟩
    · rw [hX, ← e0, q1]
      simp only [osm, id, Option.bind_some, thr]
      exact f1 (-1)
    · rw [eM, q2]; rfl
  · -- a house
    obtain ⟨R', H', hA', hM', f15', ln', -⟩ := X'
    have ht := hT_le H'.1.1
    have gr' := R'.1.2.1.1
    have zz := R'.1.2.2.2.2
    obtain ⟨⟨-, -, qz1, qz2⟩, -⟩ := id L2
    have L3 : LR b n h' σ2 := L2.lr.less.grow gr' (hs_e qz1 eZ zz.1 ht) (hs_d qz2 eWm zz.2 ht)
    have hF' : FX h' b := L3.1.1
    obtain ⟨h1, e1⟩ : ∃ x, x = tR h' b 3 (some (rd + 1)) := ⟨_, rfl⟩
    have hF1 : FX h1 b := hF'.of (by rw [e1]; exact Nat.le_refl _) (by rw [e1]; rfl) (fun _ _ _ => by rw [e1]; exact ⟨rfl, rfl⟩) (fun x k _ _ hn => by rw [e1, kR_ne (by unfold mR at hn; omega)])
    have hR1 : RugS h1 (b + 8) := hF1.2.2.2.2.2.2.2.2.1
    obtain ⟨g', d1, d2, d3, d4, d5, d6⟩ := co_begin (N := N) (g := kI h1) (a := rd + 1) hN hR1
    have d1 : fX3_begin N h1 (b + 8) (rd + 1) = some (b + 8, iS (tR h1 (b + 8) 0 (some (rd + 1))) g') := d1
    obtain ⟨h4, e4⟩ : ∃ x, x = tR (tR h1 (b + 8) 0 (some (rd + 1))) b 5 none := ⟨_, rfl⟩
    have T4 : kT h4 b = 1 := by rw [e4, e1]; exact hF'.1
    have T4a : kT h4 (rd + 1) = 2 := by rw [e4, e1]; exact H'.1.2.2.1
    have r43 : kR h4 b 3 = some (rd + 1) := by rw [e4, kR_ne (by omega), kR_ne (by omega), e1, kR_tR, if_pos ⟨rfl, rfl⟩]
    have I1' : kI h1 = kI h' := by rw [e1]; rfl
    have rdz : b + 18420 ≤ rd := rdb
    obtain ⟨σ5, es5⟩ : ∃ s, s = sI (jS (aS σ' 6 (cpA (gA σ' 6) 0 10265 fun j => if j < 429 then gA σ' 7 j else 0)) 9 (cpJ (gJ σ' 9) 0 12 fun j => gJ σ' 9 (12 + j))) 23 0 := ⟨_, rfl⟩
    have s56 : gA σ5 6 = cpA (gA σ' 6) 0 10265 fun j => if j < 429 then gA σ' 7 j else 0 := by rw [es5]; exact gA_same σ' 6 (cpA (gA σ' 6) 0 10265 fun j => if j < 429 then gA σ' 7 j else 0)
    have s5o : ∀ j, j ≠ 6 → gA σ5 j = gA σ' j := fun j hj => by rw [es5]; exact gA_o hj
    have s59 : gJ σ5 9 = cpJ (gJ σ' 9) 0 12 fun j => gJ σ' 9 (12 + j) := by rw [es5]; exact gJ_e
    have s5j : ∀ j, j ≠ 9 → gJ σ5 j = gJ σ' j := fun j hj => by rw [es5]; exact gJ_o hj
    have s5i : ∀ j, j ≠ 23 → gI σ5 j = gI σ' j := fun j hj => by rw [es5, gI_sI, if_neg hj]; rfl
    refine ⟨gI σ' 19, iS h4 (u2 g' b 7 0), σ5, ?_, ?_, ?_⟩
    · rw [hX, ← e0, q1]
      simp only [osm]
      rw [H'.a9, Option.bind_some, Option.bind_some]
      simp only [thr]
      rw [pR_n (h := h') (Nat.le_of_eq hF'.1.symm) (Nat.le_of_eq hF'.1) hF'.2.1, Option.bind_some, ← e1, show fR h1 b 1 1 4 = some (b + 8) from fx_R4 hF1 (kI h1), Option.bind_some, show fR h1 b 1 1 3 = some (rd + 1) from (fR_n (Nat.le_of_eq hF1.1.symm) (Nat.le_of_eq hF1.1)).trans (by rw [e1, kR_tR, if_pos ⟨rfl, rfl⟩]), Option.bind_some, show ∀ {α : Type} (x : Option α), gT h1 (b + 8) 3 3 x = x from fun x => ru_g hR1 (kI h1), d1, Option.bind_some]
      simp only []
      rw [pR_n (h := iS (tR h1 (b + 8) 0 (some (rd + 1))) g') (Nat.le_of_eq hF1.1.symm) (Nat.le_of_eq hF1.1) hF1.2.1, Option.bind_some, tR_iS, ← e4, pI_n (h := iS h4 g') (Nat.le_of_eq T4.symm) (Nat.le_of_eq T4) (by rw [e4]; exact hF1.2.1), Option.bind_some, tI_iS, fR_n (h := iS h4 (u2 g' b 7 0)) (Nat.le_of_eq T4.symm) (Nat.le_of_eq T4), kR_iS, r43, Option.bind_some, oI_n (h := iS h4 (u2 g' b 7 0)) (Nat.le_of_eq T4a.symm) (Nat.le_of_eq T4a), Option.bind_some, kI_iS, u2_nf (by omega), d2 _ (by omega), I1', ln']
    · rw [eM, q2]
      show ((lX5_house_112 N N σ' 0).bind fun q24 => ((lX5_house_150 N N q24 0).bind fun q28 => some ((gI (sI q28 23 0) 19), sI q28 23 0))) = _
      rw [mo_h112 hN, Option.bind_some, mo_h150 hN, Option.bind_some, es5]
      rfl
    · rw [e4, e1]
      refine L3.hou (F := F') ?_ ?_ ?_ ?_ ?_ ?_ ?_ ?_ ?_ ?_ ?_ ?_ ?_ ?_
      · refine H'.1.nm fun i hi => ?_
        show gJ σ5 9 i = gJ σ' 9 (12 + i)
        rw [s59, cpJ_in (by omega) (by omega), Nat.sub_zero]
      · intro i hi
        rw [s56, cpA_in (by omega) (by omega), Nat.sub_zero, if_pos hi]; exact hA' i hi
      · intro i i1 i2
        rw [s56, cpA_in (by omega) (by omega), Nat.sub_zero, if_neg (by omega)]
      · intro x x1 x2
        rw [u2_nf x2, d2 x x1, I1']
      · intro k hk
        rw [u2_ne (Or.inr hk), d2 b (by omega), I1']
      · exact u2_eq ..
      · rw [u2_nf (by omega)]; exact d3
      · intro c u p i hc hu hp hi
        have := d4 c u p i hc hu hp hi
        unfold TC at this ⊢
        rw [u2_nf (by omega)]; exact this
      · intro k u k1 k2 hu
        rw [u2_nf (by omega)]; exact d5 k u k1 k2 hu
      · intro p hp
        rw [u2_nf (by omega)]; exact d6 p hp
      · intro j hj
        rw [s5o j (by omega)]; exact hM'.1 j (by omega)
      · refine ⟨?_, ?_⟩
        · rw [s5j 10 (by decide)]; exact hM'.2.1 10 (by decide)
        · rw [s5j 53 (by decide)]; exact hM'.2.1 53 (by decide)
      · intro j hj
        rw [s5i j (by omega)]
        by_cases c : j = 15
        · rw [c, f15', gi2 15 (by decide) (by decide) (by decide), es1]; rfl
        · exact hM'.2.2.2 j (by omega) (by omega) (by omega) (by omega) (by omega) (by omega)
      · rw [es5]; rfl
end PVU
