/-! walks: the operation, whole -/
section PTR
variable {h0 h h' : HS} {σ σ' : MS} {N b n a : Nat} {F : Nat → Nat}
theorem mo_w48 (hN : 200000 ≤ N) : ∃ f, lX5_walk_48 N N σ 0 = some (aS σ 31 f) ∧ f 0 = 0 ∧ f 1 = 0 ∧ f 2 = 0 := by
  obtain ⟨k, rfl⟩ : ∃ k, N = k + 4 := ⟨N - 4, by omega⟩
  have w : ∀ (s : MS) (i : Nat), i < 4 → wA s 31 (nI i) 0 = some (aS s 31 (upd (gA s 31) i 0)) := fun s i hi => (wA31 hi).trans (by rw [sA_aS])
  refine ⟨upd (upd (upd (gA σ 31) 0 0) 1 0) 2 0, ?_, by rw [pk_un (by decide), pk_un (by decide), pk_us], by rw [pk_un (by decide), pk_us], pk_us⟩
  rw [lX5_walk_48, if_neg (by decide), show wA σ 31 0 0 = some (aS σ 31 (upd (gA σ 31) 0 0)) from w σ 0 (by decide), Option.bind_some, lX5_walk_48, if_neg (by decide), show wA (aS σ 31 (upd (gA σ 31) 0 0)) 31 (0 + 1) 0 = some (aS (aS σ 31 (upd (gA σ 31) 0 0)) 31 (upd (gA (aS σ 31 (upd (gA σ 31) 0 0)) 31) 1 0)) from w _ 1 (by decide), Option.bind_some, gA_same, aS_aS, lX5_walk_48, if_neg (by decide), show wA (aS σ 31 (upd (upd (gA σ 31) 0 0) 1 0)) 31 (0 + 1 + 1) 0 = some (aS (aS σ 31 (upd (upd (gA σ 31) 0 0) 1 0)) 31 (upd (gA (aS σ 31 (upd (upd (gA σ 31) 0 0) 1 0)) 31) 2 0)) from w _ 2 (by decide), Option.bind_some, gA_same, aS_aS, lX5_walk_48, if_pos (by decide)]
/-- the Model's end of a walk -/
def mWe (N : Nat) (r : MS) : Option (Int32 × MS) := (lt_ (sI r 35 1) fun σ8 => ((lX5_walk_48 N N σ8 0).bind fun q11 => ((wA q11 31 3 (-1)).bind fun σ12 => ((rA σ12 6 (25 + (gI σ12 33))).bind fun v13 => (if v13 = 1 then ((wA σ12 31 0 1).bind fun σ64 => some (0, σ64)) else ((wA σ12 31 3 (gI σ12 33)).bind fun σ15 => (osm (lX5_walk_112 N N σ15 (gI σ12 33) 0) id fun q63 => some ((-1), q63))))))))
theorem mo_wend (hN : 200000 ≤ N) (hM : MH (gA σ 6) F) {p K at_ pace : Nat} {ln : Nat → Nat × Nat × Nat} (hp : p < F 2) (hpc : F (19 + p) = pace) (g32 : gI σ 32 = nI p) (g33 : gI σ 33 = nI at_) (g34 : gI σ 34 = nI K) (hL : LN σ ln K) (hat : at_ < 144) : ∃ f, mWe N σ = some ((wev F pace (wbeg F at_) ln K).2.1, aS (sI σ 35 1) 31 f) ∧ WM f (wev F pace (wbeg F at_) ln K) := by
  obtain ⟨σ8, es8⟩ : ∃ σ8, σ8 = sI σ 35 1 := ⟨_, rfl⟩
  obtain ⟨f, e1, f0, f1, f2⟩ := mo_w48 (N := N) (σ := σ8) hN
  have hM8 : MH (gA σ8 6) F := by rw [es8]; exact hM
  have i8 : ∀ k, k ≠ 35 → gI σ8 k = gI σ k := fun k hk => by rw [es8, gI_sI, if_neg hk]
  have w3 : wA (aS σ8 31 f) 31 3 (-1) = some (aS σ8 31 (upd f 3 (-1))) := w31 (i := 3) (by decide) _
  have hMa : ∀ g, MH (gA (aS σ8 31 g) 6) F := fun g => by rw [gA_o (by decide)]; exact hM8
  have r25 : rA (aS σ8 31 (upd f 3 (-1))) 6 (25 + nI at_) = some (nI (F (25 + at_))) := by rw [pl_la]; exact mo_i (hMa _) (by show 25 + at_ < 429; omega)
  have wl := hM.1.2.2.2.1 at_ hat
  unfold mWe
  rw [lt_, ← es8, e1]
  simp only [Option.bind_some, w3, gI_aS, i8 33 (by decide), g33, r25]
  by_cases w1 : F (25 + at_) = 1
  · have eb : wbeg F at_ = (1, 0, none, 0, 0, none) := by unfold wbeg; rw [if_pos w1]
    have eK : wev F pace (wbeg F at_) ln K = wbeg F at_ := by
      have := wev_stop (F := F) (pace := pace) (s0 := wbeg F at_) (ln := ln) (i := 0) (by show (wbeg F at_).1 ≠ 0; rw [eb]; decide) K
      rw [Nat.zero_add] at this
      exact this
    rw [w1, if_pos (show nI 1 = 1 from rfl), show wA (aS σ8 31 (upd f 3 (-1))) 31 0 1 = some (aS σ8 31 (upd (upd f 3 (-1)) 0 1)) from w31 (i := 0) (by decide) _, eK, eb]
    refine ⟨upd (upd f 3 (-1)) 0 1, rfl, pk_us, ?_, ?_, ?_⟩
    · rw [pk_un (by decide), pk_un (by decide)]; exact f1
    · rw [pk_un (by decide), pk_un (by decide)]; exact f2
    · rw [pk_un (by decide), pk_us]; rfl
  · have eb : wbeg F at_ = (0, -1, some at_, 0, 0, none) := by unfold wbeg; rw [if_neg w1]
    rw [if_neg (show ¬ nI (F (25 + at_)) = 1 from fun z => w1 ((nI_eq (b := 1) (by omega) (by decide)).mp z)), show wA (aS σ8 31 (upd f 3 (-1))) 31 3 (nI at_) = some (aS σ8 31 (upd (upd f 3 (-1)) 3 (nI at_))) from w31 (i := 3) (by decide) _]
    simp only [Option.bind_some]
    have hL8 : LN σ8 ln K := by unfold LN; rw [es8]; exact hL
    obtain ⟨f', r, q1, q2, q3⟩ := mo_112 (N := N) (F := F) (pace := pace) (s0 := wbeg F at_) (ln := ln) hN hM8 hp hpc ((i8 32 (by decide)).trans g32) ((i8 34 (by decide)).trans g34) hL8 (wbeg_ok hat) (by rw [eb]) (by rw [eb]) K 0 (upd (upd f 3 (-1)) 3 (nI at_)) N (by omega) (by have := hL.1; omega) (by
      show WM _ (wbeg F at_)
      rw [eb]
      refine ⟨?_, ?_, ?_, ?_⟩
      · rw [pk_un (by decide), pk_un (by decide)]; exact f0
      · rw [pk_un (by decide), pk_un (by decide)]; exact f1
      · rw [pk_un (by decide), pk_un (by decide)]; exact f2
      · rw [pk_us]; rfl) (by show (wbeg F at_).1 = 0; rw [eb])
    have q1 : lX5_walk_112 N N (aS σ8 31 (upd (upd f 3 (-1)) 3 (nI at_))) (nI at_) 0 = some r := by
      have := q1
      rw [show (wev F pace (wbeg F at_) ln 0).2.2.1 = some at_ from by show (wbeg F at_).2.2.1 = _; rw [eb]] at this
      exact this
    rw [q1]
    rcases q3 with ⟨z1, rfl⟩ | ⟨z1, rfl⟩
    · refine ⟨f', ?_, q2⟩
      have wr : (wev F pace (wbeg F at_) ln K).2.1 = -1 := by
        have : ∀ k, (wev F pace (wbeg F at_) ln k).1 = 0 → (wev F pace (wbeg F at_) ln k).2.1 = -1 := fun k => by
          induction k with
          | zero => intro _; show (wbeg F at_).2.1 = -1; rw [eb]
          | succ k ih =>
            intro hz
            unfold wev at hz ⊢
            unfold wstep at hz ⊢
            by_cases c : (wev F pace (wbeg F at_) ln k).1 ≠ 0
            · rw [if_pos c] at hz; exact absurd hz c
            · rw [if_neg c] at hz ⊢
              cases e : wgo F (ln k).1 (ln k).2.1 (wev F pace (wbeg F at_) ln k).2.2.1 with
              | none => rw [e] at hz; exact absurd hz (by show ¬ (1 : Nat) = 0; decide)
              | some t =>
                rw [e] at hz
                simp only [] at hz ⊢
                by_cases c2 : pace * (ln k).2.2 < (ln k).2.1
                · rw [if_pos c2] at hz; exact absurd hz (by show ¬ (2 : Nat) = 0; decide)
                · rw [if_neg c2] at hz ⊢
                  by_cases c3 : (∃ c, (wev F pace (wbeg F at_) ln k).2.2.2.2.2 = some c ∧ (ln k).1 = (c + 2) % 4) ∧ (ln k).2.2 = 1
                  · rw [if_pos c3] at hz; exact absurd hz (by show ¬ (3 : Nat) = 0; decide)
                  · rw [if_neg c3]
                    exact ih (by omega)
        exact this K z1
      rw [wr]; rfl
    · exact ⟨f', rfl, q2⟩
theorem op_walk (hN : 200000 ≤ N) : LO_walk N b (LR b) := by
  intro n h σ hL
  obtain ⟨F, a, hL⟩ := hL.f
  obtain ⟨m, g, m1, eg, tk, pt, L0, m3, m4, m5, tp⟩ := take_both (N := N) hL 300 (by decide)
  obtain ⟨σ1, es1⟩ : ∃ σ1, σ1 = sI (fX5_taken (sI σ 0 0) (nI 300)) 15 0 := ⟨_, rfl⟩
  rw [← es1] at L0 m3 m4 m5
  obtain ⟨⟨hF, ⟨hO1, hO2, hO3⟩, hz1, hz2⟩, hC, hLt, ⟨⟨h3, hH, -⟩, -⟩, -, -, hJ⟩ := id L0
  have hF : FX h b := hF
  have h3 : kR h b 3 = some a := h3
  obtain ⟨hS, eS⟩ : ∃ hS, hS = iS h g := ⟨_, rfl⟩
  rw [← eS] at L0 pt
  have zS : kZ hS = kZ h := by rw [eS]; rfl
  have wS : kW hS = kW h := by rw [eS]; rfl
  have GS : kG hS = kG h := by rw [eS]; rfl
  have hFS : FX hS b := by rw [eS]; exact hF
  have hz1 : kZ hS + 8000 * (n + 1) ≤ kG hS 1 := by rw [zS, GS]; exact hz1
  have hz2 : kW hS + 100000 * (n + 1) ≤ kG hS 2 := by rw [wS, GS]; exact hz2
  have hg0 : kG hS 0 ≤ kZ hS := by have := hFS.2.1; have := hFS.2.2.1; omega
  have hO1 : b + 18420 ≤ kZ hS := by rw [zS]; exact hO1
  -- the reader
  obtain ⟨hB1, i1, i2, i3, i4, i5, i6, i7, i8, i9, i10⟩ := rd_init (N := N) (h := hS) (t := 6) (sl := 17) (x1 := b + 1) (v := nI m) (lim := 300) (by decide) (by decide) hg0
  obtain ⟨rd, erd⟩ : ∃ rd, rd = kZ hS := ⟨_, rfl⟩
  rw [← erd] at i1 i5 i6 i7 i8 i10
  have Pg : ∀ {x : HS}, kT x rd = 6 → kG x = kG hS → ∀ j v, pI x rd 6 6 j v = some (tI x rd j v) := fun e eg j v => pI_n (Nat.le_of_eq e.symm) (Nat.le_of_eq e) (by rw [eg, erd]; exact hg0)
  obtain ⟨hB, eB⟩ : ∃ hB, hB = tR (tI (tI (tI hB1 rd 11 (-1)) rd 13 (-1)) rd 16 (-1)) rd 9 (some a) := ⟨_, rfl⟩
  have iB : fX12_init N (tA hS 6 0 17) rd (b + 1) (nI m) a = some hB := by
    unfold fX12_init
    rw [i1]
    simp only [Option.bind_some]
    rw [Pg i5 i9]
    simp only [Option.bind_some]
    rw [Pg (x := tI hB1 rd 11 (-1)) i5 i9]
    simp only [Option.bind_some]
    rw [Pg (x := tI (tI hB1 rd 11 (-1)) rd 13 (-1)) i5 i9]
    simp only [Option.bind_some]
    rw [pR_n (h := tI (tI (tI hB1 rd 11 (-1)) rd 13 (-1)) rd 16 (-1)) (Nat.le_of_eq i5.symm) (Nat.le_of_eq i5) (by show kG hB1 0 ≤ rd; rw [i9, erd]; exact hg0), eB]; rfl
  have KB : ond (fun _ => False) hS hB := by
    rw [eB]
    exact (((i2.tr ond.tI fun q hq z => by omega).tr ond.tI fun q hq z => by omega).tr ond.tI fun q hq z => by omega).tr ond.tR fun q hq z => by omega
  have TB : kT hB rd = 6 := by rw [eB]; exact i5
  have IB : ∀ k, kI hB rd k = if k = 16 then -1 else if k = 13 then -1 else if k = 11 then -1 else if k = 2 then 300 else if k = 1 then nI m else 0 := fun k => by
    rw [eB, kI_tR, kI_tI]
    by_cases c16 : k = 16
    · rw [if_pos ⟨rfl, c16⟩, if_pos c16]
    · rw [if_neg (fun z => c16 z.2), if_neg c16, kI_tI]
      by_cases c13 : k = 13
      · rw [if_pos ⟨rfl, c13⟩, if_pos c13]
      · rw [if_neg (fun z => c13 z.2), if_neg c13, kI_tI]
        by_cases c11 : k = 11
        · rw [if_pos ⟨rfl, c11⟩, if_pos c11]
        · rw [if_neg (fun z => c11 z.2), if_neg c11, i6]
          by_cases c2 : k = 2
          · rw [c2, pk_us]; rfl
          · rw [pk_un c2, if_neg c2]
            by_cases c1 : k = 1
            · rw [c1, pk_us]; rfl
            · rw [pk_un c1, if_neg c1]
  have RB0' : kR hB rd 0 = some (b + 1) := by rw [eB, kR_tR, if_neg (by omega)]; exact i7
  have RB9 : kR hB rd 9 = some a := by rw [eB, kR_tR, if_pos ⟨rfl, rfl⟩]
  have zB : kZ hB = kZ hS + 1 := by rw [eB]; exact i3
  have wB : kW hB = kW hS + 17 := by rw [eB]; exact i4
  have GB : kG hB = kG hS := KB.2.1
  obtain ⟨tt, tn⟩ := hFS.2.2.2.2.1 1 32 940 rfl
  have b1z : b + 1 < kZ hS := by omega
  obtain ⟨y1, y2, y3, y4⟩ := KB.2.2 (b + 1) b1z id
  obtain ⟨σ2, es2⟩ : ∃ σ2, σ2 = sI σ1 34 0 := ⟨_, rfl⟩
  have L2 : LR b (n + 1) hS σ2 := by
    rw [es2]
    obtain ⟨-, -, hLt, -, -, hR, -⟩ := id L0
    exact (L0.chg (g' := kI hS) (σ' := sI σ1 34 0) (fun _ _ _ => rfl) rfl (hLt.of rfl rfl rfl rfl rfl rfl) (hR.of rfl rfl rfl ⟨rfl, rfl, rfl, rfl⟩ ⟨rfl, rfl, rfl, rfl⟩ ⟨rfl, rfl, rfl, rfl⟩) rfl rfl rfl rfl rfl rfl rfl rfl).lr
  have hCS : CS hS (kI hS) b := L0.2.1
  have hHS : HouR hS (kI hS) b a F (gJ σ2 9) := by rw [es2]; exact L0.nw.ho
  have hM2 : MH (gA σ2 6) F := by rw [es2]; exact L0.nw.mh
  obtain ⟨Zm, eZ⟩ : ∃ Zm, Zm = kZ hS + 7600 := ⟨_, rfl⟩
  obtain ⟨Wm, eWm⟩ : ∃ Wm, Wm = kW hS + 70000 := ⟨_, rfl⟩
  have n300 : (300 : Int32) = nI 300 := by decide
  have I1 : kI hB rd 1 = nI m := by rw [IB]; rfl
  have I2 : kI hB rd 2 = nI 300 := by rw [IB, if_neg (by decide), if_neg (by decide), if_neg (by decide), if_pos rfl]; exact n300
  have I3 : kI hB rd 3 = nI 0 := by rw [IB]; rfl
  have R : PR0 hS b rd m 300 Zm Wm 0 hB σ2 := by
    refine ⟨⟨⟨by rw [TB]; decide, by rw [TB]; decide, by rw [GB, erd]; exact hg0, by rw [erd]; exact hO1, by rw [erd, zB]; omega⟩, ⟨RB0', by rw [y1]; exact tt, by rw [y2]; exact tn, fun i hi => ?_⟩, ⟨Nat.zero_le _, m1, by decide⟩, ⟨I1, I2, I3⟩, by rw [es2]; exact m3, by rw [es2]; exact m5, by rw [es2]; exact m4⟩, ⟨KB.grow, by rw [erd]; exact Nat.le_refl _, hO1, hCS⟩, fun k hk => by rw [es2]; exact hJ k hk, ⟨by rw [GB, zB]; omega, by rw [GB]; omega, by rw [GB]; omega⟩, by rw [zB]; omega, by rw [wB]; omega⟩
    rw [y3, es2, es1, eS]
    exact tp i hi
  -- both sides unfolded
  have nO' : nO hS 6 17 = some (rd, tA hS 6 0 17) := by unfold nO; rw [if_pos ⟨by omega, by omega⟩, erd]
  have bne : b ≠ kZ hS := by omega
  have fA0 : fR (tA hS 6 0 17) b 1 1 0 = some (b + 1) := by
    rw [fR_n (by rw [kT_tA, if_neg bne]; exact Nat.le_of_eq hFS.1.symm) (by rw [kT_tA, if_neg bne]; exact Nat.le_of_eq hFS.1), kR_tA, if_neg bne]
    exact hFS.2.2.2.1 0 1 rfl
  have fA3 : fR (tA hS 6 0 17) b 1 1 3 = some a := by
    rw [fR_n (by rw [kT_tA, if_neg bne]; exact Nat.le_of_eq hFS.1.symm) (by rw [kT_tA, if_neg bne]; exact Nat.le_of_eq hFS.1), kR_tA, if_neg bne, eS]
    exact h3
  obtain ⟨X, hX⟩ : ∃ X, fX1_walk N h b = X := ⟨_, rfl⟩
  have e0 := hX
  unfold fX1_walk at e0
  rw [show ∀ {α : Type} (x : Option α), gT h b 1 1 x = x from fun x => fx_g hF (kI h), tk] at e0
  simp only [Option.bind_some, pt, nO', fA0, fA3, iB] at e0
  rw [gT_n (Nat.le_of_eq TB.symm) (Nat.le_of_eq TB)] at e0
  have eM : fX5_walk N σ = ((fX5_next N σ2).bind fun r5 => fX5_walkRead N r5).bind fun r6 => (if r6.1 = 0 then (some (((-2) - (gI r6.2 16)), r6.2)) else mWe N r6.2) := by
    unfold fX5_walk
    simp only [lt_]
    rw [show sI (sI (fX5_taken (sI σ 0 0) 300) 15 0) 34 0 = σ2 from by rw [es2, es1]; rfl]
    cases fX5_next N σ2 with
    | none => rfl
    | some r => rfl
  have fane : ∀ (x : HS) (fa : Nat) (s : MS), FLT hS Zm Wm x fa s → fa ≠ b := fun x fa s q e => by
    have k1 := q.1
    have k2 := (q.2.2.2.1.2.2 b (by omega)).1
    rw [e, k2] at k1
    have := hFS.1
    omega
  rcases wk_read (N := N) hN hHS hM2 R TB RB9 (by rw [IB]; rfl) (by rw [IB]; rfl) (by rw [IB]; rfl) (by rw [IB]; rfl) (by rw [IB]; rfl) (by rw [IB]; rfl) (by rw [IB]; rfl) (by rw [es2]; rfl) with ⟨fa, h', σ', q1, q2, q3, q4⟩ | ⟨p, at_, K, P', ln, h', σ', σs, hat, hp, q1, q2, q3, ⟨q4, q415⟩, q5⟩
  · -- a fault
    obtain ⟨h2, f1, f2⟩ := flt_end (σ' := σ') L2 q3 (by omega) (by omega) (fun j hj => q4.1 j (by omega)) ⟨by rw [q4.2.1], by rw [q4.2.1], by rw [q4.2.1]⟩ (fun j hj => q4.2.2 j (by omega) (by omega) (by omega) (by omega) (by omega) (by omega) (by omega) (by omega) (by omega) (by omega) (by omega)) (fane _ _ _ q3)
    refine ⟨-2 - gI σ' 16, h2, σ', ?_, ?_, f2⟩
    · rw [hX, ← e0, q1]
      simp only [Option.bind_some, thr]
      exact f1 (-2)
    · rw [eM, q2]; rfl
  · -- a walk
    obtain ⟨R', hT', h9', hW, g34, hLN, g32, mw, g33, g15⟩ := q5
    have gr' := R'.1.2.1.1
    have zz := R'.1.2.2.2.2
    have mw2 : mW σ2 σ' := q3.trans mw
    have hM' : MH (gA σ' 6) F := by rw [mw2.1 6 (by decide)]; exact hM2
    obtain ⟨f, w1, w2⟩ := mo_wend (N := N) hN hM' hp rfl g32 (g33.trans q4) g34 hLN hat
    obtain ⟨W, eW⟩ : ∃ W, W = wev F (F (19 + p)) (wbeg F at_) ln K := ⟨_, rfl⟩
    rw [← eW] at hW w1 w2
    obtain ⟨k10, k11, k12, k13, k14, k15, k16⟩ := hW
    obtain ⟨⟨-, -, qz1, qz2⟩, -⟩ := id L2
    have L3 : LR b n h' σ2 := L2.less.grow gr' (by omega) (by omega)
    obtain ⟨F', a', L4⟩ := L3.f
    obtain ⟨⟨hF', -⟩, -, hLt', -, -, hR', -⟩ := id L4
    obtain ⟨g1, eg1⟩ : ∃ g1, g1 = u2 (kI h') (b + 2048) 0 (nI W.1) := ⟨_, rfl⟩
    obtain ⟨g2, eg2⟩ : ∃ g2, g2 = u2 g1 (b + 2048) 1 W.2.2.2.1 := ⟨_, rfl⟩
    obtain ⟨g3, eg3⟩ : ∃ g3, g3 = u2 g2 (b + 2048) 2 W.2.2.2.2.1 := ⟨_, rfl⟩
    obtain ⟨g4, eg4⟩ : ∃ g4, g4 = u2 g3 (b + 2048) 3 (oN W.2.2.1) := ⟨_, rfl⟩
    have rdn : rd ≠ b + 2048 := by omega
    have x1 : ∀ q, q ≠ b + 2048 → g1 q = kI h' q := fun q hq => by rw [eg1, u2_nf hq]
    have x2 : ∀ q, q ≠ b + 2048 → g2 q = kI h' q := fun q hq => by rw [eg2, u2_nf hq]; exact x1 q hq
    have x3 : ∀ q, q ≠ b + 2048 → g3 q = kI h' q := fun q hq => by rw [eg3, u2_nf hq]; exact x2 q hq
    have x4 : ∀ q, q ≠ b + 2048 → g4 q = kI h' q := fun q hq => by rw [eg4, u2_nf hq]; exact x3 q hq
    have O6 : ∀ gx j, (∀ q, q ≠ b + 2048 → gx q = kI h' q) → oI (iS h' gx) rd 6 6 j = some (kI h' rd j) := fun gx j e => (oI_n (h := iS h' gx) (Nat.le_of_eq hT'.symm) (Nat.le_of_eq hT')).trans (by rw [kI_iS, e rd rdn])
    have W0 : wI (iS h' (kI h')) (b + 2048) 31 0 (nI W.1) = some (iS h' g1) := by rw [eg1]; exact fx_W21 hF' (kI h') (i := 0) (by decide)
    have W1 : wI (iS h' g1) (b + 2048) 31 1 W.2.2.2.1 = some (iS h' g2) := by rw [eg2]; exact fx_W21 hF' g1 (i := 1) (by decide)
    have W2 : wI (iS h' g2) (b + 2048) 31 2 W.2.2.2.2.1 = some (iS h' g3) := by rw [eg3]; exact fx_W21 hF' g2 (i := 2) (by decide)
    have W3 : wI (iS h' g3) (b + 2048) 31 3 (oN W.2.2.1) = some (iS h' g4) := by rw [eg4]; exact fx_W21 hF' g3 (i := 3) (by decide)
    refine ⟨W.2.1, iS h' g4, aS (sI σ' 35 1) 31 f, ?_, ?_, ?_⟩
    · rw [hX, ← e0, q1]
      simp only [Option.bind_some, thr]
      rw [show fR h' b 1 1 21 = some (b + 2048) from fx_R21 hF' (kI h'), show oI h' rd 6 6 10 = some (nI W.1) from (O6 (kI h') 10 fun _ _ => rfl).trans (by rw [k10])]
      simp only [Option.bind_some]
      rw [show wI h' (b + 2048) 31 0 (nI W.1) = some (iS h' g1) from W0]
      simp only [Option.bind_some, fx_R21 hF', O6 g1 14 x1, k14, W1, O6 g2 15 x2, k15, W2, O6 g3 13 x3, k13, W3, O6 g4 11 x4, k11]
    · rw [eM, q2]
      simp only [Option.bind_some, one0, if_false]
      exact w1
    · have nb : (b : Nat) ≠ b + 2048 := by omega
      have ga : ∀ j, j ≠ 31 → j ≠ 8 → gA (aS (sI σ' 35 1) 31 f) j = gA σ2 j := fun j j1 j2 => by rw [gA_o j1]; exact mw2.1 j j2
      have gi : ∀ j, (j = 2 ∨ j = 23 ∨ j = 28 ∨ j = 29 ∨ j = 42) → gI (aS (sI σ' 35 1) 31 f) j = gI σ2 j := fun j hj => by
        rw [gI_aS, gI_sI, if_neg (by omega)]
        exact mw2.2.2 j (by omega) (by omega) (by omega) (by omega) (by omega) (by omega) (by omega) (by omega) (by omega) (by omega) (by omega)
      have gi15 : gI (aS (sI σ' 35 1) 31 f) 15 = gI σ2 15 := by
        rw [gI_aS, gI_sI, if_neg (by decide)]
        exact g15.trans q415
      obtain ⟨hr1, -, hr3⟩ := hR'
      refine LRF.lr (F := F') (a := a') (L4.chg (fun q q1 q2 => x4 q (by omega)) (by rw [x4 b nb]) (hLt'.of (by rw [x4 b nb]) (by rw [x4 b nb]) (x4 _ (by omega)) (gi 2 (by omega)) gi15 (ga 1 (by decide) (by decide))) ⟨?_, Or.inr ⟨rfl, fun i hi => ?_⟩, ?_⟩ (ga 6 (by decide) (by decide)) (by show gJ σ' 9 = _; rw [mw2.2.1]) (by show gJ σ' 10 = _; rw [mw2.2.1]) (by show gJ σ' 53 = _; rw [mw2.2.1]) (ga 22 (by decide) (by decide)) (ga 52 (by decide) (by decide)) (ga 54 (by decide) (by decide)) (gi 23 (by omega)))
      · rw [gi 28 (by omega), gi 29 (by omega), ga 26 (by decide) (by decide), ga 27 (by decide) (by decide), x4 b nb, x4 (b + 2037) (by omega), x4 (b + 2038) (by omega)]
        exact hr1
      · rw [gA_same]
        obtain ⟨v0, v1, v2, v3⟩ := w2
        have hi4 : i = 0 ∨ i = 1 ∨ i = 2 ∨ i = 3 := by omega
        rcases hi4 with rfl | rfl | rfl | rfl
        · rw [eg4, u2_ne (Or.inr (by decide)), eg3, u2_ne (Or.inr (by decide)), eg2, u2_ne (Or.inr (by decide)), eg1, u2_eq]; exact v0.symm
        · rw [eg4, u2_ne (Or.inr (by decide)), eg3, u2_ne (Or.inr (by decide)), eg2, u2_eq]; exact v1.symm
        · rw [eg4, u2_ne (Or.inr (by decide)), eg3, u2_eq]; exact v2.symm
        · rw [eg4, u2_eq]; exact v3.symm
      · rw [gi 42 (by omega), ga 40 (by decide) (by decide), x4 b nb, x4 (b + 2198) (by omega)]
        exact hr3
end PTR
