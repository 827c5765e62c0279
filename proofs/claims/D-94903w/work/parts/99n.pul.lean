/-! sentences: one() at not -/
section PUL
variable {h0 h h' h2 : HS} {σ0 σ σ' σ1 : MS} {N b rd sz Z W a O t n : Nat} {wh : Bool} {F : Nat → Nat} {S : List Nat} {C : List CD3} {v : Int32}
theorem one_not (hN : 200000 ≤ N) (m1 : Z + 60 ≤ kG h0 1) (m2 : W + 500 ≤ kG h0 2) {rec : HS → Nat → Option ((Nat ⊕ Nat) × HS)} (hX : SX h0 b rd sz Z W a σ0 t O S C false h σ) (h11 : kI h rd 11 = nI (cn2 S)) (u : fX5_isWord σ 7237492 = 1)
    (hR : cn2 S < 8 → ∀ t' O' C' h' σ', SX h0 b rd sz Z W a σ0 t' O' (S ++ [10]) C' false h' σ' → kI h' rd 11 = nI (cn2 (S ++ [10])) → OneC N h0 b rd sz Z W a F σ0 (rec h' rd) O' (S ++ [10]) C' h' σ') : OneC N h0 b rd sz Z W a F σ0 (fX13_one N rec h rd) O S C h σ := by
  obtain ⟨⟨P, R⟩, ⟨T, A, I⟩, hS, f15, hO, b1, b2⟩ := id hX
  have b1 : t + 0 ≤ 2 * O := b1
  have b2 : C.length + S.length + 0 ≤ 2 * O := b2
  have i50 : gI σ 50 = 0 := hS.1.2.2.2.2
  have i47 : gI σ 47 = nI O := hS.1.2.1
  have i49 : gI σ 49 = nI (1 + cn2 S) := hS.1.2.2.2.1
  have G : kG h 0 ≤ rd := R.rb.1.2.2.1
  have cl : cn2 S ≤ S.length := cn2_le
  obtain ⟨r6, r7, r8, e6, e7, e8, w6, v6, lf, wd⟩ := lf_both (N := N) hN R T
  obtain rfl : r6 = 1 := w6.symm.trans u
  have wd := wd fun z => absurd z.1 (by decide)
  have np : ¬ (kI h rd 4 = 6 ∧ kI h rd 7 = 40) := fun z => by rw [wd.1] at z; exact absurd z.1 (by decide)
  have q4 : kI h rd 4 = 1 ∨ kI h rd 4 = 5 → (4 : Int32) = 1 := fun z => by rw [wd.1] at z; rcases z with z | z <;> exact absurd z (by decide)
  rw [one_w T e6 e7 e8 np fun z => absurd z.1 (by decide)]
  by_cases lim : O = 20 ∨ 8 ≤ cn2 S
  · obtain ⟨fa, h', e1, e2⟩ := need_0 (N := N) R (k := 4) q4
    refine Or.inl (sfa_op i50 (op_too (Or.inl u) ?_) (oneH_no T ?_ e1) e2 (by omega) (by omega) hS.e.bad)
    · rw [i47, i49]
      rcases lim with z | z
      · exact Or.inl (by rw [z]; rfl)
      · exact Or.inr (nI_ge (a := 8) (by omega) (by omega))
    · rw [I, h11]
      rcases lim with z | z
      · exact Or.inl (by rw [z]; decide)
      · exact Or.inr (nI_le (a := 8) (by omega) (by omega))
  · have o20 : O < 20 := by omega
    have c8 : cn2 S < 8 := by omega
    have t1 : gI σ 47 ≠ 20 := by rw [i47]; exact fun z => by have := (nI_eq (b := 20) (by omega) (by decide)).mp z; omega
    have t2 : gI σ 49 ≤ 8 := by rw [i49]; exact nI_le (b := 8) (by omega) (by omega)
    rw [oneH_ok T G (by rw [I]; exact nI_ge (b := 20) (by omega) (by omega)) (by rw [h11]; exact nI_ge (b := 8) (by omega) (by omega))]
    have R1 : PRS h0 b rd sz 200 (Z + t) (W + 8 * t) true P (oneI rd h) (sI σ 47 (nI (O + 1))) := (prs_in R).ms rfl rfl rfl fun k hk => by rw [gI_sI, if_neg (by omega)]
    obtain ⟨h3, σ3, P1, g1, g2, R3, g4, g5, g6⟩ := go_both (N := N) hN R1.1
    have n47 : gI σ 47 + 1 = nI (O + 1) := by rw [i47]; exact nI_add _ 1
    have S3 : SM σ0 S C (O + 1) false σ3 := sm_mk (sm_on1 (O' := O + 1) hS).1 g6.m
    have v49 : gI σ3 49 + 1 = nI (1 + cn2 (S ++ [10])) := by
      rw [S3.1.2.2.2.1, cn2_app]; exact nI_add _ 1
    obtain ⟨p1, p2, p3, p4⟩ := sm_push S3 (by omega) (k := 10) (by decide) _ v49
    obtain ⟨σ4, e4⟩ : ∃ s, s = sI (sI (aS σ3 45 (upd (gA σ3 45) S.length (nI 10))) 48 (nI (S.length + 1))) 49 (gI σ3 49 + 1) := ⟨_, rfl⟩
    rw [← e4] at p3 p4
    have opE : fX5_operand N σ = some (1, σ4) := by
      rw [op_n u t1 t2 (by rw [n47]; exact g2), show wA σ3 45 (gI σ3 48) 10 = _ from p1, Option.bind_some, e4, ← p2]
      rfl
    have R4 : PRS h0 b rd sz 200 (Z + t) (W + 8 * t) true P1 h3 σ4 := R3.ms (p4.2.2.2 1 (by decide) (by decide)) (by rw [p4.2.2.1]) p4.2.1 fun k hk => p4.1 k (by omega)
    have K3 : sK rd (oneI rd h) h3 := g6.c.sk
    have G3 : kG h3 = kG h0 := R4.1.2.1.1.2.1
    obtain ⟨n1, R5⟩ := R4.nw (k := 11) (n := 1) (by decide) (by rw [G3]; omega) (by rw [G3]; omega)
    obtain ⟨q, eq⟩ : ∃ q, q = kZ h3 := ⟨_, rfl⟩
    obtain ⟨h4, eh4⟩ : ∃ x, x = tA h3 11 0 1 := ⟨_, rfl⟩
    rw [← eh4, ← eq] at n1
    rw [← eh4] at R5
    have rl : rd < kZ h := R.rb.1.2.2.2.2
    have rl3 : rd < kZ h3 := R4.rb.1.2.2.2.2
    have K4 : sK rd (oneI rd h) h4 := by rw [eh4]; exact K3.n rl
    have z4 : q < kZ h4 := by rw [eh4, eq]; exact Nat.lt_succ_self _
    have T4q : kT h4 q = 11 := by rw [eh4, eq, kT_tA, if_pos rfl]
    have N4q : kR h4 q 0 = none := by rw [eh4, eq, kR_tA, if_pos rfl]
    have T4 : kT h4 rd = 7 := K4.2.1.trans T
    have i4 : ∀ j, j = 10 ∨ j = 11 → kI h4 rd j = kI (oneI rd h) rd j := fun j hj => by
      rw [eh4, kI_tA, if_neg (by omega)]; exact g6.c.2.2.2 j (by omega)
    have w4 : kI h4 rd 11 = nI (cn2 (S ++ [10])) := by
      rw [i4 11 (Or.inr rfl), oneI_k.2.2, h11, cn2_app]; exact nI_add _ 1
    have X4 : SX h0 b rd sz Z W a σ0 (t + 1) (O + 1) (S ++ [10]) C false h4 σ4 := by
      refine ⟨⟨P1, R5⟩, ⟨T4, (K4.2.2.1 9 (by decide)).trans A, ?_⟩, p3, ?_, o20, ?_, ?_⟩
      · rw [i4 10 (Or.inl rfl), oneI_k.2.1, I]; exact nI_add _ 1
      · rw [p4.1 15 (by decide), g6.2.2.2.2.2.2 15 (by decide) (by decide) (by decide) (by decide) (by decide), gI_sI, if_neg (by omega)]; exact f15
      · show t + 1 + 0 ≤ 2 * (O + 1); omega
      · rw [List.length_append]; show C.length + (S.length + 1) + 0 ≤ 2 * (O + 1); omega
    have st : ∀ n, lX5_sentence_48 N (n + 1) σ 1 = lX5_sentence_48 N n σ4 1 := fun n => by rw [lp_op i50 opE, if_neg (by decide)]
    unfold oneG
    rw [gT_n (by rw [show kT (oneI rd h) rd = 7 from T]; exact Nat.le_refl _) (by rw [show kT (oneI rd h) rd = 7 from T]; exact Nat.le_refl _), g1, Option.bind_some, if_neg (by decide)]
    have eN : oneN N rec rd h3 = ((rec h4 rd).bind fun s => thr s.1 (fun b => some (.inl b, s.2)) fun w => ((fX15_init N s.2 q w).bind fun t => ((oI t rd 7 7 11).bind fun v => ((pI t rd 7 7 11 (v - 1)).bind fun σ => some ((Sum.inr q : Nat ⊕ Nat), σ))))) := by
      unfold oneN
      rw [n1, Option.bind_some]
      exact gT_n (by rw [T4]; exact Nat.le_refl _) (by rw [T4]; exact Nat.le_refl _)
    rcases hR c8 _ _ _ _ _ X4 w4 with H | ⟨c, h5, σ5, t', O', x, L0, k, y1, y2, y3, y4, y5, y6, y7, y8⟩
    · exact Or.inl (H.step (fun fa h' z => by rw [eN, z]; rfl) (by omega) (by omega) (by omega) st)
    · obtain ⟨⟨P5, R6⟩, ⟨T5, A5, I5⟩, S5, f5, o5, d1, d2⟩ := y5
      have d1' : t' + 1 ≤ 2 * O' := d1
      obtain ⟨a1, a2, a3, a4⟩ := y7.1.2.2 q z4 (show ¬ q = rd by omega)
      have G5 : kG h5 = kG h0 := R6.1.2.1.1.2.1
      have rm1 : Z + t' + 0 + 10 ≤ kG h5 1 := by rw [G5]; omega
      have rm2 : W + 8 * t' + 8 * 0 + 100 ≤ kG h5 2 := by rw [G5]; omega
      have gz : kG h5 0 ≤ q := by have := R3.1.2.2.2.1.1; rw [G3] at this; rw [G5, eq]; exact this
      have gr5 : kG h5 0 ≤ rd := R6.rb.1.2.2.1
      have ini : fX15_init N h5 q c = some (tR h5 q 0 (some c)) := by
        unfold fX15_init
        rw [pR_n (by rw [a1, T4q]; exact Nat.le_refl _) (by rw [a1, T4q]; exact Nat.le_refl _) gz, Option.bind_some]
      have od : ond (fun y => y = q) h5 (tR h5 q 0 (some c)) := ond.tR
      have z5 : q < kZ h5 := Nat.lt_of_lt_of_le z4 y7.1.1
      have K5 : sK rd h (tR h5 q 0 (some c)) := ((oneI_k.1.trans K4).trans y7).w od (by rw [eq]; exact Nat.le_trans (Nat.le_refl _) K3.1.1) rl
      have T6 : kT (tR h5 q 0 (some c)) rd = 7 := T5
      have sub : CondR (tR h5 q 0 (some c)) (kI (tR h5 q 0 (some c))) b F (L0.length + x) c (L0 ++ List.replicate x (10, 0, 0)) := y8.ond od (fun y _ z => by have z : y = q := z; rw [z]; exact Or.inr ⟨Or.inl (a1.trans T4q), by rw [a4]; exact N4q⟩) _ _ _
      have e11 : kI h5 rd 11 - 1 = nI (cn2 S) := by
        rw [y6, cn2_app]; exact pl_sl (n := 1) (by show 1 ≤ cn2 S + 1; omega)
      refine Or.inr ⟨q, tI (tR h5 q 0 (some c)) rd 11 (kI h5 rd 11 - 1), σ5, t', O', x + 1, L0, k + 1, ?_, by omega, by omega, fun n => ?_, ⟨⟨P5, ?_⟩, ⟨T5, ?_, ?_⟩, ?_, f5, o5, d1, ?_⟩, ?_, sk_tI K5 (Or.inr rfl), ?_⟩
      · rw [eN, y1, Option.bind_some]
        show ((fX15_init N h5 q c).bind _) = _
        rw [ini, Option.bind_some, oI_n (by rw [T6]; exact Nat.le_refl _) (by rw [T6]; exact Nat.le_refl _), Option.bind_some, pI_n (h := tR h5 q 0 (some c)) (by rw [T6]; exact Nat.le_refl _) (by rw [T6]; exact Nat.le_refl _) gr5, Option.bind_some]
        rfl
      · rw [← Nat.add_assoc, st, y4]
      · exact prs_tI (PRS.obj (t := 0) R6 od (fun y _ z => by have z : y = q := z; rw [z, a1, T4q]; exact ⟨by rw [eq]; exact R3.1.2.1.1.1, by decide, by decide⟩) (Nat.le_refl _) (Nat.le_refl _) rm1 rm2) (by decide)
      · exact (K5.2.2.1 9 (by decide)).trans A
      · rw [kI_tI, if_neg (by omega)]; exact I5
      · rw [List.replicate_succ, ← List.singleton_append, ← List.append_assoc]; exact S5
      · rw [List.replicate_succ, ← List.singleton_append, ← List.append_assoc]; exact d2
      · rw [kI_tI, if_pos ⟨rfl, rfl⟩, e11]
      · refine cond_tI (d := L0.length + x + 1) T6 ⟨⟨z5, Or.inr (Or.inl (by have := R.1.2.1.2.2.1; have := R3.1.2.1.1.1; omega))⟩, Or.inl ⟨a1.trans T4q, ?_, L0 ++ List.replicate x (10, 0, 0), ?_, by rw [List.replicate_succ', List.append_assoc]⟩⟩
        · unfold isr rf; rw [kR_tR, if_pos ⟨rfl, rfl⟩]; rfl
        · rw [show rf (tR h5 q 0 (some c)) q 0 = c by unfold rf; rw [kR_tR, if_pos ⟨rfl, rfl⟩]; rfl]; exact sub
end PUL
