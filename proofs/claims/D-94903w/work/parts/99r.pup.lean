/-! sentences: a round of and() -/
section PUP
variable {h0 h h' h2 : HS} {σ0 σ σ' σ1 : MS} {N b rd sz Z W a O t n c : Nat} {F : Nat → Nat} {S : List Nat} {C L : List CD3} {rec : HS → Nat → Option ((Nat ⊕ Nat) × HS)}
theorem and_st (hN : 200000 ≤ N) (m1 : Z + 60 ≤ kG h0 1) (m2 : W + 500 ≤ kG h0 2) (h11 : lastN S 11)
    (hR : ∀ t' O' C' h' σ', SX h0 b rd sz Z W a σ0 t' O' (S ++ [11]) C' false h' σ' → kI h' rd 11 = nI (cn2 (S ++ [11])) → OneC N h0 b rd sz Z W a F σ0 (rec h' rd) O' (S ++ [11]) C' h' σ')
    (hI : AndI N h0 b rd sz Z W a F σ0 t O S C h σ c L) (wd : fX5_isWord σ 6385252 = 1) (wc : fX6_is N h rd (kG h 28) = some 1) (k11 : gI σ 11 ≠ 0) :
    (∃ fa h', (∀ n, lX13_and_5 N rec (n + 1) h rd c = some (.inr (.inl fa, h'))) ∧ SFw N h0 Z W σ0 O (some (.inl fa, h')) σ) ∨
    ∃ c' h' σ' t' O' L' k, (∀ n, lX13_and_5 N rec (n + 1) h rd c = lX13_and_5 N rec n h' rd c') ∧ O < O' ∧ O' ≤ 20 ∧ k ≤ 3 * (O' - O) ∧ (∀ n, lX5_sentence_48 N (n + k) σ 1 = lX5_sentence_48 N n σ' 1) ∧ AndI N h0 b rd sz Z W a F σ0 t' O' S C h' σ' c' L' ∧ sK rd h h' := by
  obtain ⟨Sx, Cx, σ2, σ3, X0, A, w11, hc, hl⟩ := hI
  obtain ⟨⟨P, R⟩, ⟨T, A9, I⟩, hS, f15, hO, b1, b2⟩ := id X0
  have b1 : t + 1 ≤ 2 * O := b1
  have hl' : (C ++ L).length + S.length + 1 ≤ 2 * O := hl
  have i50 : gI σ 50 = 1 := hS.1.2.2.2.2
  obtain ⟨p1, p2, p3, p4⟩ := sm_push' A.2.2.2.2 (by omega) (k := 11) (Or.inl rfl)
  obtain ⟨σ4, e4⟩ : ∃ s, s = sI (sI (aS σ3 45 (upd (gA σ3 45) S.length (nI 11))) 48 (nI (S.length + 1))) 50 0 := ⟨_, rfl⟩
  have W4 := sm_wh (v := false) p3
  rw [show sI (sI (aS σ3 45 (upd (gA σ3 45) S.length (nI 11))) 48 (nI (S.length + 1))) 50 (bI false) = σ4 from e4.symm] at W4
  have tk : tkS σ σ4 := ((A.2.1.trans A.2.2.1).trans p4).trans W4.2
  have be : fX5_behind N σ = ((fX5_next N σ4).bind fun r => some (1, r)) := by
    rw [be_and (by omega) A h11 (by omega) wd, show wA σ3 45 (gI σ3 48) 11 = _ from p1, Option.bind_some, e4, ← p2]
    rfl
  have R4 : PRS h0 b rd sz 200 (Z + t) (W + 8 * t) true P h σ4 := R.ms (tk.2.2.2 1 (by decide) (by decide)) (by rw [tk.2.2.1]) tk.2.1 fun k hk => tk.1 k (by omega)
  obtain ⟨h3, σ5, P1, g1, g2, R5, g4, g5, g6⟩ := go_both (N := N) hN R4.1
  have S5 : SM σ0 (S ++ [11]) (C ++ L) O false σ5 := sm_mk W4.1 g6.m
  have st : ∀ n, lX5_sentence_48 N (n + 1) σ 1 = lX5_sentence_48 N n σ5 1 := fun n => by
    rw [lp_be i50 k11 (show fX5_behind N σ = some (1, σ5) by rw [be, g2, Option.bind_some]), if_neg (by decide)]
  have K3 : sK rd h h3 := g6.c.sk
  have G3 : kG h3 = kG h0 := R5.1.2.1.1.2.1
  obtain ⟨n1, R6⟩ := R5.nw (k := 14) (n := 3) (by decide) (by rw [G3]; omega) (by rw [G3]; omega)
  obtain ⟨q, eq⟩ : ∃ q, q = kZ h3 := ⟨_, rfl⟩
  obtain ⟨h4, eh4⟩ : ∃ x, x = tA h3 14 0 3 := ⟨_, rfl⟩
  rw [← eh4, ← eq] at n1
  rw [← eh4] at R6
  have rl : rd < kZ h := R.rb.1.2.2.2.2
  have rl3 : rd < kZ h3 := R5.rb.1.2.2.2.2
  have K4 : sK rd h h4 := by rw [eh4]; exact K3.n rl
  have z4 : q < kZ h4 := by rw [eh4, eq]; exact Nat.lt_succ_self _
  have T4q : kT h4 q = 14 := by rw [eh4, eq, kT_tA, if_pos rfl]
  have N4q : kR h4 q 0 = none := by rw [eh4, eq, kR_tA, if_pos rfl]
  have T4 : kT h4 rd = 7 := K4.2.1.trans T
  have i4 : ∀ j, j = 10 ∨ j = 11 → kI h4 rd j = kI h rd j := fun j hj => by
    rw [eh4, kI_tA, if_neg (by omega)]; exact g6.c.2.2.2 j (by omega)
  have cn : cn2 (S ++ [11]) = cn2 S := by rw [cn2_app]; rfl
  have X4 : SX h0 b rd sz Z W a σ0 (t + 1) O (S ++ [11]) (C ++ L) false h4 σ5 := by
    refine ⟨⟨P1, R6⟩, ⟨T4, (K4.2.2.1 9 (by decide)).trans A9, ?_⟩, S5, ?_, hO, ?_, ?_⟩
    · rw [i4 10 (Or.inl rfl)]; exact I
    · rw [g6.2.2.2.2.2.2 15 (by decide) (by decide) (by decide) (by decide) (by decide), tk.1 15 (by decide)]; exact f15
    · show t + 1 + 0 ≤ 2 * O; omega
    · rw [List.length_append (as := S)]; show (C ++ L).length + (S.length + 1) + 0 ≤ 2 * O; omega
  have eN : ∀ n, lX13_and_5 N rec (n + 1) h rd c = ((rec h4 rd).bind fun r6 => thr r6.1 (fun b6 => some (.inr (.inl b6, r6.2))) fun w6 => ((fX18_init N r6.2 q c w6 1).bind fun r7 => lX13_and_5 N rec n r7 rd q)) := fun n => by
    rw [lX13_and_5, gT_n (by rw [T]; exact Nat.le_refl _) (by rw [T]; exact Nat.le_refl _), wc, Option.bind_some, if_neg (by decide), gT_n (by rw [T]; exact Nat.le_refl _) (by rw [T]; exact Nat.le_refl _), g1, Option.bind_some, n1, Option.bind_some]
    exact gT_n (by rw [T4]; exact Nat.le_refl _) (by rw [T4]; exact Nat.le_refl _)
  rcases hR _ _ _ _ _ X4 (by rw [i4 11 (Or.inr rfl), cn]; exact w11) with H | ⟨c2, h5, σ6, t', O', x, L0, k, y1, y2, y3, y4, y5, y6, y7, y8⟩
  · obtain ⟨fa, h', -, -, z, -⟩ := id H
    exact Or.inl ⟨fa, h', fun n => by rw [eN, z]; rfl, H.sw (fun _ _ y => by rw [← z]; exact y) st⟩
  · obtain ⟨⟨P5, R7⟩, ⟨T5, A5, I5⟩, S6, f5, o5, d1, d2⟩ := id y5
    have d1' : t' + 1 ≤ 2 * O' := d1
    have d2' : (C ++ L ++ L0).length + (S ++ [11] ++ List.replicate x 10).length + 1 ≤ 2 * O' := d2
    have ls : (S ++ [11] ++ List.replicate x 10).length = S.length + 1 + x := by rw [List.length_append, List.length_append, List.length_replicate]; rfl
    rw [ls] at d2'
    obtain ⟨a1, a2, a3, a4⟩ := y7.1.2.2 q z4 (show ¬ q = rd by omega)
    have G5 : kG h5 = kG h0 := R7.1.2.1.1.2.1
    have gz : kG h5 0 ≤ q := by have := R5.1.2.2.2.1.1; rw [G3] at this; rw [G5, eq]; exact this
    have K5 : sK rd h h5 := K4.trans y7
    have H1 : CondR h5 (kI h5) b F L.length c L := hc.ond K5.1 (fun y _ z => by have z : y = rd := z; rw [z, T]; exact Or.inl ⟨by decide, by decide⟩) _ _ _
    have z0 := R5.1.2.1.1.1
    have zb := R.1.2.1.2.2.1
    have z5 : q < kZ h5 := Nat.lt_of_lt_of_le z4 y7.1.1
    obtain ⟨h6, u1, u2, u3, u4, u5, u6⟩ := two_set (N := N) (v := true) (a1.trans T4q) (by rw [a4]; exact N4q) gz z5 (by omega) H1 y8
    have K6 : sK rd h h6 := K5.w u2 (by rw [eq]; exact K3.1.1) rl
    obtain ⟨v1, v2, v3, v4⟩ := u2.2.2 rd R7.rb.1.2.2.2.2 (show ¬ rd = q by omega)
    have rm1 : Z + t' + 0 + 10 ≤ kG h5 1 := by rw [G5]; omega
    have rm2 : W + 8 * t' + 8 * 0 + 100 ≤ kG h5 2 := by rw [G5]; omega
    obtain ⟨s2, s3, AP⟩ := andp_2 (N := N) (by omega) S6 (by omega)
    refine Or.inr ⟨q, h6, σ6, t', O', L ++ (L0 ++ List.replicate x (10, 0, 0)) ++ [(11, 0, 0)], k + 1, fun n => ?_, y2, o5, by omega, fun n => ?_, ⟨_, _, s2, s3, ⟨⟨P5, ?_⟩, ⟨v1.trans T5, by rw [v4]; exact A5, by rw [v3]; exact I5⟩, S6, f5, o5, d1, d2⟩, AP, by rw [v3, y6, cn], ?_, ?_⟩, K6⟩
    · rw [eN, y1, Option.bind_some]
      show ((fX18_init N h5 q c c2 1).bind _) = _
      rw [show fX18_init N h5 q c c2 1 = some h6 from u1, Option.bind_some]
    · rw [← Nat.add_assoc, st, y4]
    · exact PRS.obj (t := 0) R7 u2 (fun y _ z => by have z : y = q := z; rw [z, a1, T4q]; exact ⟨by rw [eq]; exact z0, by decide, by decide⟩) (by rw [u4]; exact Nat.le_refl _) (by rw [u5]; exact Nat.le_refl _) rm1 rm2
    · refine CondR.up _ _ _ _ u6 ?_
      rw [List.length_append, List.length_append, List.length_append, List.length_replicate]; exact Nat.le_refl _
    · simp only [List.length_append, List.length_replicate, List.length_cons, List.length_nil] at d2' ⊢
      omega
end PUP
