/-! rows of tufts: 'seen' -/
section PSR
variable {h : HS} {g0 g g' : Nat → Nat → Int32} {σ0 σ : MS} {N b a n : Nat} {F : Nat → Nat} {nm : Nat → Int64}
theorem ho_door (hH : HouR h g b a F nm) {k : Nat} (hk : k < F 5) : ((fR (iS h g) a 2 2 7).bind fun a13 => gT (iS h g) a13 15 15 (((fJ2_get N (iS h g) a13 (nI k)).bind fun r14 => gT (iS h g) r14 18 18 (gT (iS h g) r14 18 18 (fJ16_intValue N (iS h g) r14))))) = some (nI (F (169 + k))) := by
  obtain ⟨t1, t2⟩ := ho_dv hH hk
  rw [ho_R hH (k := 7) (by decide) (by decide)]
  simp only [Option.bind_some, ls_g (ho_d hH), ls_get (ho_d hH) hk]
  rw [gT_n (h := iS h g) (Nat.le_of_eq t1.symm) (Nat.le_of_eq t1), gT_n (h := iS h g) (Nat.le_of_eq t1.symm) (Nat.le_of_eq t1)]
  unfold fJ16_intValue
  rw [oI_n (h := iS h g) (Nat.le_of_eq t1.symm) (Nat.le_of_eq t1), kI_iS, t2]; rfl
/-- whether two tufts lie side by side -/
theorem seen_by (hN : 200000 ≤ N) (W : NW h g b σ F a) {fr to : Nat} (hf : fr < 144) (ht : to < 144) : (lX1_seen_87 N (iS h g) N b (nI fr) (nI to) 0 = some (.inl ()) ∧ lX5_seen_70 N σ N (nI fr) (nI to) 0 = some (.inl ())) ∨ (lX1_seen_87 N (iS h g) N b (nI fr) (nI to) 0 = some (.inr (-1, iS h g)) ∧ lX5_seen_70 N σ N (nI fr) (nI to) 0 = some (.inr (-1, σ))) := by
  refine exE2 (lp_two (fun m (_ : Unit) i => lX1_seen_87 N (iS h g) m b (nI fr) (nI to) i) (fun m (_ : Unit) i => lX5_seen_70 N σ m (nI fr) (nI to) i) 4 (fun i x y => True) (fun x y => (x = .inl () ∧ y = .inl ()) ∨ (x = .inr (-1, iS h g) ∧ y = .inr (-1, σ))) ?_ ?_ 4 0 () () N (by omega) (by omega) trivial) fun r r' e1 e2 hq => ?_
  · rintro m d _ _ hd -
    have l1 : ¬ (4 : Int32) ≤ nI d := nI_ge (b := 4) hd (by decide)
    have n1 : nI d + 1 = nI (d + 1) := nI_add _ 1
    have c1 : lX1_seen_87 N (iS h g) (m + 1) b (nI fr) (nI to) (nI d) = if oN (bes F fr d) = nI to then some (.inr (-1, iS h g)) else lX1_seen_87 N (iS h g) m b (nI fr) (nI to) (nI (d + 1)) := by
      rw [lX1_seen_87, if_neg l1, W.r3]
      simp only [Option.bind_some, ho_g W.ho, ho_bes W.2.1.1 W.ho hf hd, n1]
    have c2 : lX5_seen_70 N σ (m + 1) (nI fr) (nI to) (nI d) = if oN (bes F fr d) = nI to then some (.inr (-1, σ)) else lX5_seen_70 N σ m (nI fr) (nI to) (nI (d + 1)) := by
      rw [lX5_seen_70, if_neg l1, mo_bs W.mh hf hd]
      simp only [Option.bind_some, n1]
    by_cases q : oN (bes F fr d) = nI to
    · rw [if_pos q] at c1 c2
      exact Or.inl ⟨_, _, c1, c2, Or.inr ⟨rfl, rfl⟩⟩
    · rw [if_neg q] at c1 c2
      exact Or.inr ⟨(), (), trivial, c1, c2⟩
  · rintro m _ _ -
    refine ⟨.inl (), .inl (), ?_, ?_, Or.inl ⟨rfl, rfl⟩⟩
    · show lX1_seen_87 N (iS h g) (m + 1) b (nI fr) (nI to) (nI 4) = _
      rw [lX1_seen_87, if_pos (by decide)]
    · show lX5_seen_70 N σ (m + 1) (nI fr) (nI to) (nI 4) = _
      rw [lX5_seen_70, if_pos (by decide)]
  · rcases hq with ⟨rfl, rfl⟩ | ⟨rfl, rfl⟩
    · exact Or.inl ⟨e1, e2⟩
    · exact Or.inr ⟨e1, e2⟩
theorem op_seen (hN : 200000 ≤ N) : LO_seen N b (LR b) := by
  intro n h σ x1 x2 hL
  obtain ⟨F, a, hL⟩ := hL.f
  have hL := hL.less.th 0
  obtain ⟨σ1, es1⟩ : ∃ σ1, σ1 = sI σ 0 0 := ⟨_, rfl⟩
  rw [← es1] at hL
  have W := hL.nw
  have hF := W.1
  have hM := W.mh
  have k0 := hM.1.1.1
  have k1 := hM.1.1.2.1
  have k5 := hM.1.1.2.2.2.2.2.1
  have R7 := ho_R W.ho (k := 7) (by decide) (by decide)
  have G7 := fun {α : Type} (x : Option α) => (ls_g (ho_d W.ho) : gT (iS h (kI h)) (rf h a 7) 15 15 x = x)
  have S7 := ls_size (N := N) (ho_d W.ho)
  have r5 : rA σ1 6 5 = some (nI (F 5)) := mo_5 hM
  have e1 : fX1_seen N h b x1 x2 = (if fX1_isIn x1 0 (nI (F 5) - 1) = 0 then some (-1, h) else if fX1_isIn x2 0 (nI (F 5) - 1) = 0 then some (-1, h) else if x1 = x2 then some (-1, h) else ((fR (iS h (kI h)) a 2 2 7).bind fun a13 => gT (iS h (kI h)) a13 15 15 (((fJ2_get N (iS h (kI h)) a13 x1).bind fun r14 => gT (iS h (kI h)) r14 18 18 (gT (iS h (kI h)) r14 18 18 (fJ16_intValue N (iS h (kI h)) r14))))).bind fun r16 => ((fR (iS h (kI h)) a 2 2 7).bind fun a13 => gT (iS h (kI h)) a13 15 15 (((fJ2_get N (iS h (kI h)) a13 x2).bind fun r14 => gT (iS h (kI h)) r14 18 18 (gT (iS h (kI h)) r14 18 18 (fJ16_intValue N (iS h (kI h)) r14))))).bind fun r21 => (osm (lX1_seen_87 N h N b r16 r21 0) id fun q26 => ((fR h b 1 1 22).bind fun a27 => ((fJ3_fill_2 N h a27 0).bind fun r28 => gT r28 b 1 1 (((fX1_rows N r28 b r16 r21).bind fun r29 => ((pI r29.2 b 1 1 29 0).bind fun σ30 => ((lX1_seen_141 N N σ30 b r16 r21 r29.1 0).bind fun q53 => ((oI q53 b 1 1 29).bind fun v54 => some (v54, q53))))))))) ) := by
    show fX1_seen N (iS h (kI h)) b x1 x2 = _
    unfold fX1_seen
    rw [W.r3]
    simp only [Option.bind_some, R7, G7, S7]
    by_cases c1 : fX1_isIn x1 0 (nI (F 5) - 1) = 0
    · rw [if_pos c1, if_pos c1]; rfl
    rw [if_neg c1, if_neg c1]
    by_cases c2 : fX1_isIn x2 0 (nI (F 5) - 1) = 0
    · rw [if_pos c2, if_pos c2]; rfl
    rw [if_neg c2, if_neg c2]
    by_cases c3 : x1 = x2
    · rw [if_pos c3, if_pos c3]; rfl
    rw [if_neg c3, if_neg c3]
    cases fJ2_get N (iS h (kI h)) (rf h a 7) x1 with
    | none => rfl
    | some p =>
      simp only [Option.bind_some]
      unfold gT
      by_cases c4 : 18 ≤ kT (iS h (kI h)) p ∧ kT (iS h (kI h)) p ≤ 18
      · simp only [if_pos c4]
        cases fJ16_intValue N (iS h (kI h)) p with
        | none => rfl
        | some q =>
          simp only [Option.bind_some]
          cases fJ2_get N (iS h (kI h)) (rf h a 7) x2 with
          | none => rfl
          | some p2 =>
            simp only [Option.bind_some]
            by_cases c5 : 18 ≤ kT (iS h (kI h)) p2 ∧ kT (iS h (kI h)) p2 ≤ 18
            · simp only [if_pos c5]; rfl
            · simp only [if_neg c5]; rfl
      · simp only [if_neg c4]; rfl
  have e5 : fX5_seen N σ x1 x2 = (if fX1_isIn x1 0 (nI (F 5) - 1) = 0 then some (-1, σ1) else if fX1_isIn x2 0 (nI (F 5) - 1) = 0 then some (-1, σ1) else if x1 = x2 then some (-1, σ1) else ((rA σ1 6 (169 + x1)).bind fun v9 => ((rA σ1 6 (169 + x2)).bind fun v10 => (osm (lX5_seen_70 N σ1 N v9 v10 0) id fun q14 => ((lX5_seen_99 N N σ1 v9 v10 0).bind fun q17 => ((fX5_rowsBetween N q17 v9 v10).bind fun r18 => (lt_ (sI r18.2 42 0) fun σ19 => ((lX5_seen_138 N N σ19 v9 v10 r18.1 0).bind fun q34 => some ((gI q34 42), q34)))))))) ) := by
    unfold fX5_seen
    rw [isIn_5]
    simp only [lt_, ← es1, r5, Option.bind_some]
  rw [e1, e5]
  rcases isIn_cs x1 (n := F 5) (by omega) with ⟨c1, -⟩ | ⟨c1, i, hi, rfl⟩
  · rw [c1, if_pos rfl, if_pos rfl]; exact ⟨-1, h, σ1, rfl, rfl, hL.lr⟩
  rw [c1, if_neg (show ¬ (1 : Int32) = 0 by decide), if_neg (show ¬ (1 : Int32) = 0 by decide)]
  rcases isIn_cs x2 (n := F 5) (by omega) with ⟨c2, -⟩ | ⟨c2, j, hj, rfl⟩
  · rw [c2, if_pos rfl, if_pos rfl]; exact ⟨-1, h, σ1, rfl, rfl, hL.lr⟩
  rw [c2, if_neg (show ¬ (1 : Int32) = 0 by decide), if_neg (show ¬ (1 : Int32) = 0 by decide)]
  by_cases c3 : nI i = nI j
  · rw [if_pos c3, if_pos c3]; exact ⟨-1, h, σ1, rfl, rfl, hL.lr⟩
  have tf := hM.1.2.2.2.2.1 i hi
  have tt := hM.1.2.2.2.2.1 j hj
  have hf := tuf_lt k0 k1 tf
  have ht := tuf_lt k0 k1 tt
  have m1 : rA σ1 6 (169 + nI i) = some (nI (F (169 + i))) := by rw [pl_la]; exact mo_i hM (by show 169 + i < 429; omega)
  have m2 : rA σ1 6 (169 + nI j) = some (nI (F (169 + j))) := by rw [pl_la]; exact mo_i hM (by show 169 + j < 429; omega)
  rw [if_neg c3, if_neg c3, ho_door W.ho hi, ho_door W.ho hj, m1]
  simp only [Option.bind_some, m2]
  rcases seen_by (N := N) hN W hf ht with ⟨d1, d2⟩ | ⟨d1, d2⟩
  case inr =>
    rw [show lX1_seen_87 N h N b (nI (F (169 + i))) (nI (F (169 + j))) 0 = _ from d1, d2]
    exact ⟨-1, h, σ1, rfl, rfl, hL.lr⟩
  rw [show lX1_seen_87 N h N b (nI (F (169 + i))) (nI (F (169 + j))) 0 = _ from d1, d2]
  obtain ⟨t22, l22⟩ := hF.2.2.2.2.1 2049 33 144 rfl
  obtain ⟨g1, eg1⟩ : ∃ g1, g1 = flG (kI h) (b + 2049) 144 0 := ⟨_, rfl⟩
  have f1 : fJ3_fill_2 N h (b + 2049) 0 = some (iS h g1) := by rw [eg1]; exact co_fill2 (g := kI h) hN t22 l22 (by decide) (Nat.le_trans hF.2.1 (Nat.le_add_right _ _))
  obtain ⟨f, a1, a2⟩ := mfill (N := N) (fun m s i' => lX5_seen_99 N m s (nI (F (169 + i))) (nI (F (169 + j))) i') 41 144 0 rfl (by decide) (fun m s k hk => by
    show lX5_seen_99 N (m + 1) s (nI (F (169 + i))) (nI (F (169 + j))) (nI k) = _
    rw [lX5_seen_99, if_neg (show ¬ (144 : Int32) ≤ nI k from nI_ge (b := 144) hk (by decide)), show nI k + 1 = nI (k + 1) from nI_add _ 1]; rfl) (fun m s => by
    show lX5_seen_99 N (m + 1) s (nI (F (169 + i))) (nI (F (169 + j))) (nI 144) = _
    rw [lX5_seen_99, if_pos (by decide)]) σ1 (by omega)
  have ga : ∀ k, k ≠ 41 → gA (aS σ1 41 f) k = gA σ1 k := fun k hk => gA_o hk
  have x1 : ∀ q, q ≠ b + 2049 → g1 q = kI h q := fun q hq => by rw [eg1, flG_o hq]
  have W1 : NW h g1 b (aS σ1 41 f) F a := W.of (fun q q1 q2 => x1 q (by omega)) (ga 6 (by decide)) rfl
  obtain ⟨c, g2, σ2, c4, r1, r2, r3, r4, r5', r6, r7, r8, r9⟩ := rows_both (N := N) (cut := fun _ => false) hN W1 tf ht (fun t ht => by rw [eg1, flG_i ht]; rfl) (fun t ht => by rw [gA_same, a2 t ht]; rfl)
  have S : SIv b (kI h) σ1 c (u2 g2 b 29 0) (sI σ2 42 0) := by
    refine ⟨fun x y1 y2 => by rw [u2_nf y1, r3 x y1 (by omega), x1 x (by omega)], fun k z1 z2 => by rw [u2_ne (Or.inr z2), r4 k z1, x1 b (by omega)], fun k z1 z2 z3 z4 z5 z6 => by rw [show gA (sI σ2 42 0) k = gA σ2 k from rfl, r6 k z1 z2 z3 z4 z6, ga k z6], fun k z1 z2 => by rw [gI_sI, if_neg z1, r7 k z2]; rfl, ?_, ⟨fun _ => false, fun t ht => by rw [u2_nf (by omega)]; exact r5' t ht, fun t ht => r9 t ht⟩, 0, by omega, u2_eq .., by rw [gI_sI, if_pos rfl]; rfl, fun k hk => absurd hk (Nat.not_lt_zero _)⟩
    show gJ σ2 = gJ σ1
    rw [r8]; rfl
  obtain ⟨g', σ', p1, p2, p3⟩ := seen_loop (N := N) hN W tf ht 144 0 c _ _ N (by omega) (by omega) S
  obtain ⟨s1, s2, s3, s4, s5, -, L, s8, s9, s10, s11⟩ := p3
  have f2 : fR h b 1 1 22 = some (b + 2049) := fx_R22 hF (kI h)
  have oL : oI (iS h g') b 1 1 29 = some (nI L) := (fx_b hF g').trans (by rw [s9])
  refine ⟨nI L, iS h g', σ', ?_, ?_, ?_⟩
  · simp only [osm, f2, Option.bind_some, f1, fx_g hF, r1, fx_p hF]
    rw [show lX1_seen_141 N N (iS h (u2 g2 b 29 0)) b (nI (F (169 + i))) (nI (F (169 + j))) (nI c) 0 = _ from p1]
    simp only [Option.bind_some, oL]
  · simp only [osm]
    rw [show lX5_seen_99 N N σ1 (nI (F (169 + i))) (nI (F (169 + j))) 0 = _ from a1]
    simp only [Option.bind_some, r2, lt_]
    rw [show lX5_seen_138 N N (sI σ2 42 0) (nI (F (169 + i))) (nI (F (169 + j))) (nI c) 0 = _ from p2]
    simp only [Option.bind_some, s10]
  · obtain ⟨-, -, hLt, -, -, ⟨hR1, hR2, -⟩, -⟩ := id hL
    have A := fun k z1 z2 z3 z4 z5 z6 => s3 k z1 z2 z3 z4 z5 z6
    have := hL.chg (g' := g') (σ' := σ') (fun q q1 q2 => s1 q q1 (by omega)) (s2 7 (by decide) (by decide)) (hLt.of (s2 1 (by decide) (by decide)) (s2 2 (by decide) (by decide)) (s1 _ (by omega) (by omega)) (s4 2 (by decide) (by decide)) (s4 15 (by decide) (by decide)) (s3 1 (by decide) (by decide) (by decide) (by decide) (by decide) (by decide))) ?_ (s3 6 (by decide) (by decide) (by decide) (by decide) (by decide) (by decide)) (by rw [s5]) (by rw [s5]) (by rw [s5]) (s3 22 (by decide) (by decide) (by decide) (by decide) (by decide) (by decide)) (s3 52 (by decide) (by decide) (by decide) (by decide) (by decide) (by decide)) (s3 54 (by decide) (by decide) (by decide) (by decide) (by decide) (by decide)) (s4 23 (by decide) (by decide))
    · exact this.lr
    · refine ⟨?_, ?_, L, by omega, s9, s10, s11⟩
      · rw [s4 28 (by decide) (by decide), s4 29 (by decide) (by decide), s2 17 (by decide) (by decide), s2 16 (by decide) (by decide), s3 26 (by decide) (by decide) (by decide) (by decide) (by decide) (by decide), s3 27 (by decide) (by decide) (by decide) (by decide) (by decide) (by decide), s1 (b + 2037) (by omega) (by omega), s1 (b + 2038) (by omega) (by omega)]
        exact hR1
      · rw [s4 35 (by decide) (by decide), s3 31 (by decide) (by decide) (by decide) (by decide) (by decide) (by decide), s1 (b + 2048) (by omega) (by omega)]
        exact hR2
end PSR
