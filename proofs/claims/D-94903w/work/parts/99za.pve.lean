/-! houses: lines fade and rug -/
def mFade (N : Nat) (σ : MS) : Option (Int32 × MS) := (if (fX5_isWord σ 1717658725) = 0 then some (0, (fX5_bad σ 1).2) else (if (gI σ 21) = 0 then ((fX5_next N (sI σ 21 1)).bind fun r15 => ((fX5_takes N r15 1 9).bind fun r16 => (if r16.1 = 0 then (some (0, r16.2)) else ((wA r16.2 7 6 (gI r16.2 18)).bind fun σ18 => some (1, σ18))))) else some (0, (fX5_bad σ 3).2)))
def mRug (N : Nat) (σ : MS) : Option (Int32 × MS) := (if (gI σ 20) = 0 then ((fX5_next N (sI σ 20 1)).bind fun r79 => (osm (lX5_line_34 N N r79 0) id fun q84 => some (1, q84))) else some (0, (fX5_bad σ 3).2))
section PVE
variable {S : Nat → Prop} {h0 h h' h2 : HS} {σ0 σ σ' : MS} {N b rd sz lim P Zm Wm Z W a l n q p w : Nat} {sp : Bool} {F F' : Nat → Nat} {nm nm' : Nat → Int64}
theorem HOK.fa (H : HOK F) (e : ∀ i, i ≠ 6 → F' i = F i) (h6 : 1 ≤ F' 6 ∧ F' 6 ≤ 9) : HOK F' := by
  obtain ⟨⟨a0, a1, a2, a3, a4, a5, -⟩, c1, c2, c3, c4, c5⟩ := H
  unfold HOK tuf
  rw [e 0 (by decide), e 1 (by decide), e 2 (by decide), e 3 (by decide), e 4 (by decide), e 5 (by decide)]
  refine ⟨⟨a0, a1, a2, a3, a4, a5, h6⟩, fun p hp => ?_, fun p h1 h2 => ?_, fun t ht => ?_, fun k hk => ?_, fun w hw => ?_⟩
  · rw [e _ (by omega), e _ (by omega), e _ (by omega)]; exact c1 p hp
  · rw [e _ (by omega)]; exact c2 p h1 h2
  · rw [e _ (by omega)]; exact c3 t ht
  · rw [e _ (by omega)]; exact c4 k hk
  · rw [e _ (by omega)]
    refine ⟨(c5 w hw).1, (c5 w hw).2.1, fun i hi => ?_⟩
    rw [e _ (by omega)]; exact (c5 w hw).2.2 i hi
theorem HOK.z (H : HOK F) (z : F 0 = 0) : F 3 = 0 ∧ F 5 = 0 := by
  obtain ⟨-, -, -, -, c4, c5⟩ := H
  refine ⟨?_, ?_⟩
  · by_cases c : F 3 = 0
    · exact c
    · obtain ⟨d1, d2, d3⟩ := c5 0 (by omega)
      have := (d3 0 (by omega)).1
      omega
  · by_cases c : F 5 = 0
    · exact c
    · have := (c4 0 (by omega)).1
      omega
theorem HOK.ru (H : HOK F) (z3 : F 3 = 0) (z5 : F 5 = 0) (e : ∀ i, i ≠ 0 → i ≠ 1 → F' i = F i) (h0 : F' 0 ≤ 12) (h1 : F' 1 ≤ 12) : HOK F' := by
  obtain ⟨⟨a0, a1, a2, a3, a4, a5, a6⟩, c1, c2, c3, c4, c5⟩ := H
  unfold HOK
  rw [e 2 (by decide) (by decide), e 3 (by decide) (by decide), e 4 (by decide) (by decide), e 5 (by decide) (by decide), e 6 (by decide) (by decide)]
  refine ⟨⟨h0, h1, a2, a3, a4, a5, a6⟩, fun p hp => ?_, fun p h1 h2 => ?_, fun t ht => ?_, fun k hk => by omega, fun w hw => by omega⟩
  · rw [e _ (by omega) (by omega), e _ (by omega) (by omega), e _ (by omega) (by omega)]; exact c1 p hp
  · rw [e _ (by omega) (by omega)]; exact c2 p h1 h2
  · rw [e _ (by omega) (by omega)]; exact c3 t ht
/-- only fields of the house change -/
theorem hb_f (H : HBc b rd h F nm) (K : ond (fun q => q = rd + 1) h h') (ta : kT h' (rd + 1) = 2) (ra : kR h' (rd + 1) = kR h (rd + 1)) (ia : kI h' (rd + 1) 0 = nI (F' 0) ∧ kI h' (rd + 1) 1 = nI (F' 1) ∧ kI h' (rd + 1) 2 = nI (F' 6) ∧ kI h' (rd + 1) 4 = nI (F' 4)) (ok : HOK F') (e : ∀ i, i ≠ 0 → i ≠ 1 → i ≠ 6 → F' i = F i) : HBc b rd h' F' nm := by
  have hl : ∀ j, 2 ≤ j → j ≤ 4 → LstR h (kI h) b (rd + j) (F (fN j)) := fun j j1 j2 => hb_lst H j1 j2
  have t2 : kT h (rd + 1) = 2 := H.1.2.2.1
  have nk : ∀ q k, kT h q = k → k ≠ 2 → ¬ q = rd + 1 := fun q k e1 e2 z => by rw [z, t2] at e1; omega
  have fn : ∀ j, 2 ≤ j → j ≤ 4 → F' (fN j) = F (fN j) := fun j j1 j2 => by
    have : fN j = 2 ∨ fN j = 3 ∨ fN j = 5 := by unfold fN; split <;> omega
    exact e _ (by omega) (by omega) (by omega)
  have lo : ∀ j, 2 ≤ j → j ≤ 4 → LstR h' (kI h') b (rd + j) (F' (fN j)) ∧ ∀ i, le h' (rd + j) i = le h (rd + j) i := fun j j1 j2 => by
    rw [fn j j1 j2]
    have := (hl j j1 j2).ond K (show ¬ rd + j = rd + 1 by omega) (nk _ 39 (hl j j1 j2).2.2.2.1.2.1 (by decide))
    exact ⟨this.1, this.2.2⟩
  have e5 := H.2.1 5 (by decide) (by decide)
  have e6 := H.2.1 6 (by decide) (by decide)
  have e7 := H.2.1 7 (by decide) (by decide)
  have w8 : wlR h (kI h) b F (rf h (rd + 1) 8) := H.1.2.2.2.2.2.2.2.2.2.2.2.1
  have d9 : drR h (kI h) b F (rf h (rd + 1) 9) := H.1.2.2.2.2.2.2.2.2.2.2.2.2
  have hE : nEl (fun q => q = rd + 1) h := fun q _ z => by have z : q = rd + 1 := z; rw [z, t2]; decide
  refine hb_mk0 H K (fun j j1 j2 => ⟨show ¬ rd + j = rd + 1 by omega, nk _ 39 (hl j j1 j2).2.2.2.1.2.1 (by decide)⟩) (show ¬ rd = rd + 1 by omega) (fun k _ _ => by rw [ra]) fn (hou_mk K hE H.1 ok ta (fun k _ _ => by rw [ra]) ia ?_ ?_ ?_ (fun p hp => Or.inl ?_) (fun w hw => Or.inl ?_) (fun k hk => Or.inl ?_) ?_ ?_)
  · rw [e5]; exact (lo 2 (by decide) (by decide)).1
  · rw [e6]; exact (lo 3 (by decide) (by decide)).1
  · rw [e7]; exact (lo 4 (by decide) (by decide)).1
  · rw [e5]
    rw [e 2 (by decide) (by decide) (by decide)] at hp
    exact ⟨hp, (lo 2 (by decide) (by decide)).2 p, e _ (by omega) (by omega) (by omega), e _ (by omega) (by omega) (by omega), e _ (by omega) (by omega) (by omega), rfl⟩
  · rw [e6]
    rw [e 3 (by decide) (by decide) (by decide)] at hw
    exact ⟨hw, (lo 3 (by decide) (by decide)).2 w, e _ (by omega) (by omega) (by omega), fun i _ => e _ (by omega) (by omega) (by omega), rfl⟩
  · rw [e7]
    rw [e 5 (by decide) (by decide) (by decide)] at hk
    exact ⟨hk, (lo 4 (by decide) (by decide)).2 k, e _ (by omega) (by omega) (by omega)⟩
  · have := w8.ond K (nk _ 33 w8.2.1 (by decide))
    refine ⟨this.1, this.2.1, this.2.2.1, fun t ht => ?_⟩
    rw [e _ (by omega) (by omega) (by omega)]; exact this.2.2.2 t ht
  · have := d9.ond K (nk _ 33 d9.2.1 (by decide))
    refine ⟨this.1, this.2.1, this.2.2.1, fun t ht => ?_⟩
    rw [e 5 (by decide) (by decide) (by decide)]
    rcases this.2.2.2 t ht with ⟨x1, k, x2, x3⟩ | ⟨x1, x2⟩
    · exact Or.inl ⟨x1, k, x2, by rw [e _ (by omega) (by omega) (by omega)]; exact x3⟩
    · exact Or.inr ⟨x1, fun k hk => by rw [e _ (by omega) (by omega) (by omega)]; exact x2 k hk⟩
theorem once_ok (H : HBc b rd h F nm) (gr : kG h 0 ≤ rd) {x1 new : Int32} (bit : fX1_isOf (kI h rd 10) x1 = 0) (en : kI h rd 10 ||| (1 <<< (x1 &&& 31)) = new) : fX7_once N h rd x1 = (fX6_go N (tI h rd 10 new) rd).bind fun r => some (.inr (), r) := by
  have T := H.2.2.2.2.2.1
  unfold fX7_once
  rw [H.o, Option.bind_some, if_pos bit, H.gt, need_1, Option.bind_some]
  simp only [thr]
  rw [H.o, Option.bind_some, pI_n (Nat.le_of_eq T.symm) (Nat.le_of_eq T) gr, Option.bind_some, en]
  exact gT_n (Nat.le_of_eq T.symm) (Nat.le_of_eq T)
theorem once_no (H : HBc b rd h F nm) {x1 : Int32} {fa : Nat} (bit : fX1_isOf (kI h rd 10) x1 = 1) (hf : fX6_need N h rd 0 3 = some (.inl fa, h')) : fX7_once N h rd x1 = some (.inl fa, h') := by
  unfold fX7_once
  rw [H.o, Option.bind_some, if_neg (by rw [bit]; decide), H.gt, hf, Option.bind_some]
  rfl
theorem hT_le (H : HOK F) : hT F ≤ 52 := by
  obtain ⟨⟨-, -, a2, a3, -, a5, -⟩, -⟩ := H
  unfold hT; omega
theorem isIn_rng {k x y : Nat} (hk : k ≤ 999) (hy : y ≤ 999) (hx : x ≤ 999) (h : fX1_isIn (nI k) (nI x) (nI y) = 1) : x ≤ k ∧ k ≤ y := by
  unfold fX1_isIn at h
  by_cases c1 : k < x
  · rw [if_pos (nI_lt c1 (by omega))] at h; exact absurd h (by decide)
  · rw [if_neg (nI_nlt (by omega) (by omega))] at h
    by_cases c2 : y < k
    · rw [if_pos (nI_lt c2 (by omega))] at h; exact absurd h (by decide)
    · omega
theorem fade_c (hN : 200000 ≤ N) (m1 : Z + 80 ≤ kG h0 1) (m2 : W + 4000 ≤ kG h0 2) (X : HBS h0 b rd sz Z W σ0 F P h σ) : LinC h0 b rd sz Z W σ0 (fX7_fade N h rd) (mFade N σ) P := by
  obtain ⟨R, H, hA, hM, f15, ln, u, v, ⟨u2, v2⟩, on, i20, i21, u0⟩ := X
  have ht := hT_le H.1.1
  have G : kG h = kG h0 := R.1.2.1.1.2.1
  have gr : kG h 0 ≤ rd := R.rb.1.2.2.1
  have z0 : kZ h0 ≤ rd := R.1.2.1.2.1
  obtain ⟨vv, wc, wd, hv⟩ := is_both (N := N) (w := 1717658725) hN R (k := 42) (by decide) (by decide) (by unfold okW; decide) (by decide)
  unfold fX7_fade mFade
  rw [H.gt, wc, Option.bind_some, H.gt, wd]
  rcases hv with rfl | ⟨rfl, kd⟩
  · obtain ⟨fa, h', e1, e2⟩ := need_0 (N := N) R (k := 1) fun _ => rfl
    exact Or.inl ⟨fa, h', _, by rw [e1]; rfl, by rw [if_pos rfl], e2.mono (by omega) (by omega), hM.bad⟩
  · have q3 : kI h rd 4 = 1 ∨ kI h rd 4 = 5 → (3 : Int32) = 1 := fun z => by rw [kd] at z; rcases z with z | z <;> exact absurd z (by decide)
    rw [need_1, Option.bind_some, if_neg (by decide)]
    simp only [thr]
    rw [H.gt]
    by_cases cv : v = 1
    · have bit : fX1_isOf (kI h rd 10) 1 = 1 := by
        rw [on, cv]
        rcases (show u = 0 ∨ u = 1 by omega) with rfl | rfl <;> decide
      obtain ⟨fa, h', e1, e2⟩ := need_0 (N := N) R (k := 3) q3
      exact Or.inl ⟨fa, h', _, by rw [once_no H bit e1]; rfl, by rw [if_neg (by rw [i21, cv]; decide)], e2.mono (by omega) (by omega), hM.bad⟩
    · obtain rfl : v = 0 := by omega
      have bit : fX1_isOf (kI h rd 10) 1 = 0 := by
        rw [on]
        rcases (show u = 0 ∨ u = 1 by omega) with rfl | rfl <;> decide
      have en : kI h rd 10 ||| (1 <<< ((1 : Int32) &&& 31)) = nI (u + 2) := by
        rw [on]
        rcases (show u = 0 ∨ u = 1 by omega) with rfl | rfl <;> decide
      have R1 : PRS h0 b rd sz 900 (Z + hT F) (W + 60 * hT F) true P (tI h rd 10 (nI (u + 2))) (sI σ 21 1) := (prs_tI R (by decide)).ms rfl rfl rfl fun k hk => by rw [gI_sI, if_neg (by omega)]
      obtain ⟨h3, σ3, P1, g1, g2, R3, g4, g5, g6⟩ := go_both (N := N) hN R1.1
      have H3 : HBc b rd h3 F (fun i => gJ σ 9 (12 + i)) := (H.rk rK.tI).rk g6.c.r
      have M3 : HMe σ0 σ3 := (hM.si (k := 21) (v := 1) (by omega)).mk g6.m
      rw [once_ok H gr bit en, g1, Option.bind_some, Option.bind_some]
      simp only []
      rw [if_pos (by rw [i21]; rfl), g2, Option.bind_some, H3.a9, Option.bind_some, H3.gt]
      rcases num_both (N := N) hN R3 1 9 with ⟨fa, h', σ', q1, q2, q3, q4⟩ | ⟨x, h4, σ4, P4, x1, x2, q1, q2, q3, R4, p1, p2, K4, M4, f4⟩
      · exact Or.inl ⟨fa, h', σ', by rw [q1]; rfl, by rw [q2]; rfl, q3.mono (by omega) (by omega), M3.mk q4⟩
      · have xr : 1 ≤ x ∧ x ≤ 9 := isIn_rng (x := 1) (y := 9) x1 (by decide) (by decide) x2
        have H4 : HBc b rd h4 F (fun i => gJ σ 9 (12 + i)) := H3.ck K4
        have G4 : kG h4 = kG h0 := R4.1.2.1.1.2.1
        have t4 : kT h4 (rd + 1) = 2 := H4.1.2.2.1
        have gJ4 : gJ σ4 = gJ σ := by rw [M4.2.1, g6.2.2.2.2.2.1]; rfl
        have gA4 : gA σ4 = gA σ := by rw [M4.1, g6.2.2.2.2.1]; rfl
        have wa : wA σ4 7 6 (gI σ4 18) = some (aS σ4 7 (upd (gA σ 7) 6 (nI x))) := by rw [show wA σ4 7 6 (gI σ4 18) = some (sA σ4 7 6 (gI σ4 18)) from wA7 (n := 6) (by decide), sA_aS, gA4, q3]
        obtain ⟨h5, e5⟩ : ∃ y, y = tI h4 (rd + 1) 2 (nI x) := ⟨_, rfl⟩
        have K5 : ond (fun q => q = rd + 1) h4 h5 := by rw [e5]; exact ond.tI
        have i5 : ∀ k, kI h5 (rd + 1) k = if k = 2 then nI x else kI h4 (rd + 1) k := fun k => by
          rw [e5, kI_tI]
          by_cases c : k = 2
          · rw [if_pos ⟨rfl, c⟩, if_pos c]
          · rw [if_neg (fun z => c z.2), if_neg c]
        have s4 : ∀ k, k ≠ 6 → uF F 6 x k = F k := fun k hk => uF_o hk
        have hi4 := H4.1.2.2.2.2.1
        have H5 : HBc b rd h5 (uF F 6 x) (fun i => gJ σ 9 (12 + i)) := hb_f H4 K5 (by rw [e5]; exact t4) (by rw [e5]; rfl) ⟨by rw [i5, s4 0 (by decide)]; exact hi4.1, by rw [i5, s4 1 (by decide)]; exact hi4.2.1, by rw [i5, uF_s]; rfl, by rw [i5, s4 4 (by decide)]; exact hi4.2.2.2⟩ (H.1.1.fa s4 (by rw [uF_s]; exact xr)) fun i _ _ h6 => s4 i h6
        have rl := hb_z H4
        have v5 := K5.2.2 rd (by omega) (show ¬ rd = rd + 1 by omega)
        refine Or.inr ⟨h5, aS σ4 7 (upd (gA σ 7) 6 (nI x)), uF F 6 x, P4, ?_, ?_, ⟨?_, ?_, ?_, ?_, ?_, ?_, u, 1, ⟨u2, by decide⟩, ?_, ?_, ?_, fun z => ?_⟩, by omega, ?_⟩
        · rw [q1, Option.bind_some]
          simp only [thr]
          rw [pI_n (Nat.le_of_eq t4.symm) (Nat.le_of_eq t4) (by rw [G4, ← G]; omega), Option.bind_some, ← e5]
        · rw [q2, Option.bind_some, if_neg (show ¬ (1 : Int32) = 0 by decide)]
          show ((wA σ4 7 6 (gI σ4 18)).bind fun σ18 => some ((1 : Int32), σ18)) = _
          rw [wa, Option.bind_some]
        · have := PRS.ob2 (t := 0) (w := 0) R4 K5 (fun q _ z => by have z : q = rd + 1 := z; rw [z, t4]; exact ⟨by omega, by omega, by decide, by decide⟩) (by rw [e5]; exact Nat.le_refl _) (by rw [e5]; exact Nat.le_refl _) (by rw [G4]; omega) (by rw [G4]; omega)
          exact this.ms (gA_o (by decide)) rfl rfl fun k hk => rfl
        · show HBc b rd h5 (uF F 6 x) (fun i => gJ σ4 9 (12 + i))
          rw [gJ4]; exact H5
        · intro i hi
          rw [gA_same]; exact upd_uF hA i hi
        · exact (M3.mk M4).as
        · rw [gI_aS, f4, g6.2.2.2.2.2.2 15 (by decide) (by decide) (by decide) (by decide) (by decide), gI_sI, if_neg (by decide)]; exact f15
        · rw [i5, if_neg (by decide), H3.i3 K4.r, (H.rk rK.tI).i3 g6.c.r, gI_aS, M4.2.2 19 (by decide) (by decide) (by decide) (by decide) (by decide) (by decide) (by decide) (by decide), g6.2.2.2.2.2.2 19 (by decide) (by decide) (by decide) (by decide) (by decide), gI_sI, if_neg (by decide), kI_tIo (by omega)]; exact ln
        · rw [v5.2.2.1, K4.2.2.2 10 (by omega), g6.2.2.2.1 10 (by decide), kI_tI, if_pos ⟨rfl, rfl⟩]
        · rw [gI_aS, M4.2.2 20 (by decide) (by decide) (by decide) (by decide) (by decide) (by decide) (by decide) (by decide), g6.2.2.2.2.2.2 20 (by decide) (by decide) (by decide) (by decide) (by decide), gI_sI, if_neg (by decide)]; exact i20
        · rw [gI_aS, M4.2.2 21 (by decide) (by decide) (by decide) (by decide) (by decide) (by decide) (by decide) (by decide), g6.2.2.2.2.2.2 21 (by decide) (by decide) (by decide) (by decide) (by decide), gI_sI, if_pos rfl]; rfl
        · rw [s4 0 (by decide)]; exact u0 z
        · rw [v5.2.2.1]
          intro w1 w2
          have := p2 w1 w2
          omega
end PVE
