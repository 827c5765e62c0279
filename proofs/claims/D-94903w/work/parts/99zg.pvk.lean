/-! houses: line person, both sides -/
section PVK
variable {S : Nat → Prop} {h0 h h' h2 : HS} {σ0 σ σ' : MS} {N b rd sz lim P Zm Wm Z W a l n q p w : Nat} {sp : Bool} {F F' : Nat → Nat} {nm nm' : Nat → Int64}
theorem pi_n {x : Nat} (T : kT h x = 9) (g : kG h 0 ≤ x) (v1 v2 v3 : Int32) : ∃ h', fX10_init N h x q v1 v2 v3 = some h' ∧ ond (fun y => y = x) h h' ∧ kT h' x = 9 ∧ kR h' x 0 = some q ∧ kI h' x 1 = v1 ∧ kI h' x 2 = v2 ∧ kI h' x 3 = v3 ∧ kZ h' = kZ h ∧ kW h' = kW h := by
  refine ⟨tI (tI (tI (tR h x 0 (some q)) x 1 v1) x 2 v2) x 3 v3, ?_, ((ond.tR.trans ond.tI).trans ond.tI).trans ond.tI, T, ?_, ?_, ?_, ?_, rfl, rfl⟩
  · unfold fX10_init fX9_init
    rw [pR_n (h := h) (by rw [T]; decide) (by rw [T]; decide) g, Option.bind_some, Option.bind_some, pI_n (h := tR h x 0 (some q)) (Nat.le_of_eq T.symm) (Nat.le_of_eq T) g, Option.bind_some, pI_n (h := tI (tR h x 0 (some q)) x 1 v1) (Nat.le_of_eq T.symm) (Nat.le_of_eq T) g, Option.bind_some, pI_n (h := tI (tI (tR h x 0 (some q)) x 1 v1) x 2 v2) (Nat.le_of_eq T.symm) (Nat.le_of_eq T) g, Option.bind_some]
  · show kR (tR h x 0 (some q)) x 0 = _
    rw [kR_tR, if_pos ⟨rfl, rfl⟩]
  · rw [kI_tI, if_neg (by omega), kI_tI, if_neg (by omega), kI_tI, if_pos ⟨rfl, rfl⟩]
  · rw [kI_tI, if_neg (by omega), kI_tI, if_pos ⟨rfl, rfl⟩]
  · rw [kI_tI, if_pos ⟨rfl, rfl⟩]
theorem e12_of (R : PRS h0 b rd sz lim Zm Wm sp P h σ) : kN h (kG h 12) = 0 ∧ kG h 12 < rd := by
  obtain ⟨-, ⟨g1, g2, g3, g4⟩, -⟩ := R.1
  obtain ⟨⟨s2, s3, s4⟩, -⟩ := g4.2.2
  rw [g1.2.1, (g1.2.2 _ s2.1).2.1]
  exact ⟨s4, by have := s2.1; omega⟩
theorem wA7f {f : Nat → Int32} {i : Nat} {v : Int32} (hi : i < 429) (hf : gA σ 7 = f) : wA σ 7 (nI i) v = some (aS σ 7 (upd f i v)) := by rw [wA7 hi, sA_aS, hf]
theorem pers_c (hN : 200000 ≤ N) (m1 : Z + 80 ≤ kG h0 1) (m2 : W + 4000 ≤ kG h0 2) (X : HBS h0 b rd sz Z W σ0 F P h σ) (kd : kI h rd 4 = 2) : LinC h0 b rd sz Z W σ0 (fX7_person N h rd) (mPers N σ) P := by
  obtain ⟨R, H, hA, hM, f15, ln, u, v, uv, on, i20, i21, u0⟩ := X
  have ht := hT_le H.1.1
  have G : kG h = kG h0 := R.1.2.1.1.2.1
  have gr : kG h 0 ≤ rd := R.rb.1.2.2.1
  have z0 : kZ h0 ≤ rd := R.1.2.1.2.1
  have bz : b + 18420 ≤ rd := R.rb.1.2.2.2.1
  have f2 : F 2 ≤ 6 := H.1.1.1.2.2.1
  have q4 : kI h rd 4 = 1 ∨ kI h rd 4 = 5 → (4 : Int32) = 1 := fun z => by rw [kd] at z; rcases z with z | z <;> exact absurd z (by decide)
  have a5 : ∀ {y : HS} {nm : Nat → Int64}, HBc b rd y F nm → fR y (rd + 1) 2 2 5 = some (rd + 2) := fun H => H.ar (by decide) (by decide)
  have sz2 : fJ2_size N h (rd + 2) = some (nI (F 2)) := ls_size (h := h) (g := kI h) (hb_lst H (j := 2) (by decide) (by decide))
  have r2 : rA σ 7 2 = some (nI (F 2)) := by rw [show rA σ 7 2 = some (gA σ 7 2) from rA7 (n := 2) (by decide), hA 2 (by decide)]
  unfold fX7_person mPers
  rw [H.a9, Option.bind_some, a5 H, Option.bind_some, H.wk.gl (by decide) (by decide), sz2, Option.bind_some, r2, Option.bind_some]
  by_cases c6 : F 2 = 6
  · obtain ⟨fa, h', e1, e2⟩ := need_0 (N := N) R (k := 4) q4
    exact Or.inl ⟨fa, h', _, by rw [if_pos (by rw [c6]; decide), H.gt, e1]; rfl, by rw [if_pos (by rw [c6]; rfl)], e2.mono (by omega) (by omega), hM.bad⟩
  · have k6 : F 2 < 6 := by omega
    obtain ⟨k, ek⟩ : ∃ k, k = F 2 := ⟨_, rfl⟩
    rw [← ek] at k6 c6
    rw [if_neg (show ¬ (6 : Int32) ≤ nI (F 2) from nI_ge (b := 6) (by omega) (by decide)), if_neg (show ¬ nI (F 2) = 6 from fun z => c6 ((nI_eq (b := 6) (by omega) (by decide)).mp (by rw [ek]; exact z))), H.gt, need_1, Option.bind_some]
    simp only [thr]
    obtain ⟨h3, σ3, P1, g1, g2, R3, g4, g5, g6⟩ := go_both (N := N) hN R.1
    have J3 : gJ σ3 = gJ σ := g6.2.2.2.2.2.1
    have A3 : gA σ3 = gA σ := g6.2.2.2.2.1
    have H3 : HBc b rd h3 F (fun i => gJ σ3 9 (12 + i)) := by rw [J3]; exact H.ck g6.c
    have M3 : HMe σ0 σ3 := hM.mk g6.m
    rw [H.gt, g1, Option.bind_some, H3.gt, g2, Option.bind_some, ← ek, show (12 : Int32) + nI k = nI (12 + k) from pl_la 12 k, show (7 : Int32) + nI k = nI (7 + k) from pl_la 7 k, show (13 : Int32) + nI k = nI (13 + k) from pl_la 13 k, show (19 : Int32) + nI k = nI (19 + k) from pl_la 19 k]
    rcases fresh_both (N := N) hN R3 H3 (by rw [A3]; exact hA 2 (by decide)) (by rw [A3]; exact hA 3 (by decide)) (to := 12 + k) (by omega) with ⟨fa, h', σ', q1, q2, q3, q4⟩ | ⟨q, l, h4, σ4, P4, q1, q2, okl, sq, R4, p4, p4', K4, M4, f154⟩
    · exact Or.inl ⟨fa, h', σ', by rw [q1]; rfl, by rw [q2]; rfl, q3.mono (by omega) (by omega), M3.mk q4⟩
    · have M4' : HMe σ0 σ4 := (M3.sj (by omega)).mk M4
      have A4 : gA σ4 7 = gA σ 7 := by rw [M4.1]; show gA σ3 7 = _; rw [A3]
      have J4 : gJ σ4 = gJ (sJ σ3 9 (12 + k) (enc l)) := M4.2.1
      have H4 : HBc b rd h4 F (fun i => gJ σ 9 (12 + i)) := by
        rw [J3] at H3; exact H3.ck K4
      have I4 : ∀ j, (j = 19 ∨ j = 20 ∨ j = 21) → gI σ4 j = gI σ j := fun j hj => by
        rw [M4.2.2 j (by omega) (by omega) (by omega) (by omega) (by omega) (by omega) (by omega) (by omega)]
        show gI σ3 j = _
        exact g6.2.2.2.2.2.2 j (by omega) (by omega) (by omega) (by omega) (by omega)
      rw [q1, Option.bind_some, q2, Option.bind_some, if_neg (show ¬ (1 : Int32) = 0 by decide)]
      simp only []
      rw [H4.gt]
      rcases num_both (N := N) hN R4 1 9 with ⟨fa, h', σ', q1, q2, q3, q4⟩ | ⟨x, h5, σ5, P5, x1, x2, s1, s2, s3, R5, p5, p5', K5, M5, f155⟩
      · exact Or.inl ⟨fa, h', σ', by rw [q1]; rfl, by rw [q2]; rfl, q3.mono (by omega) (by omega), M4'.mk q4⟩
      have xr : 1 ≤ x ∧ x ≤ 9 := isIn_rng (x := 1) (y := 9) x1 (by decide) (by decide) x2
      have H5 := H4.ck K5
      obtain ⟨σ5', es5⟩ : ∃ s, s = aS σ5 7 (upd (gA σ 7) (7 + k) (nI x)) := ⟨_, rfl⟩
      have M5' : HMe σ0 σ5' := by rw [es5]; exact (M4'.mk M5).as
      have wa5 : wA σ5 7 (nI (7 + k)) (gI σ5 18) = some σ5' := by rw [s3, es5]; exact wA7f (by omega) (by rw [M5.1]; exact A4)
      have R5' : PRS h0 b rd sz 900 (Z + hT F) (W + 60 * hT F) true P5 h5 σ5' := by rw [es5]; exact R5.ms (gA_o (by decide)) rfl rfl fun k hk => rfl
      rw [s1, Option.bind_some, s2, Option.bind_some, if_neg (show ¬ (1 : Int32) = 0 by decide)]
      simp only []
      rw [H5.gt, wa5, Option.bind_some]
      rcases num_both (N := N) hN R5' 0 9 with ⟨fa, h', σ', q1, q2, q3, q4⟩ | ⟨y, h6, σ6, P6, y1, y2, t1, t2, t3, R6, p6, p6', K6, M6, f156⟩
      · exact Or.inl ⟨fa, h', σ', by rw [q1]; rfl, by rw [q2]; rfl, q3.mono (by omega) (by omega), M5'.mk q4⟩
      have yr : 0 ≤ y ∧ y ≤ 9 := isIn_rng (x := 0) (y := 9) y1 (by decide) (by decide) y2
      have H6 := H5.ck K6
      obtain ⟨σ6', es6⟩ : ∃ s, s = aS σ6 7 (upd (upd (gA σ 7) (7 + k) (nI x)) (13 + k) (nI y)) := ⟨_, rfl⟩
      have M6' : HMe σ0 σ6' := by rw [es6]; exact (M5'.mk M6).as
      have A6 : gA σ6 7 = upd (gA σ 7) (7 + k) (nI x) := by rw [M6.1, es5, gA_same]
      have wa6 : wA σ6 7 (nI (13 + k)) (gI σ6 18) = some σ6' := by rw [t3, es6]; exact wA7f (by omega) A6
      have G6 : kG h6 = kG h0 := R6.1.2.1.1.2.1
      have z6 := R6.1.2.2.2
      obtain ⟨xo, exo⟩ : ∃ x, x = kZ h6 := ⟨_, rfl⟩
      obtain ⟨h7, eh7⟩ : ∃ x, x = tA h6 9 0 4 := ⟨_, rfl⟩
      have nO7 : nO h6 9 4 = some (xo, h7) := by unfold nO; rw [if_pos ⟨by rw [G6]; omega, by rw [G6]; omega⟩, exo, eh7]
      have K7 : ond (fun _ => False) h6 h7 := by rw [eh7]; exact ond.tA
      have rl6 : rd < kZ h6 := R6.rb.1.2.2.2.2
      have H7 : HBc b rd h7 F (fun i => gJ σ 9 (12 + i)) := H6.rk (rK.refl.o K7 (fun _ _ => id) rl6)
      have R7 : PRS h0 b rd sz 900 (Z + hT F + 1) (W + 60 * hT F + 4) true P6 h7 σ6' := by
        have := PRS.ob2 (t := 1) (w := 4) R6 K7 (fun _ _ z => z.elim) (by rw [eh7]; exact Nat.le_refl _) (by rw [eh7]; exact Nat.le_refl _) (by rw [G6]; omega) (by rw [G6]; omega)
        rw [es6]; exact this.ms (gA_o (by decide)) rfl rfl fun k hk => rfl
      rw [t1, Option.bind_some, t2, Option.bind_some, if_neg (show ¬ (1 : Int32) = 0 by decide)]
      simp only []
      rw [H6.a9, Option.bind_some, a5 H6, Option.bind_some, nO7, Option.bind_some, wa6, Option.bind_some]
      simp only []
      rw [H7.gt]
      rcases num_both (N := N) hN R7 1 9 with ⟨fa, h', σ', q1, q2, q3, q4⟩ | ⟨z, h8, σ8, P8, w1, w2, v1, v2, v3, R8, p8, p8', K8, M8, f158⟩
      · exact Or.inl ⟨fa, h', σ', by rw [q1]; rfl, by rw [q2]; rfl, q3.mono (by omega) (by omega), M6'.mk q4⟩
      have zr : 1 ≤ z ∧ z ≤ 9 := isIn_rng (x := 1) (y := 9) w1 (by decide) (by decide) w2
      have G8 : kG h8 = kG h0 := R8.1.2.1.1.2.1
      have z7 : kZ h7 = xo + 1 := by rw [eh7, exo]; rfl
      have xl7 : xo < kZ h7 := by omega
      have x8 := K8.1.2.2 xo xl7 (show ¬ xo = rd by omega)
      have T8 : kT h8 xo = 9 := by rw [x8.1, eh7, exo, kT_tA, if_pos rfl]
      obtain ⟨h9, i1, i2, i3, i4, i5, i6, i7, i8, i9⟩ := pi_n (N := N) (q := q) T8 (by rw [G8, ← G]; omega) (nI x) (nI y) (nI z)
      have G9 : kG h9 = kG h0 := i2.2.1.trans G8
      have K69 : rK rd h6 h9 := ((rK.refl.o K7 (fun _ _ => id) rl6).trans K8.r).o i2 (fun q hq z => by have z : q = xo := z; omega) rl6
      have H9 : HBc b rd h9 F (fun i => gJ σ 9 (12 + i)) := H6.rk K69
      have K49 : rK rd h4 h9 := (K5.r.trans K6.r).trans K69
      have T4 : kT h4 rd = 5 := H4.2.2.2.2.2.1
      have sq9 : StrR h9 (kI h9) b q l := sq.ond K49.1 (fun z => by have z : q = rd := z; have y := sq.2.1; rw [z, T4] at y; omega) (fun z => by have z : rf h4 q 0 = rd := z; have y := sq.2.2.2.2.1; rw [z, T4] at y; omega)
      obtain ⟨F', eF⟩ : ∃ x', x' = uF (uF (uF (uF F (7 + k) x) (13 + k) y) (19 + k) z) 2 (k + 1) := ⟨_, rfl⟩
      have Fo : ∀ i, i ≠ 2 → i ≠ 7 + F 2 → i ≠ 13 + F 2 → i ≠ 19 + F 2 → F' i = F i := fun i i1 i2 i3 i4 => by rw [eF, uF_o i1, uF_o (by omega), uF_o (by omega), uF_o (by omega)]
      have F2 : F' 2 = F 2 + 1 := by rw [eF, uF_s, ek]
      have F7 : F' (7 + F 2) = x := by rw [eF, uF_o (by omega), uF_o (by omega), uF_o (by omega), ek, uF_s]
      have F13 : F' (13 + F 2) = y := by rw [eF, uF_o (by omega), uF_o (by omega), ek, uF_s]
      have F19 : F' (19 + F 2) = z := by rw [eF, uF_o (by omega), ek, uF_s]
      obtain ⟨σ9, es9⟩ : ∃ s, s = aS σ8 7 (upd (upd (upd (upd (gA σ 7) (7 + k) (nI x)) (13 + k) (nI y)) (19 + k) (nI z)) 2 (nI (k + 1))) := ⟨_, rfl⟩
      have J9 : gJ σ9 9 = vp_updL (gJ σ 9) (12 + k) (enc l) := by
        rw [es9]
        show gJ σ8 9 = _
        rw [M8.2.1, es6]
        show gJ σ6 9 = _
        rw [M6.2.1, es5]
        show gJ σ5 9 = _
        rw [M5.2.1, J4, gJ_sJs, J3]
      have A8 : gA σ8 7 = upd (upd (gA σ 7) (7 + k) (nI x)) (13 + k) (nI y) := by rw [M8.1, es6, gA_same]
      have z9 : kZ h9 = kZ h8 := i8
      have zz8 := R8.1.2.2.2
      have xl9 : xo < kZ h9 := by have := K8.1.1; omega
      have pe : perR h9 (kI h9) b F' (fun i => gJ σ9 9 (12 + i)) xo (F 2) := by
        refine ⟨i3, by rw [i5, F7], by rw [i6, F13], by rw [i7, F19], by unfold isr rf; rw [i4]; rfl, ?_⟩
        rw [show rf h9 xo 0 = q by unfold rf; rw [i4]; rfl]
        refine ⟨l, okl, sq9, ?_⟩
        show gJ σ9 9 (12 + F 2) = _
        rw [J9, ← ek]; unfold vp_updL; rw [if_pos rfl]
      have f3 : F 3 ≤ 6 := H.1.1.1.2.2.2.1
      obtain ⟨h10, S, b1, b2, b3, b4, b5, b6⟩ := pers_h (N := N) H9 (by omega) Fo F2 (by rw [F7]; exact xr) (by rw [F13]; exact yr.2) (by rw [F19]; exact zr) pe ⟨xl9, Or.inr (Or.inl (by omega))⟩ (fun p hp => by
        show gJ σ9 9 (12 + p) = gJ σ 9 (12 + p)
        rw [J9]; unfold vp_updL; rw [if_neg (by omega)]) (fun w hw => by
        show gJ σ9 9 (12 + (6 + w)) = gJ σ 9 (12 + (6 + w))
        rw [J9]; unfold vp_updL; rw [if_neg (by omega)]) (by rw [G9]; omega) (by rw [G9]; omega) (by rw [G9, ← G]; exact gr) bz (by
        rw [G9, ← G8, i2.2.2 _ (by have := (e12_of R8).2; omega) (show ¬ kG h8 12 = xo by have := (e12_of R8).2; omega) |>.2.1]; exact (e12_of R8).1)
      have nr : ¬ S rd := fun z => by have := (b3 rd (by omega) z).1; omega
      have n1 : ¬ S (rd + 1) := fun z => by have := (b3 (rd + 1) (by have := hb_z H9; omega) z).2; have := H9.1.2.2.1; omega
      have v10 := b2.2.2 rd (by omega) nr
      have w10 := b2.2.2 (rd + 1) (by have := hb_z H9; omega) n1
      have x9 := i2.2.2 rd (by have := K8.1.1; omega) (show ¬ rd = xo by omega)
      have hT' : hT F' = hT F + 2 := by
        unfold hT
        rw [F2, Fo 3 (by decide) (by omega) (by omega) (by omega), Fo 5 (by decide) (by omega) (by omega) (by omega)]; omega
      have hT2 := hT_le b6.1.1
      rw [hT'] at hT2
      have R10 : PRS h0 b rd sz 900 (Z + (hT F + 2)) (W + 60 * (hT F + 2)) true P8 h10 σ9 := by
        have r9 := PRS.ob2 (t := 0) (w := 0) R8 i2 (fun q hq z => by have z : q = xo := z; rw [z, T8]; exact ⟨by omega, by omega, by decide, by decide⟩) (by rw [i8]; exact Nat.le_refl _) (by rw [i9]; exact Nat.le_refl _) (by rw [G8]; omega) (by rw [G8]; omega)
        have r10 := PRS.ob2 (t := 1) (w := 10) r9 b2 (fun q hq z => by
          have := b3 q hq z
          exact ⟨by omega, by omega, by omega, by omega⟩) b4 b5 (by rw [G9]; omega) (by rw [G9]; omega)
        have := r10.mono (Zn := Z + (hT F + 2)) (Wn := W + 60 * (hT F + 2)) (by omega) (by omega) (by rw [b2.2.1, G9]; omega) (by rw [b2.2.1, G9]; omega)
        rw [es9]
        exact this.ms (gA_o (by decide)) rfl rfl fun k hk => rfl
      have I8 : ∀ j, (j = 19 ∨ j = 20 ∨ j = 21) → gI σ9 j = gI σ j := fun j hj => by
        rw [es9, gI_aS, M8.2.2 j (by omega) (by omega) (by omega) (by omega) (by omega) (by omega) (by omega) (by omega), es6, gI_aS, M6.2.2 j (by omega) (by omega) (by omega) (by omega) (by omega) (by omega) (by omega) (by omega), es5, gI_aS, M5.2.2 j (by omega) (by omega) (by omega) (by omega) (by omega) (by omega) (by omega) (by omega)]
        exact I4 j hj
      refine Or.inr ⟨h10, σ9, F', P8, ?_, ?_, ⟨by rw [hT']; exact R10, b6, ?_, ?_, ?_, ?_, u, v, uv, ?_, ?_, ?_, fun z => ?_⟩, by omega, fun w1 w2 => ?_⟩
      · rw [v1, Option.bind_some]
        simp only []
        rw [i1, Option.bind_some, H9.wk.gl (by decide) (by decide), b1, Option.bind_some]
      · rw [v2, Option.bind_some, if_neg (show ¬ (1 : Int32) = 0 by decide)]
        simp only []
        rw [v3, wA7f (by omega) A8, Option.bind_some, show ∀ s, rA s 7 2 = some (gA s 7 2) from fun s => rA7 (n := 2) (by decide), gA_same, pk_un (by omega), pk_un (by omega), pk_un (by omega), hA 2 (by decide), Option.bind_some, ← ek, show ∀ s v, wA s 7 2 v = some (sA s 7 2 v) from fun s v => wA7 (n := 2) (by decide), Option.bind_some, sA_aS, gA_same, aS_aS, show nI k + 1 = nI (k + 1) from nI_add k 1, ← es9]
      · rw [es9, gA_same, eF]
        exact upd_uF (upd_uF (upd_uF (upd_uF hA)))
      · rw [es9]; exact (M6'.mk M8).as
      · rw [es9, gI_aS, f158, es6, gI_aS, f156, es5, gI_aS, f155, f154, g6.2.2.2.2.2.2 15 (by decide) (by decide) (by decide) (by decide) (by decide)]; exact f15
      · rw [w10.2.2.1, H6.i3 K69, H5.i3 K6.r, H4.i3 K5.r, (by rw [J3] at H3; exact H3 : HBc b rd h3 F (fun i => gJ σ 9 (12 + i))).i3 K4.r, H.i3 g6.c.r, I8 19 (by omega)]; exact ln
      · rw [v10.2.2.1, x9.2.2.1, K8.2.2.2 10 (by omega), (K7.2.2 rd rl6 id).2.2.1, K6.2.2.2 10 (by omega), K5.2.2.2 10 (by omega), K4.2.2.2 10 (by omega), g6.2.2.2.1 10 (by decide)]; exact on
      · rw [I8 20 (by omega)]; exact i20
      · rw [I8 21 (by omega)]; exact i21
      · rw [Fo 0 (by decide) (by omega) (by omega) (by omega)]; exact u0 z
      · rw [v10.2.2.1, x9.2.2.1] at w1 w2
        have := p8' w1 w2
        omega
end PVK
