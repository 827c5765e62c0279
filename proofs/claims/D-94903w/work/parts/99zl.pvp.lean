/-! houses: line way, both sides -/
/-- a line; or one whose fault the end of the line tells -/
def LinD (N : Nat) (h0 : HS) (b rd sz Z W : Nat) (σ0 : MS) (r : Option ((Nat ⊕ Unit) × HS)) (m : Option (Int32 × MS)) (P : Nat) : Prop :=
  LinC h0 b rd sz Z W σ0 r m P ∨ ∃ h' σ' fa h2, r = some (.inr (), h') ∧ kT h' rd = 5 ∧ fX6_end N h' rd = some (.inl fa, h2) ∧ m = some (0, σ') ∧ FLT h0 (Z + 60) (W + 3600) h2 fa σ' ∧ HMe σ0 σ'
section PVP
variable {S : Nat → Prop} {h0 h h' h2 hb : HS} {σ0 σ σ' : MS} {N b rd sz lim P Zm Wm Z W a l n q p w wx k s : Nat} {sp : Bool} {F F' E : Nat → Nat} {nm nm' : Nat → Int64}
theorem wy_b {x g1 g2 : Nat} (h : Z + 80 ≤ g1) (h' : W + 4000 ≤ g2) (hx : x + 4 ≤ 52) : Z + (x + 4) + 10 ≤ g1 ∧ W + 60 * (x + 4) + 100 ≤ g2 := by omega
theorem way_c (hN : 200000 ≤ N) (m1 : Z + 80 ≤ kG h0 1) (m2 : W + 4000 ≤ kG h0 2) (X : HBS h0 b rd sz Z W σ0 F P h σ) (kd : kI h rd 4 = 2) : LinD N h0 b rd sz Z W σ0 (fX7_way N h rd) (fX5_readWay N σ) P := by
  obtain ⟨R, H, hA, hM, f15, ln, u, v, uv, on, i20, i21, u0⟩ := X
  have ht := hT_le H.1.1
  have G : kG h = kG h0 := R.1.2.1.1.2.1
  have gr : kG h 0 ≤ rd := R.rb.1.2.2.1
  have z0 : kZ h0 ≤ rd := R.1.2.1.2.1
  have bz : b + 18420 ≤ rd := R.rb.1.2.2.2.1
  have f3 : F 3 ≤ 6 := H.1.1.1.2.2.2.1
  have q4 : kI h rd 4 = 1 ∨ kI h rd 4 = 5 → (4 : Int32) = 1 := fun z => by rw [kd] at z; rcases z with z | z <;> exact absurd z (by decide)
  have a6 : ∀ {y : HS} {nm : Nat → Int64}, HBc b rd y F nm → fR y (rd + 1) 2 2 6 = some (rd + 3) := fun H => H.ar (by decide) (by decide)
  have sz3 : fJ2_size N h (rd + 3) = some (nI (F 3)) := ls_size (h := h) (g := kI h) (hb_lst H (j := 3) (by decide) (by decide))
  have r3 : rA σ 7 3 = some (nI (F 3)) := by rw [show rA σ 7 3 = some (gA σ 7 3) from rA7 (n := 3) (by decide), hA 3 (by decide)]
  unfold fX7_way fX5_readWay
  rw [H.a9, Option.bind_some, a6 H, Option.bind_some, H.wk.gl (by decide) (by decide), sz3, Option.bind_some, r3, Option.bind_some]
  by_cases c6 : F 3 = 6
  · obtain ⟨fa, h', e1, e2⟩ := need_0 (N := N) R (k := 4) q4
    exact Or.inl (Or.inl ⟨fa, h', _, by rw [if_pos (by rw [c6]; decide), H.gt, e1]; rfl, by rw [if_pos (by rw [c6]; rfl)]; rfl, e2.mono (by omega) (by omega), hM.bad⟩)
  · have k6 : F 3 < 6 := by omega
    obtain ⟨k, ek⟩ : ∃ k, k = F 3 := ⟨_, rfl⟩
    rw [← ek] at k6 c6
    rw [if_neg (show ¬ (6 : Int32) ≤ nI (F 3) from nI_ge (b := 6) (by omega) (by decide)), if_neg (show ¬ nI (F 3) = 6 from fun z => c6 ((nI_eq (b := 6) (by omega) (by decide)).mp (by rw [ek]; exact z))), H.gt, need_1, Option.bind_some]
    simp only [thr]
    obtain ⟨h3, σ3, P1, g1, g2, R3, g4, g5, g6⟩ := go_both (N := N) hN R.1
    have J3 : gJ σ3 = gJ σ := g6.2.2.2.2.2.1
    have A3 : gA σ3 = gA σ := g6.2.2.2.2.1
    have H3 : HBc b rd h3 F (fun i => gJ σ3 9 (12 + i)) := by rw [J3]; exact H.ck g6.c
    have H3' : HBc b rd h3 F (fun i => gJ σ 9 (12 + i)) := H.ck g6.c
    have M3 : HMe σ0 σ3 := hM.mk g6.m
    rw [H.gt, g1, Option.bind_some, H3.gt, g2, Option.bind_some, ← ek, show (18 : Int32) + nI k = nI (18 + k) from pl_la 18 k, show (177 : Int32) + nI k = nI (177 + k) from pl_la 177 k, show (41 : Int32) * nI k = nI (41 * k) from pl_lm 41 k, show (183 : Int32) + nI (41 * k) = nI (183 + 41 * k) from pl_la 183 _]
    rcases fresh_both (N := N) hN R3 H3 (by rw [A3]; exact hA 2 (by decide)) (by rw [A3]; exact hA 3 (by decide)) (to := 18 + k) (by omega) with ⟨fa, h', σ', q1, q2, q3, q4⟩ | ⟨q, l, h4, σ4, P4, q1, q2, okl, sq, R4, p4, p4', K4, M4, f154⟩
    · exact Or.inl (Or.inl ⟨fa, h', σ', by rw [q1]; rfl, by rw [q2]; rfl, q3.mono (by omega) (by omega), M3.mk q4⟩)
    have M4' : HMe σ0 σ4 := (M3.sj (by omega)).mk M4
    have A4 : gA σ4 7 = gA σ 7 := by rw [M4.1]; show gA σ3 7 = _; rw [A3]
    have J4 : gJ σ4 = gJ (sJ σ3 9 (18 + k) (enc l)) := M4.2.1
    have H4 : HBc b rd h4 F (fun i => gJ σ 9 (12 + i)) := H3'.ck K4
    have I4 : ∀ j, (j = 19 ∨ j = 20 ∨ j = 21) → gI σ4 j = gI σ j := fun j hj => by
      rw [M4.2.2 j (by omega) (by omega) (by omega) (by omega) (by omega) (by omega) (by omega) (by omega)]
      show gI σ3 j = _
      exact g6.2.2.2.2.2.2 j (by omega) (by omega) (by omega) (by omega) (by omega)
    rw [q1, Option.bind_some, q2, Option.bind_some, if_neg (show ¬ (1 : Int32) = 0 by decide)]
    simp only []
    rw [H4.a9, Option.bind_some, H4.gt]
    rcases tuft_both (N := N) hN R4 H4 (by rw [A4]; exact hA 0 (by decide)) (by rw [A4]; exact hA 1 (by decide)) with ⟨fa, h', σ', q1, q2, q3, q4⟩ | ⟨t, h5, σ5, P5, t144, htu, s1, s2, s3, R5, k5, p5, K5, M5, f155⟩
    · exact Or.inl (Or.inl ⟨fa, h', σ', by rw [q1]; rfl, by rw [q2]; rfl, q3.mono (by omega) (by omega), M4'.mk q4⟩)
    have H5 : HBc b rd h5 F (fun i => gJ σ 9 (12 + i)) := H4.ck K5
    have e8 : rf h5 (rd + 1) 8 = rd + 5 := H5.2.1 8 (by decide) (by decide)
    have a8 : fR h5 (rd + 1) 2 2 8 = some (rd + 5) := H5.ar (by decide) (by decide)
    have ai : aI h5 (rd + 5) 33 (nI t) = some (nI (F (25 + t))) := by rw [← e8]; exact ho_wall (h := h5) (g := kI h5) H5.1 t144
    have A5 : gA σ5 7 = gA σ 7 := by rw [M5.1]; exact A4
    have M5' : HMe σ0 σ5 := M4'.mk M5
    have wle := H.1.1.2.2.2.1 t t144
    have r25 : rA σ5 7 (25 + gI σ5 18) = some (nI (F (25 + t))) := by rw [s3, show (25 : Int32) + nI t = nI (25 + t) from pl_la 25 t, rA7 (by omega), A5, hA _ (by omega)]
    rw [s1, Option.bind_some, s2, Option.bind_some, if_neg (show ¬ (1 : Int32) = 0 by decide)]
    simp only []
    rw [H5.a9, Option.bind_some, a8, Option.bind_some, ai, Option.bind_some, r25, Option.bind_some]
    by_cases cw : F (25 + t) = 1
    · obtain ⟨fa, h', e1, e2⟩ := need_0 (N := N) R5 (k := 5) (fun z => by rw [k5] at z; rcases z with z | z <;> exact absurd z (by decide))
      exact Or.inl (Or.inl ⟨fa, h', _, by rw [if_neg (by rw [cw]; decide), H5.gt, e1]; rfl, by rw [if_pos (by rw [cw]; rfl)]; rfl, e2.mono (by omega) (by omega), M5'.bad⟩)
    have cw0 : F (25 + t) = 0 := by omega
    rw [if_pos (by rw [cw0]; rfl), if_neg (show ¬ nI (F (25 + t)) = 1 by rw [cw0]; decide), H5.gt, need_1, Option.bind_some]
    simp only []
    obtain ⟨σ5', es5⟩ : ∃ s, s = aS σ5 7 (upd (gA σ 7) (183 + 41 * k) (nI t)) := ⟨_, rfl⟩
    have wa5 : wA σ5 7 (nI (183 + 41 * k)) (gI σ5 18) = some σ5' := by rw [s3, es5]; exact wA7f (by omega) A5
    have R5' : PRS h0 b rd sz 900 (Z + hT F) (W + 60 * hT F) true P5 h5 σ5' := by rw [es5]; exact R5.ms (gA_o (by decide)) rfl rfl fun k hk => rfl
    obtain ⟨h6, σ6, P6, y1, y2, R6, y4, y5, y6⟩ := go_both (N := N) hN R5'.1
    have H6 : HBc b rd h6 F (fun i => gJ σ 9 (12 + i)) := H5.ck y6.c
    have M6 : HMe σ0 σ6 := HMe.mk (by rw [es5]; exact M5'.as) y6.m
    have G6 : kG h6 = kG h0 := R6.1.2.1.1.2.1
    have z6 := R6.1.2.2.2
    have rl6 : rd < kZ h6 := R6.rb.1.2.2.2.2
    obtain ⟨wx, ewx⟩ : ∃ x, x = kZ h6 := ⟨_, rfl⟩
    obtain ⟨h8, w1, w2, w3, w4, w5, w6, w7, w8⟩ := wi_n (N := N) (h := h6) (q := q) (t := t) (by rw [G6]; omega) (by rw [G6]; omega) z6.1.1
    rw [← ewx] at w1 w2 w4 w6 w7 w8
    have G8 : kG h8 = kG h0 := w3.2.1.trans G6
    have K68 : rK rd h6 h8 := rK.refl.o w3 (fun _ _ => id) rl6
    have H8 : HBc b rd h8 F (fun i => gJ σ 9 (12 + i)) := H6.rk K68
    have R8 : PRS h0 b rd sz 900 (Z + hT F + 3) (W + 60 * hT F + 86) true P6 h8 σ6 := PRS.ob2 (t := 3) (w := 86) R6 w3 (fun _ _ z => z.elim) (by rw [w4, ewx]; exact Nat.le_refl _) (by rw [w5]; exact Nat.le_refl _) (by rw [G6]; omega) (by rw [G6]; omega)
    have r8 := (w3.2.2 rd rl6 id).2.2.1
    rw [H5.gt, y1, Option.bind_some, w1, Option.bind_some]
    simp only []
    rw [w2, Option.bind_some, H8.gt, wa5, Option.bind_some, y2, Option.bind_some]
    obtain ⟨dv, d1, d2, d3⟩ := dir_both (N := N) hN R8
    have I6 : ∀ j, (j = 15 ∨ j = 19 ∨ j = 20 ∨ j = 21) → gI σ6 j = gI σ5 j := fun j hj => by
      rw [y6.2.2.2.2.2.2 j (by omega) (by omega) (by omega) (by omega) (by omega), es5, gI_aS]
    have I6' : ∀ j, (j = 19 ∨ j = 20 ∨ j = 21) → gI σ6 j = gI σ j := fun j hj => by
      rw [I6 j (by omega), M5.2.2 j (by omega) (by omega) (by omega) (by omega) (by omega) (by omega) (by omega) (by omega)]; exact I4 j hj
    have Y8 : WyS wx q k F (uF F (183 + 41 * k) t) 0 h8 σ6 := by
      refine ⟨w6, by decide, fun i hi => ?_, fun i hi => by omega, fun _ => w8, fun z => by omega, fun i hi => ?_, fun i hi => uF_o (by omega)⟩
      · obtain rfl : i = 0 := by omega
        rw [show 183 + 41 * k + 0 = 183 + 41 * k from rfl, uF_s]; exact ⟨w7, htu⟩
      · rw [y6.2.2.2.2.1, es5, gA_same]; exact upd_uF hA i hi
    have X8 : WyO h0 h6 b rd sz 900 (Z + hT F + 3) (W + 60 * hT F + 86) σ0 wx q k F P (nI (u + 2 * v)) (gI σ 19) (nI u) (nI v) (gJ σ4) P6 0 (uF F (183 + 41 * k) t) h8 σ6 := by
      refine ⟨R8, K68, by omega, M6, ?_, Y8, ⟨by omega, fun z1 z2 => ?_⟩, ?_, ⟨I6' 19 (by omega), (I6' 20 (by omega)).trans i20, (I6' 21 (by omega)).trans i21⟩, ?_⟩
      · rw [I6 15 (by omega), f155, f154, g6.2.2.2.2.2.2 15 (by decide) (by decide) (by decide) (by decide) (by decide)]; exact f15
      · rw [r8] at z1 z2
        have := y5 z1 z2
        omega
      · rw [r8, y6.2.2.2.1 10 (by decide), K5.2.2.2 10 (by omega), K4.2.2.2 10 (by omega), g6.2.2.2.1 10 (by decide)]; exact on
      · rw [y6.2.2.2.2.2.1, es5]
        show gJ σ5 = _
        rw [M5.2.1]
    have szl : sz ≤ 940 := R.rb.2.2.1.2.1
    rw [d1, Option.bind_some]
    rcases way_out (N := N) hN H6 (Nat.le_of_eq ewx.symm) k6 (by rw [G6, ← G]; omega) z0 (sz - P6) P6 0 _ h8 σ6 dv N (Nat.le_refl _) (by omega) X8 d2 d3 with ⟨fa, h', σ', f1, f2, f3, f4⟩ | ⟨h9, σ9, E, s, P9, f1, f2, X9⟩
    · refine Or.inl (Or.inl ⟨fa, h', σ', by rw [f1]; rfl, ?_, f3.mono (by omega) (by omega), f4⟩)
      rw [show lX5_readWay_92 N N σ6 (nI k) (nI (183 + 41 * k)) 1 = _ from f2]; rfl
    obtain ⟨R9, K9, hz9, M9, f9, Y9, ⟨pz, pp⟩, e10, ⟨j19, j20, j21⟩, eJ⟩ := X9
    have H9 : HBc b rd h9 F (fun i => gJ σ 9 (12 + i)) := H6.rk K9
    have G9 : kG h9 = kG h0 := R9.1.2.1.1.2.1
    have K49 : rK rd h4 h9 := (K5.r.trans y6.c.r).trans K9
    have T4 : kT h4 rd = 5 := H4.2.2.2.2.2.1
    have sq9 : StrR h9 (kI h9) b q l := sq.ond K49.1 (fun z => by have z : q = rd := z; have y := sq.2.1; rw [z, T4] at y; omega) (fun z => by have z : rf h4 q 0 = rd := z; have y := sq.2.2.2.2.1; rw [z, T4] at y; omega)
    obtain ⟨F', eF⟩ : ∃ x', x' = uF (uF E (177 + k) (s + 1)) 3 (k + 1) := ⟨_, rfl⟩
    have s40 := Y9.2.1
    have Eo := Y9.2.2.2.2.2.2.2
    have Etu := Y9.2.2.1
    have Fo : ∀ i, i ≠ 3 → i ≠ 177 + F 3 → (i < 183 + 41 * F 3 ∨ 183 + 41 * F 3 + 41 ≤ i) → F' i = F i := fun i i1 i2 i3 => by rw [eF, uF_o i1, uF_o (by omega)]; exact Eo i (by rw [ek]; exact i3)
    have F3 : F' 3 = F 3 + 1 := by rw [eF, uF_s, ek]
    have F7 : F' (177 + F 3) = s + 1 := by rw [eF, uF_o (by omega), ek, uF_s]
    have Fw : ∀ i, i ≤ s → F' (183 + 41 * k + i) = E (183 + 41 * k + i) := fun i hi => by rw [eF, uF_o (by omega), uF_o (by omega)]
    have J9 : gJ σ9 9 = vp_updL (gJ σ 9) (18 + k) (enc l) := by rw [eJ, J4, gJ_sJs, J3]
    have bw : b + 18420 ≤ wx := by omega
    have wr : wayR h9 (kI h9) b F' (fun i => gJ σ9 9 (12 + i)) wx (F 3) := by
      rw [← ek]
      refine Y9.wr k6 sq9 okl hz9 bw (by rw [ek]; exact F7) Fw ?_
      show gJ σ9 9 (12 + (6 + k)) = _
      rw [J9, show 12 + (6 + k) = 18 + k by omega]; unfold vp_updL; rw [if_pos rfl]
    have f2' : F 2 ≤ 6 := H.1.1.1.2.2.1
    have zz9 := R9.1.2.2.2
    obtain ⟨h10, S, b1, b2, b3, b4, b5, b6⟩ := way_h (N := N) H9 (by omega) Fo F3 (by rw [F7]; omega) (fun i hi => by rw [F7] at hi; rw [← ek, Fw i (by omega)]; exact (Etu i (by omega)).2) wr ⟨by omega, Or.inr (Or.inl bw)⟩ (fun p hp => by
      show gJ σ9 9 (12 + p) = gJ σ 9 (12 + p)
      rw [J9]; unfold vp_updL; rw [if_neg (by omega)]) (fun w hw => by
      show gJ σ9 9 (12 + (6 + w)) = gJ σ 9 (12 + (6 + w))
      rw [J9]; unfold vp_updL; rw [if_neg (by omega)]) (by rw [G9]; omega) (by rw [G9]; omega) (by rw [G9, ← G]; exact gr) bz (e12_of R9).1
    have rl9 : rd < kZ h9 := R9.rb.1.2.2.2.2
    have nr : ¬ S rd := fun z => by have := (b3 rd (by omega) z).1; omega
    have n1 : ¬ S (rd + 1) := fun z => by have := (b3 (rd + 1) (by have := hb_z H9; omega) z).2; have := H9.1.2.2.1; omega
    have v10 := b2.2.2 rd (by omega) nr
    have w10 := b2.2.2 (rd + 1) (by have := hb_z H9; omega) n1
    have hT' : hT F' = hT F + 4 := by
      unfold hT
      rw [F3, Fo 2 (by decide) (by omega) (by omega), Fo 5 (by decide) (by omega) (by omega)]; omega
    have hT2 := hT_le b6.1.1
    rw [hT'] at hT2
    have R10 : PRS h0 b rd sz 900 (Z + (hT F + 4)) (W + 60 * (hT F + 4)) true P9 h10 σ9 := by
      have r10 := PRS.ob2 (t := 1) (w := 10) R9 b2 (fun q hq z => by
        have := b3 q hq z
        exact ⟨by omega, by omega, by omega, by omega⟩) b4 b5 (by rw [G9]; omega) (by rw [G9]; omega)
      exact r10.mono (by omega) (by omega) (by rw [b2.2.1, G9]; exact (wy_b m1 m2 hT2).1) (by rw [b2.2.1, G9]; exact (wy_b m1 m2 hT2).2)
    have eC : (osm (lX7_way_85 N N h8 rd wx dv) id fun q46 => ((fR q46 rd 5 5 9).bind fun a47 => ((fR q46 a47 2 2 6).bind fun a48 => gT q46 a48 15 15 (((fJ2_add N q46 a48 wx).bind fun r49 => some ((Sum.inr () : Nat ⊕ Unit), r49.2)))))) = some (.inr (), h10) := by
      rw [f1]
      show ((fR h9 rd 5 5 9).bind fun a47 => ((fR h9 a47 2 2 6).bind fun a48 => gT h9 a48 15 15 (((fJ2_add N h9 a48 wx).bind fun r49 => some ((Sum.inr () : Nat ⊕ Unit), r49.2))))) = _
      rw [H9.a9, Option.bind_some, a6 H9, Option.bind_some, H9.wk.gl (by decide) (by decide), b1, Option.bind_some]
    have f2 : lX5_readWay_92 N N σ6 (nI k) (nI (183 + 41 * k)) 1 = (if fX5_isSign σ9 59 = 0 then some (.inr (0, (fX5_bad σ9 1).2)) else some (.inl (σ9, nI (s + 1)))) := f2
    rw [eC, f2]
    by_cases sg : fX5_isSign σ9 59 = 0
    · refine Or.inr ?_
      rw [if_pos sg]
      rcases end_both (N := N) hN R10 with ⟨fa, h', σ', x1, x2, x3, x4⟩ | ⟨h', σ', P', x1, x2, x3, x4, x5, x6⟩
      · have ex : σ' = (fX5_bad σ9 1).2 := by
          unfold fX5_sign at x2
          rw [if_pos sg] at x2
          have x2 : some ((0 : Int32), (fX5_bad σ9 1).2) = some (0, σ') := x2
          exact (Prod.mk.inj (Option.some.inj x2)).2.symm
        exact ⟨h10, σ', fa, h', rfl, v10.1.trans H9.2.2.2.2.2.1, x1, by rw [ex]; rfl, x3.mono (by omega) (by omega), by rw [ex]; exact M9.bad⟩
      · rcases tk_end R10.tk with ⟨z1, z2, z3⟩ | ⟨z, -⟩
        · unfold fX5_isSign at sg
          rw [if_pos z2, if_pos z3] at sg
          exact absurd sg (by decide)
        · exact absurd x5 z
    · rw [if_neg sg]
      obtain ⟨σa, esa⟩ : ∃ s', s' = aS σ9 7 (upd (upd (gA σ9 7) (177 + k) (nI (s + 1))) 3 (nI (k + 1))) := ⟨_, rfl⟩
      have gE := Y9.2.2.2.2.2.2.1
      refine Or.inl (Or.inr ⟨h10, σa, F', P9, rfl, ?_, ⟨?_, ?_, ?_, ?_, ?_, ?_, u, v, uv, ?_, ?_, ?_, fun z => ?_⟩, pz, fun z1 z2 => ?_⟩)
      · show ((wA σ9 7 (nI (177 + k)) (nI (s + 1))).bind fun σ45 => ((rA σ45 7 3).bind fun v46 => ((wA σ45 7 3 (v46 + 1)).bind fun σ47 => some ((1 : Int32), σ47)))) = _
        rw [wA7f (by omega) rfl, Option.bind_some, show ∀ s, rA s 7 3 = some (gA s 7 3) from fun s => rA7 (n := 3) (by decide), gA_same, pk_un (by omega), gE 3 (by decide), Eo 3 (by omega), Option.bind_some, ← ek, show ∀ s v, wA s 7 3 v = some (sA s 7 3 v) from fun s v => wA7 (n := 3) (by decide), Option.bind_some, sA_aS, gA_same, aS_aS, show nI k + 1 = nI (k + 1) from nI_add k 1, ← esa]
      · rw [hT', esa]; exact R10.ms (gA_o (by decide)) rfl rfl fun k hk => rfl
      · rw [esa]; exact b6
      · rw [esa, gA_same, eF]; exact upd_uF (upd_uF gE)
      · rw [esa]; exact M9.as
      · rw [esa]; exact f9
      · rw [w10.2.2.1, H6.i3 K9, H5.i3 y6.c.r, H4.i3 K5.r, H3'.i3 K4.r, H.i3 g6.c.r, esa, gI_aS, j19]; exact ln
      · rw [v10.2.2.1]; exact e10
      · rw [esa, gI_aS]; exact j20
      · rw [esa, gI_aS]; exact j21
      · rw [Fo 0 (by decide) (by omega) (by omega)]; exact u0 z
      · rw [v10.2.2.1] at z1 z2
        exact pp z1 z2
end PVP
