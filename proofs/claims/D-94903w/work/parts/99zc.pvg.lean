/-! houses: line wall -/
def mWall (N : Nat) (σ : MS) : Option (Int32 × MS) := ((rA σ 7 4).bind fun v44 => (if v44 = 30 then some (0, (fX5_bad σ 4).2) else ((fX5_next N σ).bind fun r46 => ((fX5_looksAtTuft N r46).bind fun r47 => (if r47.1 = 0 then (some (0, r47.2)) else ((rA r47.2 7 (25 + (gI r47.2 18))).bind fun v49 => (if v49 = 1 then some (0, (fX5_bad r47.2 3).2) else ((wA r47.2 7 (25 + (gI r47.2 18)) 1).bind fun σ51 => ((rA σ51 7 4).bind fun v52 => ((wA σ51 7 4 (v52 + 1)).bind fun σ53 => ((fX5_next N σ53).bind fun r54 => some (1, r54))))))))))))
section PVG
variable {S : Nat → Prop} {h0 h h' h2 : HS} {σ0 σ σ' : MS} {N b rd sz lim P Zm Wm Z W a l n q p w : Nat} {sp : Bool} {F F' : Nat → Nat} {nm nm' : Nat → Int64}
theorem HOK.wl (H : HOK F) (e : ∀ i, i ≠ 4 → (i < 25 ∨ 169 ≤ i) → F' i = F i) (h4 : F' 4 ≤ 30) (hw : ∀ t, t < 144 → F' (25 + t) ≤ 1) : HOK F' := by
  obtain ⟨⟨a0, a1, a2, a3, a4, a5, a6⟩, c1, c2, c3, c4, c5⟩ := H
  unfold HOK tuf
  rw [e 0 (by decide) (by decide), e 1 (by decide) (by decide), e 2 (by decide) (by decide), e 3 (by decide) (by decide), e 5 (by decide) (by decide), e 6 (by decide) (by decide)]
  refine ⟨⟨a0, a1, a2, a3, h4, a5, a6⟩, fun p hp => ?_, fun p h1 h2 => ?_, hw, fun k hk => ?_, fun w hw => ?_⟩
  · rw [e _ (by omega) (by omega), e _ (by omega) (by omega), e _ (by omega) (by omega)]; exact c1 p hp
  · rw [e _ (by omega) (by omega)]; exact c2 p h1 h2
  · rw [e _ (by omega) (by omega)]; exact c4 k hk
  · rw [e _ (by omega) (by omega)]
    refine ⟨(c5 w hw).1, (c5 w hw).2.1, fun i hi => ?_⟩
    rw [e _ (by omega) (by omega)]; exact (c5 w hw).2.2 i hi
theorem hT_cg (e2 : F' 2 = F 2) (e3 : F' 3 = F 3) (e5 : F' 5 = F 5) : hT F' = hT F := by unfold hT; rw [e2, e3, e5]
theorem nar1 : vp_nar .boolean 1 = 1 := by decide
theorem wall_h (H : HBc b rd h F nm) {t : Nat} (ht : t < 144) (h4 : F 4 < 30) : HBc b rd (tI (tI h (rd + 5) t 1) (rd + 1) 4 (nI (F 4 + 1))) (uF (uF F (25 + t) 1) 4 (F 4 + 1)) nm := by
  obtain ⟨h', e⟩ : ∃ x, x = tI (tI h (rd + 5) t 1) (rd + 1) 4 (nI (F 4 + 1)) := ⟨_, rfl⟩
  obtain ⟨F', eF⟩ : ∃ x, x = uF (uF F (25 + t) 1) 4 (F 4 + 1) := ⟨_, rfl⟩
  rw [← e, ← eF]
  have F4 : F' 4 = F 4 + 1 := by rw [eF, uF_s]
  have Fo : ∀ i, i ≠ 4 → i ≠ 25 + t → F' i = F i := fun i i1 i2 => by rw [eF, uF_o i1, uF_o i2]
  have Ft : F' (25 + t) = 1 := by rw [eF, uF_o (by omega), uF_s]
  have hl : ∀ j, 2 ≤ j → j ≤ 4 → LstR h (kI h) b (rd + j) (F (fN j)) := fun j j1 j2 => hb_lst H j1 j2
  have t2 : kT h (rd + 1) = 2 := H.1.2.2.1
  have e5 := H.2.1 5 (by decide) (by decide)
  have e6 := H.2.1 6 (by decide) (by decide)
  have e7 := H.2.1 7 (by decide) (by decide)
  have e8 : rf h (rd + 1) 8 = rd + 5 := H.2.1 8 (by decide) (by decide)
  have e9 : rf h (rd + 1) 9 = rd + 6 := H.2.1 9 (by decide) (by decide)
  have w8 : wlR h (kI h) b F (rd + 5) := by rw [← e8]; exact H.1.2.2.2.2.2.2.2.2.2.2.2.1
  have d9 : drR h (kI h) b F (rd + 6) := by rw [← e9]; exact H.1.2.2.2.2.2.2.2.2.2.2.2.2
  have K : ond (fun q => q = rd + 5 ∨ q = rd + 1) h h' := by rw [e]; exact (ond.tI.up fun q _ z => Or.inl z).tr ond.tI fun q _ z => Or.inr z
  have nk : ∀ q k, kT h q = k → k ≠ 2 → k ≠ 33 → ¬ (q = rd + 5 ∨ q = rd + 1) := fun q k e1 e2 e3 z => by
    rcases z with z | z
    · rw [z, w8.2.1] at e1; omega
    · rw [z, t2] at e1; omega
  have hE : nEl (fun q => q = rd + 5 ∨ q = rd + 1) h := fun q _ z => by
    rcases z with z | z
    · rw [z, w8.2.1]; decide
    · rw [z, t2]; decide
  have fn : ∀ j, 2 ≤ j → j ≤ 4 → F' (fN j) = F (fN j) := fun j j1 j2 => by
    have : fN j = 2 ∨ fN j = 3 ∨ fN j = 5 := by unfold fN; split <;> omega
    exact Fo _ (by omega) (by omega)
  have lo : ∀ j, 2 ≤ j → j ≤ 4 → LstR h' (kI h') b (rd + j) (F' (fN j)) ∧ ∀ i, le h' (rd + j) i = le h (rd + j) i := fun j j1 j2 => by
    rw [fn j j1 j2]
    have := (hl j j1 j2).ond K (by show ¬ (rd + j = rd + 5 ∨ rd + j = rd + 1); omega) (nk _ 39 (hl j j1 j2).2.2.2.1.2.1 (by decide) (by decide))
    exact ⟨this.1, this.2.2⟩
  have i1 : ∀ k, kI h' (rd + 1) k = if k = 4 then nI (F 4 + 1) else kI h (rd + 1) k := fun k => by
    rw [e, kI_tI]
    by_cases c : k = 4
    · rw [if_pos ⟨rfl, c⟩, if_pos c]
    · rw [if_neg (fun z => c z.2), if_neg c, kI_tIo (by omega)]
  have i5 : ∀ k, kI h' (rd + 5) k = if k = t then 1 else kI h (rd + 5) k := fun k => by
    rw [e, kI_tIo (by omega), kI_tI]
    by_cases c : k = t
    · rw [if_pos ⟨rfl, c⟩, if_pos c]
    · rw [if_neg (fun z => c z.2), if_neg c]
  have ra : ∀ k, kR h' (rd + 1) k = kR h (rd + 1) k := fun k => by rw [e]; rfl
  have hi := H.1.2.2.2.2.1
  have z' : kZ h' = kZ h := by rw [e]; rfl
  have ok : HOK F' := H.1.1.wl (fun i i1 i2 => Fo i i1 (by omega)) (by rw [F4]; omega) fun x hx => by
    by_cases c : x = t
    · rw [c, Ft]; exact Nat.le_refl _
    · rw [Fo _ (by omega) (by omega)]; exact H.1.1.2.2.2.1 x hx
  refine hb_mk0 H K (fun j j1 j2 => ⟨by show ¬ (rd + j = rd + 5 ∨ rd + j = rd + 1); omega, nk _ 39 (hl j j1 j2).2.2.2.1.2.1 (by decide) (by decide)⟩) (by show ¬ (rd = rd + 5 ∨ rd = rd + 1); omega) (fun k _ _ => ra k) fn (hou_mk K hE H.1 ok (by rw [e]; exact t2) (fun k _ _ => ra k) ⟨by rw [i1, Fo 0 (by decide) (by omega)]; exact hi.1, by rw [i1, Fo 1 (by decide) (by omega)]; exact hi.2.1, by rw [i1, Fo 6 (by decide) (by omega)]; exact hi.2.2.1, by rw [i1, F4]; rfl⟩ ?_ ?_ ?_ (fun p hp => Or.inl ?_) (fun w hw => Or.inl ?_) (fun k hk => Or.inl ?_) ?_ ?_)
  · rw [e5]; exact (lo 2 (by decide) (by decide)).1
  · rw [e6]; exact (lo 3 (by decide) (by decide)).1
  · rw [e7]; exact (lo 4 (by decide) (by decide)).1
  · rw [e5]
    rw [Fo 2 (by decide) (by omega)] at hp
    have := H.1.1.1.2.2.1
    exact ⟨hp, (lo 2 (by decide) (by decide)).2 p, Fo _ (by omega) (by omega), Fo _ (by omega) (by omega), Fo _ (by omega) (by omega), rfl⟩
  · rw [e6]
    rw [Fo 3 (by decide) (by omega)] at hw
    exact ⟨hw, (lo 3 (by decide) (by decide)).2 w, Fo _ (by omega) (by omega), fun i _ => Fo _ (by omega) (by omega), rfl⟩
  · rw [e7]
    rw [Fo 5 (by decide) (by omega)] at hk
    exact ⟨hk, (lo 4 (by decide) (by decide)).2 k, Fo _ (by omega) (by omega)⟩
  · rw [e8]
    refine ⟨by rw [z']; exact w8.1, by rw [e]; exact w8.2.1, by rw [e]; exact w8.2.2.1, fun x hx => ?_⟩
    rw [i5]
    by_cases c : x = t
    · rw [if_pos c, c, Ft]; rfl
    · rw [if_neg c, Fo _ (by omega) (by omega)]; exact w8.2.2.2 x hx
  · rw [e9]
    have := d9.ond K (by show ¬ (rd + 6 = rd + 5 ∨ rd + 6 = rd + 1); omega)
    refine ⟨this.1, this.2.1, this.2.2.1, fun t ht => ?_⟩
    rw [Fo 5 (by decide) (by omega)]
    rcases this.2.2.2 t ht with ⟨x1, k, x2, x3⟩ | ⟨x1, x2⟩
    · exact Or.inl ⟨x1, k, x2, by rw [Fo _ (by omega) (by omega)]; exact x3⟩
    · exact Or.inr ⟨x1, fun k hk => by rw [Fo _ (by omega) (by omega)]; exact x2 k hk⟩
theorem wall_c (hN : 200000 ≤ N) (m1 : Z + 80 ≤ kG h0 1) (m2 : W + 4000 ≤ kG h0 2) (X : HBS h0 b rd sz Z W σ0 F P h σ) (kd : kI h rd 4 = 2) : LinC h0 b rd sz Z W σ0 (fX7_wall N h rd) (mWall N σ) P := by
  obtain ⟨R, H, hA, hM, f15, ln, u, v, uv, on, i20, i21, u0⟩ := X
  have ht := hT_le H.1.1
  have G : kG h = kG h0 := R.1.2.1.1.2.1
  have gr : kG h 0 ≤ rd := R.rb.1.2.2.1
  have z0 : kZ h0 ≤ rd := R.1.2.1.2.1
  have f4 : F 4 ≤ 30 := H.1.1.1.2.2.2.2.1
  have q4 : kI h rd 4 = 1 ∨ kI h rd 4 = 5 → (4 : Int32) = 1 := fun z => by rw [kd] at z; rcases z with z | z <;> exact absurd z (by decide)
  have o4 : oI h (rd + 1) 2 2 4 = some (nI (F 4)) := ho_4 (h := h) (g := kI h) H.1
  have r4 : rA σ 7 4 = some (nI (F 4)) := by rw [show rA σ 7 4 = some (gA σ 7 4) from rA7 (n := 4) (by decide), hA 4 (by decide)]
  unfold fX7_wall mWall
  rw [H.a9, Option.bind_some, o4, Option.bind_some, r4, Option.bind_some]
  by_cases c30 : F 4 = 30
  · obtain ⟨fa, h', e1, e2⟩ := need_0 (N := N) R (k := 4) q4
    exact Or.inl ⟨fa, h', _, by rw [if_pos (by rw [c30]; decide), H.gt, e1]; rfl, by rw [if_pos (by rw [c30]; rfl)], e2.mono (by omega) (by omega), hM.bad⟩
  · rw [if_neg (show ¬ (30 : Int32) ≤ nI (F 4) from nI_ge (b := 30) (by omega) (by decide)), if_neg (show ¬ nI (F 4) = 30 from fun z => c30 ((nI_eq (b := 30) (by omega) (by decide)).mp z)), H.gt, need_1, Option.bind_some]
    simp only [thr]
    obtain ⟨h3, σ3, P1, g1, g2, R3, g4, g5, g6⟩ := go_both (N := N) hN R.1
    have H3 : HBc b rd h3 F (fun i => gJ σ 9 (12 + i)) := H.ck g6.c
    have M3 : HMe σ0 σ3 := hM.mk g6.m
    have A3 : gA σ3 = gA σ := g6.2.2.2.2.1
    rw [H.gt, g1, Option.bind_some, H3.a9, Option.bind_some, H3.gt, g2, Option.bind_some]
    rcases tuft_both (N := N) hN R3 H3 (by rw [A3]; exact hA 0 (by decide)) (by rw [A3]; exact hA 1 (by decide)) with ⟨fa, h', σ', q1, q2, q3, q4⟩ | ⟨t, h4, σ4, P4, ht, htu, q1, q2, q3, R4, k4, p4, K4, M4, f154⟩
    · exact Or.inl ⟨fa, h', σ', by rw [q1]; rfl, by rw [q2]; rfl, q3.mono (by omega) (by omega), M3.mk q4⟩
    · have H4 : HBc b rd h4 F (fun i => gJ σ 9 (12 + i)) := H3.ck K4
      have e8 : rf h4 (rd + 1) 8 = rd + 5 := H4.2.1 8 (by decide) (by decide)
      have a8 : fR h4 (rd + 1) 2 2 8 = some (rd + 5) := H4.ar (by decide) (by decide)
      have w8 : wlR h4 (kI h4) b F (rd + 5) := by rw [← e8]; exact H4.1.2.2.2.2.2.2.2.2.2.2.2.1
      have ai : aI h4 (rd + 5) 33 (nI t) = some (nI (F (25 + t))) := by rw [← e8]; exact ho_wall (h := h4) (g := kI h4) H4.1 ht
      have G4 : kG h4 = kG h0 := R4.1.2.1.1.2.1
      have t4 : kT h4 (rd + 1) = 2 := H4.1.2.2.1
      have gJ4 : gJ σ4 = gJ σ := by rw [M4.2.1, g6.2.2.2.2.2.1]
      have gA4 : gA σ4 = gA σ := by rw [M4.1, A3]
      have M4' : HMe σ0 σ4 := M3.mk M4
      have wle := H.1.1.2.2.2.1 t ht
      have r25 : rA σ4 7 (25 + gI σ4 18) = some (nI (F (25 + t))) := by rw [q3, show (25 : Int32) + nI t = nI (25 + t) from pl_la 25 t, rA7 (by omega), gA4, hA _ (by omega)]
      rw [q1, Option.bind_some, q2, Option.bind_some, if_neg (show ¬ (1 : Int32) = 0 by decide)]
      simp only []
      rw [H4.a9, Option.bind_some, a8, Option.bind_some, ai, Option.bind_some, r25, Option.bind_some]
      by_cases cw : F (25 + t) = 1
      · obtain ⟨fa, h', e1, e2⟩ := need_0 (N := N) R4 (k := 3) (fun z => by rw [k4] at z; rcases z with z | z <;> exact absurd z (by decide))
        exact Or.inl ⟨fa, h', _, by rw [if_neg (by rw [cw]; decide), H4.gt, e1]; rfl, by rw [if_pos (by rw [cw]; rfl)], e2.mono (by omega) (by omega), M4'.bad⟩
      · have cw0 : F (25 + t) = 0 := by omega
        have hz4 := hb_z H4
        obtain ⟨h5, e5⟩ : ∃ y, y = tI h4 (rd + 5) t 1 := ⟨_, rfl⟩
        have t5 : kT h5 (rd + 1) = 2 := by rw [e5]; exact t4
        have i54 : kI h5 (rd + 1) 4 = nI (F 4) := by rw [e5, kI_tIo (by omega)]; exact H4.1.2.2.2.2.1.2.2.2
        have wi : wI h4 (rd + 5) 33 (nI t) (vp_nar .boolean 1) = some h5 := by rw [nar1, wI_n w8.2.1 (by rw [w8.2.2.1]; exact ht) (by rw [w8.2.2.1]; decide) (by rw [G4, ← G]; omega), e5]
        have t5r : kT h5 rd = 5 := by rw [e5]; exact H4.2.2.2.2.2.1
        have a9 : fR h5 rd 5 5 9 = some (rd + 1) := (fR_n (Nat.le_of_eq t5r.symm) (Nat.le_of_eq t5r)).trans (by rw [e5]; exact H4.2.2.2.2.2.2)
        have wa1 : wA σ4 7 (25 + gI σ4 18) 1 = some (aS σ4 7 (upd (gA σ 7) (25 + t) (nI 1))) := by rw [q3, show (25 : Int32) + nI t = nI (25 + t) from pl_la 25 t, wA7 (by omega), sA_aS, gA4]; rfl
        have ra2 : rA (aS σ4 7 (upd (gA σ 7) (25 + t) (nI 1))) 7 4 = some (nI (F 4)) := by rw [show ∀ s, rA s 7 4 = some (gA s 7 4) from fun s => rA7 (n := 4) (by decide), gA_same, pk_un (by omega), hA 4 (by decide)]
        have wa2 : wA (aS σ4 7 (upd (gA σ 7) (25 + t) (nI 1))) 7 4 (nI (F 4) + 1) = some (aS σ4 7 (upd (upd (gA σ 7) (25 + t) (nI 1)) 4 (nI (F 4 + 1)))) := by rw [show ∀ s v, wA s 7 4 v = some (sA s 7 4 v) from fun s v => wA7 (n := 4) (by decide), sA_aS, gA_same, aS_aS, show nI (F 4) + 1 = nI (F 4 + 1) from nI_add _ 1]
        obtain ⟨h6, e6⟩ : ∃ y, y = tI h5 (rd + 1) 4 (nI (F 4 + 1)) := ⟨_, rfl⟩
        have H6 : HBc b rd h6 (uF (uF F (25 + t) 1) 4 (F 4 + 1)) (fun i => gJ σ 9 (12 + i)) := by
          rw [e6, e5]; exact wall_h H4 ht (by omega)
        have K6 : ond (fun q => q = rd + 5 ∨ q = rd + 1) h4 h6 := by rw [e6, e5]; exact (ond.tI.up fun q _ z => Or.inl z).tr ond.tI fun q _ z => Or.inr z
        obtain ⟨σ6, es6⟩ : ∃ s, s = aS σ4 7 (upd (upd (gA σ 7) (25 + t) (nI 1)) 4 (nI (F 4 + 1))) := ⟨_, rfl⟩
        have R6 : PRS h0 b rd sz 900 (Z + hT F) (W + 60 * hT F) true P4 h6 σ6 := by
          have := PRS.ob2 (t := 0) (w := 0) R4 K6 (fun q _ z => by
            rcases z with z | z
            · rw [z, w8.2.1]; exact ⟨by omega, by omega, by decide, by decide⟩
            · rw [z, t4]; exact ⟨by omega, by omega, by decide, by decide⟩) (by rw [e6, e5]; exact Nat.le_refl _) (by rw [e6, e5]; exact Nat.le_refl _) (by rw [G4]; omega) (by rw [G4]; omega)
          rw [es6]
          exact this.ms (gA_o (by decide)) rfl rfl fun k hk => rfl
        obtain ⟨h7, σ7, P7, y1, y2, R7, y4, y5, y6⟩ := go_both (N := N) hN R6.1
        have v6 := K6.2.2 rd (by omega) (show ¬ (rd = rd + 5 ∨ rd = rd + 1) by omega)
        refine Or.inr ⟨h7, σ7, uF (uF F (25 + t) 1) 4 (F 4 + 1), P7, ?_, ?_, ⟨by rw [hT_cg (F := F) (by rw [uF_o (by decide), uF_o (by omega)]) (by rw [uF_o (by decide), uF_o (by omega)]) (by rw [uF_o (by decide), uF_o (by omega)])]; exact R7, ?_, ?_, ?_, ?_, ?_, u, v, uv, ?_, ?_, ?_, fun z => ?_⟩, by omega, fun w1 w2 => by have := y5 w1 w2; omega⟩
        · rw [if_pos (by rw [cw0]; rfl), H4.gt, need_1, Option.bind_some]
          simp only []
          rw [H4.a9, Option.bind_some, a8, Option.bind_some, wi, Option.bind_some, a9, Option.bind_some, oI_n (Nat.le_of_eq t5.symm) (Nat.le_of_eq t5), i54, Option.bind_some, pI_n (Nat.le_of_eq t5.symm) (Nat.le_of_eq t5) (by rw [e5]; show kG h4 0 ≤ _; rw [G4, ← G]; omega), Option.bind_some, show nI (F 4) + 1 = nI (F 4 + 1) from nI_add _ 1, ← e6, H6.gt, y1, Option.bind_some]
        · rw [if_neg (by rw [cw0]; decide), wa1, Option.bind_some, ra2, Option.bind_some, wa2, Option.bind_some, ← es6, y2, Option.bind_some]
        · rw [show (fun i => gJ σ7 9 (12 + i)) = fun i => gJ σ 9 (12 + i) from by rw [y6.2.2.2.2.2.1, es6]; exact congrArg (fun (x : Nat → Nat → Int64) => fun i => x 9 (12 + i)) gJ4]
          exact H6.ck y6.c
        · rw [y6.2.2.2.2.1, es6, gA_same]; exact upd_uF (upd_uF hA)
        · refine HMe.mk ?_ y6.m
          rw [es6]; exact M4'.as
        · rw [y6.2.2.2.2.2.2 15 (by decide) (by decide) (by decide) (by decide) (by decide), es6, gI_aS, f154, g6.2.2.2.2.2.2 15 (by decide) (by decide) (by decide) (by decide) (by decide)]; exact f15
        · rw [H6.i3 y6.c.r, e6, kI_tI, if_neg (by omega), e5, kI_tIo (by omega), H3.i3 K4.r, H.i3 g6.c.r, y6.2.2.2.2.2.2 19 (by decide) (by decide) (by decide) (by decide) (by decide), es6, gI_aS, M4.2.2 19 (by decide) (by decide) (by decide) (by decide) (by decide) (by decide) (by decide) (by decide), g6.2.2.2.2.2.2 19 (by decide) (by decide) (by decide) (by decide) (by decide)]; exact ln
        · rw [y6.2.2.2.1 10 (by decide), v6.2.2.1, K4.2.2.2 10 (by omega), g6.2.2.2.1 10 (by decide)]; exact on
        · rw [y6.2.2.2.2.2.2 20 (by decide) (by decide) (by decide) (by decide) (by decide), es6, gI_aS, M4.2.2 20 (by decide) (by decide) (by decide) (by decide) (by decide) (by decide) (by decide) (by decide), g6.2.2.2.2.2.2 20 (by decide) (by decide) (by decide) (by decide) (by decide)]; exact i20
        · rw [y6.2.2.2.2.2.2 21 (by decide) (by decide) (by decide) (by decide) (by decide), es6, gI_aS, M4.2.2 21 (by decide) (by decide) (by decide) (by decide) (by decide) (by decide) (by decide) (by decide), g6.2.2.2.2.2.2 21 (by decide) (by decide) (by decide) (by decide) (by decide)]; exact i21
        · rw [uF_o (by decide), uF_o (by omega)]; exact u0 z
end PVG
