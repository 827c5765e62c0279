/-! houses: line door, both sides -/
section PVI
variable {S : Nat → Prop} {h0 h h' h2 : HS} {σ0 σ σ' : MS} {N b rd sz lim P Zm Wm Z W a l n q p w : Nat} {sp : Bool} {F F' : Nat → Nat} {nm nm' : Nat → Int64}
theorem door_c (hN : 200000 ≤ N) (m1 : Z + 80 ≤ kG h0 1) (m2 : W + 4000 ≤ kG h0 2) (X : HBS h0 b rd sz Z W σ0 F P h σ) (kd : kI h rd 4 = 2) : LinC h0 b rd sz Z W σ0 (fX7_door N h rd) (mDoor N σ) P := by
  obtain ⟨R, H, hA, hM, f15, ln, u, v, uv, on, i20, i21, u0⟩ := X
  have ht := hT_le H.1.1
  have G : kG h = kG h0 := R.1.2.1.1.2.1
  have gr : kG h 0 ≤ rd := R.rb.1.2.2.1
  have z0 : kZ h0 ≤ rd := R.1.2.1.2.1
  have bz : b + 18420 ≤ rd := R.rb.1.2.2.2.1
  have f5 : F 5 ≤ 8 := H.1.1.1.2.2.2.2.2.1
  have q4 : kI h rd 4 = 1 ∨ kI h rd 4 = 5 → (4 : Int32) = 1 := fun z => by rw [kd] at z; rcases z with z | z <;> exact absurd z (by decide)
  have a7 : fR h (rd + 1) 2 2 7 = some (rd + 4) := H.ar (by decide) (by decide)
  have sz5 : fJ2_size N h (rd + 4) = some (nI (F 5)) := ls_size (h := h) (g := kI h) (hb_lst H (j := 4) (by decide) (by decide))
  have r5 : rA σ 7 5 = some (nI (F 5)) := by rw [show rA σ 7 5 = some (gA σ 7 5) from rA7 (n := 5) (by decide), hA 5 (by decide)]
  unfold fX7_door mDoor
  rw [H.a9, Option.bind_some, a7, Option.bind_some, H.wk.gl (by decide) (by decide), sz5, Option.bind_some, r5, Option.bind_some]
  by_cases c8 : F 5 = 8
  · obtain ⟨fa, h', e1, e2⟩ := need_0 (N := N) R (k := 4) q4
    exact Or.inl ⟨fa, h', _, by rw [if_pos (by rw [c8]; decide), H.gt, e1]; rfl, by rw [if_pos (by rw [c8]; rfl)], e2.mono (by omega) (by omega), hM.bad⟩
  · have f58 : F 5 < 8 := by omega
    rw [if_neg (show ¬ (8 : Int32) ≤ nI (F 5) from nI_ge (b := 8) (by omega) (by decide)), if_neg (show ¬ nI (F 5) = 8 from fun z => c8 ((nI_eq (b := 8) (by omega) (by decide)).mp z)), H.gt, need_1, Option.bind_some]
    simp only [thr]
    obtain ⟨h3, σ3, P1, g1, g2, R3, g4, g5, g6⟩ := go_both (N := N) hN R.1
    have H3 : HBc b rd h3 F (fun i => gJ σ 9 (12 + i)) := H.ck g6.c
    have M3 : HMe σ0 σ3 := hM.mk g6.m
    have A3 : gA σ3 = gA σ := g6.2.2.2.2.1
    rw [H.gt, g1, Option.bind_some, H3.a9, Option.bind_some, H3.gt, g2, Option.bind_some]
    rcases tuft_both (N := N) hN R3 H3 (by rw [A3]; exact hA 0 (by decide)) (by rw [A3]; exact hA 1 (by decide)) with ⟨fa, h', σ', q1, q2, q3, q4⟩ | ⟨t, h4, σ4, P4, ht, htu, q1, q2, q3, R4, k4, p4, K4, M4, f154⟩
    · exact Or.inl ⟨fa, h', σ', by rw [q1]; rfl, by rw [q2]; rfl, q3.mono (by omega) (by omega), M3.mk q4⟩
    · have H4 : HBc b rd h4 F (fun i => gJ σ 9 (12 + i)) := H3.ck K4
      have e9 : rf h4 (rd + 1) 9 = rd + 6 := H4.2.1 9 (by decide) (by decide)
      have a9' : fR h4 (rd + 1) 2 2 9 = some (rd + 6) := H4.ar (by decide) (by decide)
      have d9 : drR h4 (kI h4) b F (rd + 6) := by rw [← e9]; exact H4.1.2.2.2.2.2.2.2.2.2.2.2.2
      have ai : aI h4 (rd + 6) 33 (nI t) = some (kI h4 (rd + 6) t) := aI_n d9.2.1 (by rw [d9.2.2.1]; exact ht) (by rw [d9.2.2.1]; decide)
      have G4 : kG h4 = kG h0 := R4.1.2.1.1.2.1
      have t4 : kT h4 (rd + 1) = 2 := H4.1.2.2.1
      have gJ4 : gJ σ4 = gJ σ := by rw [M4.2.1, g6.2.2.2.2.2.1]
      have gA4 : gA σ4 = gA σ := by rw [M4.1, A3]
      have M4' : HMe σ0 σ4 := M3.mk M4
      have lp := l337 (N := N) (σ := σ4) (F := F) ht (by rw [gA4]; exact hA) q3 f5 (fun k hk => tuf_lt H.1.1.1.1 H.1.1.1.2.1 (H.1.1.2.2.2.2.1 k hk)) (F 5) 0 N (by omega) (by omega) (fun j hj => by omega)
      rw [q1, Option.bind_some, q2, Option.bind_some, if_neg (show ¬ (1 : Int32) = 0 by decide)]
      simp only []
      rw [H4.a9, Option.bind_some, a9', Option.bind_some, ai, Option.bind_some]
      rcases d9.2.2.2 t ht with ⟨v1, k, v2, v3⟩ | ⟨v1, v2⟩
      · have lp : lX5_line_337 N N σ4 0 = some (.inr (0, (fX5_bad σ4 3).2)) := by
          rcases lp with ⟨-, z⟩ | ⟨z, -⟩
          · exact z
          · exact absurd v3 (z k v2)
        obtain ⟨fa, h', e1, e2⟩ := need_0 (N := N) R4 (k := 3) (fun z => by rw [k4] at z; rcases z with z | z <;> exact absurd z (by decide))
        exact Or.inl ⟨fa, h', _, by rw [if_neg (by rw [v1]; decide), H4.gt, e1]; rfl, by rw [lp]; rfl, e2.mono (by omega) (by omega), M4'.bad⟩
      · have lp : lX5_line_337 N N σ4 0 = some (.inl σ4) := by
          rcases lp with ⟨⟨j, z1, z2⟩, -⟩ | ⟨-, z⟩
          · exact absurd z2 (v2 j z1)
          · exact z
        have rm := R4.1.2.2.2
        obtain ⟨q, h6, h7, S, b1, b2, b3, b4, b5, b6, b7, b8, b9⟩ := door_h (N := N) H4 R4.1.cs ht htu f58 v2 (by rw [G4]; omega) (by rw [G4]; omega) (by rw [G4, ← G]; exact gr) bz
        have wi : wI h4 (rd + 6) 33 (nI t) (vp_nar .boolean 1) = some (tI h4 (rd + 6) t 1) := by rw [nar1, wI_n d9.2.1 (by rw [d9.2.2.1]; exact ht) (by rw [d9.2.2.1]; decide) (by rw [G4, ← G]; omega)]
        have ra1 : ∀ (f : Nat → Int32), f 5 = nI (F 5) → rA (aS σ4 7 f) 7 5 = some (nI (F 5)) := fun f hf => by rw [show ∀ s, rA s 7 5 = some (gA s 7 5) from fun s => rA7 (n := 5) (by decide), gA_same, hf]
        have ra0 : rA σ4 7 5 = some (nI (F 5)) := by rw [show ∀ s, rA s 7 5 = some (gA s 7 5) from fun s => rA7 (n := 5) (by decide), gA4, hA 5 (by decide)]
        have wa1 : wA σ4 7 (169 + nI (F 5)) (gI σ4 18) = some (aS σ4 7 (upd (gA σ 7) (169 + F 5) (nI t))) := by rw [q3, show (169 : Int32) + nI (F 5) = nI (169 + F 5) from pl_la 169 _, wA7 (by omega), sA_aS, gA4]
        have wa2 : wA (aS σ4 7 (upd (gA σ 7) (169 + F 5) (nI t))) 7 5 (nI (F 5) + 1) = some (aS σ4 7 (upd (upd (gA σ 7) (169 + F 5) (nI t)) 5 (nI (F 5 + 1)))) := by rw [show ∀ s v, wA s 7 5 v = some (sA s 7 5 v) from fun s v => wA7 (n := 5) (by decide), sA_aS, gA_same, aS_aS, show nI (F 5) + 1 = nI (F 5 + 1) from nI_add _ 1]
        obtain ⟨σ6, es6⟩ : ∃ s, s = aS σ4 7 (upd (upd (gA σ 7) (169 + F 5) (nI t)) 5 (nI (F 5 + 1))) := ⟨_, rfl⟩
        have hT' : hT (uF (uF F (169 + F 5) t) 5 (F 5 + 1)) = hT F + 2 := by
          unfold hT
          rw [uF_s, uF_o (by decide), uF_o (by omega), uF_o (by decide), uF_o (by omega)]; omega
        have hT2 := hT_le b9.1.1
        rw [hT'] at hT2
        have nr : ¬ S rd := fun z => by have := (b6 rd (by have := hb_z H4; omega) z).1; omega
        have n1 : ¬ S (rd + 1) := fun z => by have := (b6 (rd + 1) (by have := hb_z H4; omega) z).2; omega
        have v6 := b5.2.2 rd (by have := hb_z H4; omega) nr
        have v7 := b5.2.2 (rd + 1) (by have := hb_z H4; omega) n1
        have R6 : PRS h0 b rd sz 900 (Z + (hT F + 2)) (W + 60 * (hT F + 2)) true P4 h7 σ6 := by
          have := PRS.ob2 (t := 2) (w := 12) R4 b5 (fun q hq z => by
            have := b6 q hq z
            exact ⟨by omega, by omega, by omega, by omega⟩) b7 b8 (by rw [G4]; omega) (by rw [G4]; omega)
          have := this.mono (Zn := Z + (hT F + 2)) (Wn := W + 60 * (hT F + 2)) (by omega) (by omega) (by rw [b5.2.1, G4]; omega) (by rw [b5.2.1, G4]; omega)
          rw [es6]
          exact this.ms (gA_o (by decide)) rfl rfl fun k hk => rfl
        obtain ⟨h8, σ8, P8, y1, y2, R8, y4, y5, y6⟩ := go_both (N := N) hN R6.1
        refine Or.inr ⟨h8, σ8, uF (uF F (169 + F 5) t) 5 (F 5 + 1), P8, ?_, ?_, ⟨by rw [hT']; exact R8, ?_, ?_, ?_, ?_, ?_, u, v, uv, ?_, ?_, ?_, fun z => ?_⟩, by omega, fun w1 w2 => by have := y5 w1 w2; omega⟩
        · rw [if_pos (by rw [v1]), H4.gt, need_1, Option.bind_some]
          simp only []
          rw [H4.a9, Option.bind_some, a9', Option.bind_some, wi, Option.bind_some, b2.a9, Option.bind_some, show fR (tI h4 (rd + 6) t 1) (rd + 1) 2 2 7 = some (rd + 4) from b2.ar (by decide) (by decide), Option.bind_some, b1, Option.bind_some]
          simp only []
          rw [b3.gl (by decide) (by decide), b4, Option.bind_some]
          simp only []
          rw [b9.gt, y1, Option.bind_some]
        · rw [lp]
          show ((rA σ4 7 5).bind fun v37 => ((wA σ4 7 (169 + v37) (gI σ4 18)).bind fun σ38 => ((rA σ38 7 5).bind fun v39 => ((wA σ38 7 5 (v39 + 1)).bind fun σ40 => ((fX5_next N σ40).bind fun r41 => some ((1 : Int32), r41)))))) = _
          rw [ra0, Option.bind_some, wa1, Option.bind_some, ra1 _ (by rw [pk_un (by omega), hA 5 (by decide)]), Option.bind_some, wa2, Option.bind_some, ← es6, y2, Option.bind_some]
        · rw [show (fun i => gJ σ8 9 (12 + i)) = fun i => gJ σ 9 (12 + i) from by rw [y6.2.2.2.2.2.1, es6]; exact congrArg (fun (x : Nat → Nat → Int64) => fun i => x 9 (12 + i)) gJ4]
          exact b9.ck y6.c
        · rw [y6.2.2.2.2.1, es6, gA_same]; exact upd_uF (upd_uF hA)
        · refine HMe.mk ?_ y6.m
          rw [es6]; exact M4'.as
        · rw [y6.2.2.2.2.2.2 15 (by decide) (by decide) (by decide) (by decide) (by decide), es6, gI_aS, f154, g6.2.2.2.2.2.2 15 (by decide) (by decide) (by decide) (by decide) (by decide)]; exact f15
        · rw [b9.i3 y6.c.r, v7.2.2.1, H3.i3 K4.r, H.i3 g6.c.r, y6.2.2.2.2.2.2 19 (by decide) (by decide) (by decide) (by decide) (by decide), es6, gI_aS, M4.2.2 19 (by decide) (by decide) (by decide) (by decide) (by decide) (by decide) (by decide) (by decide), g6.2.2.2.2.2.2 19 (by decide) (by decide) (by decide) (by decide) (by decide)]; exact ln
        · rw [y6.2.2.2.1 10 (by decide), v6.2.2.1, K4.2.2.2 10 (by omega), g6.2.2.2.1 10 (by decide)]; exact on
        · rw [y6.2.2.2.2.2.2 20 (by decide) (by decide) (by decide) (by decide) (by decide), es6, gI_aS, M4.2.2 20 (by decide) (by decide) (by decide) (by decide) (by decide) (by decide) (by decide) (by decide), g6.2.2.2.2.2.2 20 (by decide) (by decide) (by decide) (by decide) (by decide)]; exact i20
        · rw [y6.2.2.2.2.2.2 21 (by decide) (by decide) (by decide) (by decide) (by decide), es6, gI_aS, M4.2.2 21 (by decide) (by decide) (by decide) (by decide) (by decide) (by decide) (by decide) (by decide), g6.2.2.2.2.2.2 21 (by decide) (by decide) (by decide) (by decide) (by decide)]; exact i21
        · rw [uF_o (by decide), uF_o (by omega)]; exact u0 z
end PVI
