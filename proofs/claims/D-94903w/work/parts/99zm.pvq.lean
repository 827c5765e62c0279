/-! houses: all lines -/
theorem one_n0 : ¬ (1 : Int32) = 0 := by decide
section PVQ
variable {S : Nat → Prop} {h0 h h' h2 hb : HS} {σ0 σ σ' : MS} {N b rd sz lim P Zm Wm Z W a l n q p w : Nat} {sp : Bool} {F F' E : Nat → Nat} {nm nm' : Nat → Int64} {r : Option ((Nat ⊕ Unit) × HS)} {m : Option (Int32 × MS)}
theorem thr_id : (r.bind fun r => thr r.1 (fun b => some ((Sum.inl b : Nat ⊕ Unit), r.2)) fun _ => some (.inr (), r.2)) = r := by
  cases r with
  | none => rfl
  | some x =>
    obtain ⟨x1, x2⟩ := x
    cases x1 with
    | inl a => rfl
    | inr a => rfl
theorem LinD.gB (H : LinD N h0 b rd sz Z W σ0 r m P) : LinD N h0 b rd sz Z W σ0 r (m.bind fun x => gB x.1 (some (x.1, x.2))) P := by
  rcases H with (⟨fa, h', σ', e1, e2, e3⟩ | ⟨h', σ', F', P', e1, e2, e3⟩) | ⟨h', σ', fa, h2, e1, e2, e3, e4, e5⟩
  · exact Or.inl (Or.inl ⟨fa, h', σ', e1, by rw [e2]; rfl, e3⟩)
  · exact Or.inl (Or.inr ⟨h', σ', F', P', e1, by rw [e2]; rfl, e3⟩)
  · exact Or.inr ⟨h', σ', fa, h2, e1, e2, e3, by rw [e4]; rfl, e5⟩
theorem line_c (hN : 200000 ≤ N) (m1 : Z + 80 ≤ kG h0 1) (m2 : W + 4000 ≤ kG h0 2) (X : HBS h0 b rd sz Z W σ0 F P h σ) : LinD N h0 b rd sz Z W σ0 (fX7_line N h rd) (fX5_line N σ) P := by
  have R := X.1
  have H := X.2.1
  obtain ⟨v1, a1, b1, c1⟩ := is_both (N := N) (w := 7501159) hN R (k := 37) (by decide) (by decide) (by unfold okW; decide) (by decide)
  obtain ⟨v2, a2, b2, c2⟩ := is_both (N := N) (w := 123581014175598) hN R (k := 38) (by decide) (by decide) (by unfold okW; decide) (by decide)
  obtain ⟨v3, a3, b3, c3⟩ := is_both (N := N) (w := 2002873452) hN R (k := 39) (by decide) (by decide) (by unfold okW; decide) (by decide)
  obtain ⟨v4, a4, b4, c4⟩ := is_both (N := N) (w := 1685024626) hN R (k := 40) (by decide) (by decide) (by unfold okW; decide) (by decide)
  obtain ⟨v5, a5, b5, c5⟩ := is_both (N := N) (w := 7823737) hN R (k := 41) (by decide) (by decide) (by unfold okW; decide) (by decide)
  have e0 : fX7_line N h rd = (if v1 = 0 then (if v2 = 0 then (if v3 = 0 then (if v4 = 0 then (if v5 = 0 then fX7_fade N h rd else fX7_way N h rd) else fX7_door N h rd) else fX7_wall N h rd) else fX7_person N h rd) else fX7_rug N h rd) := by
    unfold fX7_line
    simp only [H.gt, a1, a2, a3, a4, a5, Option.bind_some, thr_id]
  have e1 : fX5_line N σ = (if v1 = 0 then (if v2 = 0 then (if v3 = 0 then (if v4 = 0 then (if v5 = 0 then mFade N σ else ((fX5_readWay N σ).bind fun x => gB x.1 (some (x.1, x.2)))) else mDoor N σ) else mWall N σ) else mPers N σ) else mRug N σ) := by
    rw [← b1, ← b2, ← b3, ← b4, ← b5]
    rfl
  rw [e0, e1]
  rcases c1 with rfl | ⟨rfl, kd⟩
  · rw [if_pos rfl, if_pos rfl]
    rcases c2 with rfl | ⟨rfl, kd⟩
    · rw [if_pos rfl, if_pos rfl]
      rcases c3 with rfl | ⟨rfl, kd⟩
      · rw [if_pos rfl, if_pos rfl]
        rcases c4 with rfl | ⟨rfl, kd⟩
        · rw [if_pos rfl, if_pos rfl]
          rcases c5 with rfl | ⟨rfl, kd⟩
          · rw [if_pos rfl, if_pos rfl]; exact Or.inl (fade_c hN m1 m2 X)
          · rw [if_neg one_n0, if_neg one_n0]; exact (way_c hN m1 m2 X kd).gB
        · rw [if_neg one_n0, if_neg one_n0]; exact Or.inl (door_c hN m1 m2 X kd)
      · rw [if_neg one_n0, if_neg one_n0]; exact Or.inl (wall_c hN m1 m2 X kd)
    · rw [if_neg one_n0, if_neg one_n0]; exact Or.inl (pers_c hN m1 m2 X kd)
  · rw [if_neg one_n0, if_neg one_n0]; exact Or.inl (rug_c hN m1 m2 X kd)
/-- the lines, one by one -/
theorem read_lp (hN : 200000 ≤ N) (m1 : Z + 80 ≤ kG h0 1) (m2 : W + 4000 ≤ kG h0 2) : ∀ m P F h σ fuel, sz - P ≤ m → m < fuel → HBS h0 b rd sz Z W σ0 F P h σ →
    (∃ fa h' σ', lX7_read_4 N fuel h rd = some (.inr (.inl fa, h')) ∧ lX5_house_67 N fuel σ = some (.inr (-1 - gI σ' 16, σ')) ∧ FLT h0 (Z + 60) (W + 3600) h' fa σ' ∧ HMe σ0 σ') ∨
    ∃ h' σ' F' P', lX7_read_4 N fuel h rd = some (.inl h') ∧ lX5_house_67 N fuel σ = some (.inl σ') ∧ HBS h0 b rd sz Z W σ0 F' P' h' σ' := by
  intro m
  induction m using Nat.strongRecOn with
  | _ m ih =>
    intro P F h σ fuel hm hf X
    obtain ⟨n, rfl⟩ : ∃ n, fuel = n + 1 := ⟨fuel - 1, by omega⟩
    have R := X.1
    have H := X.2.1
    rcases tk_stop R.tk with ⟨k4, m11⟩ | ⟨k4, m11⟩
    · refine Or.inr ⟨h, σ, F, P, ?_, ?_, X⟩
      · rw [lX7_read_4, H.o, Option.bind_some, if_pos k4]
      · rw [lX5_house_67, if_pos m11]
    · have eC : lX7_read_4 N (n + 1) h rd = ((fX7_line N h rd).bind fun r4 => thr r4.1 (fun b4 => some (.inr (.inl b4, r4.2))) fun w4 => gT r4.2 rd 5 5 (((fX6_end N r4.2 rd).bind fun r5 => thr r5.1 (fun b5 => some (.inr (.inl b5, r5.2))) fun w5 => ((fR r5.2 rd 5 5 9).bind fun a6 => ((oI r5.2 a6 2 2 3).bind fun v7 => ((pI r5.2 a6 2 2 3 (v7 + 1)).bind fun σ8 => lX7_read_4 N n σ8 rd)))))) := by
        rw [lX7_read_4, H.o, Option.bind_some, if_neg k4, H.gt]
      have eM : lX5_house_67 N (n + 1) σ = ((fX5_line N σ).bind fun r13 => (if r13.1 = 0 then (some (.inr (((-1) - (gI r13.2 16)), r13.2))) else ((fX5_sign N r13.2 59).bind fun r15 => (if r15.1 = 0 then (some (.inr (((-1) - (gI r15.2 16)), r15.2))) else lX5_house_67 N n (sI r15.2 19 ((gI r15.2 19) + 1)))))) := by
        rw [lX5_house_67, if_neg m11]; rfl
      rw [eC, eM]
      rcases line_c hN m1 m2 X with (⟨fa, h', σ', e1, e2, e3, e4⟩ | ⟨h1, σ1, F1, P1, e1, e2, X1, p1, p2⟩) | ⟨h', σ', fa, h2, e1, e2, e3, e4, e5, e6⟩
      · exact Or.inl ⟨fa, h', σ', by rw [e1]; rfl, by rw [e2]; rfl, e3, e4⟩
      · obtain ⟨R1, H1, hA1, hM1, f15, ln, u, v, uv, on, i20, i21, u0⟩ := X1
        have ht := hT_le H1.1.1
        rw [e1, Option.bind_some, e2, Option.bind_some, if_neg one_n0]
        simp only [thr]
        rw [H1.gt]
        rcases end_both (N := N) hN R1 with ⟨fa, h', σ', x1, x2, x3, x4⟩ | ⟨h2, σ2, P2, x1, x2, R2, p3, k4', K2, M2, f2⟩
        · exact Or.inl ⟨fa, h', σ', by rw [x1]; rfl, by rw [x2]; rfl, x3.mono (by omega) (by omega), hM1.mk x4⟩
        · have pp : P < P1 := p2 (by rw [k4']; decide) (by rw [k4']; decide)
          have H2 := H1.ck K2
          have t2 : kT h2 (rd + 1) = 2 := H2.1.2.2.1
          have gr : kG h2 0 ≤ rd := R2.rb.1.2.2.1
          have Pz : P2 ≤ sz := R2.rb.2.2.1.1
          obtain ⟨h3, e3⟩ : ∃ y, y = tI h2 (rd + 1) 3 (kI h2 (rd + 1) 3 + 1) := ⟨_, rfl⟩
          have i3 : ∀ k, kI h3 (rd + 1) k = if k = 3 then kI h2 (rd + 1) 3 + 1 else kI h2 (rd + 1) k := fun k => by
            rw [e3, kI_tI]
            by_cases c : k = 3
            · rw [if_pos ⟨rfl, c⟩, if_pos c]
            · rw [if_neg (fun z => c z.2), if_neg c]
          have hi := H2.1.2.2.2.2.1
          have K3 : ond (fun q => q = rd + 1) h2 h3 := by rw [e3]; exact ond.tI
          have H3 : HBc b rd h3 F1 (fun i => gJ σ1 9 (12 + i)) := hb_f H2 K3 (by rw [e3]; exact t2) (by rw [e3]; rfl) ⟨by rw [i3]; exact hi.1, by rw [i3]; exact hi.2.1, by rw [i3]; exact hi.2.2.1, by rw [i3]; exact hi.2.2.2⟩ H2.1.1 fun _ _ _ _ => rfl
          have r3 := (K3.2.2 rd (by have := hb_z H2; omega) (show ¬ rd = rd + 1 by omega)).2.2.1
          have I2 : ∀ j, (j = 19 ∨ j = 20 ∨ j = 21) → gI σ2 j = gI σ1 j := fun j hj => M2.2.2 j (by omega) (by omega) (by omega) (by omega) (by omega) (by omega) (by omega) (by omega)
          have X3 : HBS h0 b rd sz Z W σ0 F1 P2 h3 (sI σ2 19 (gI σ2 19 + 1)) := by
            refine ⟨?_, ?_, ?_, (hM1.mk M2).si (by omega), ?_, ?_, u, v, uv, ?_, ?_, ?_, u0⟩
            · rw [e3]; exact (R2.hw t2).ms rfl rfl rfl fun k hk => by rw [gI_sI, if_neg (by omega)]
            · show HBc b rd h3 F1 (fun i => gJ σ2 9 (12 + i))
              rw [M2.2.1]; exact H3
            · show ∀ i, i < 429 → gA σ2 7 i = nI (F1 i)
              rw [M2.1]; exact hA1
            · rw [gI_sI, if_neg (by decide), f2]; exact f15
            · rw [i3, if_pos rfl, gI_sI, if_pos rfl, H1.i3 K2.r, I2 19 (by omega), ln]
            · rw [r3, K2.2.2.2 10 (by omega)]; exact on
            · rw [gI_sI, if_neg (by decide), I2 20 (by omega)]; exact i20
            · rw [gI_sI, if_neg (by decide), I2 21 (by omega)]; exact i21
          rw [x1, Option.bind_some, x2, Option.bind_some, if_neg one_n0]
          simp only []
          rw [H2.a9, Option.bind_some, oI_n (Nat.le_of_eq t2.symm) (Nat.le_of_eq t2), Option.bind_some, pI_n (Nat.le_of_eq t2.symm) (Nat.le_of_eq t2) (by omega), Option.bind_some, ← e3]
          exact ih (m - 1) (by omega) P2 F1 h3 _ n (by omega) (by omega) X3
      · refine Or.inl ⟨fa, h2, σ', ?_, by rw [e4]; rfl, e5, e6⟩
        rw [e1, Option.bind_some]
        simp only [thr]
        rw [gT_n (Nat.le_of_eq e2.symm) (Nat.le_of_eq e2), e3, Option.bind_some]
end PVQ
