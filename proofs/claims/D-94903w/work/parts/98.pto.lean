/-! walks: the lines are read -/
def mW (σ σ' : MS) : Prop := (∀ j, j ≠ 8 → gA σ' j = gA σ j) ∧ gJ σ' = gJ σ ∧ ∀ k, k ≠ 4 → k ≠ 11 → k ≠ 12 → k ≠ 13 → k ≠ 14 → k ≠ 15 → k ≠ 16 → k ≠ 18 → k ≠ 32 → k ≠ 33 → k ≠ 34 → gI σ' k = gI σ k
section PTO
variable {h0 h h' h2 : HS} {σs σ σ' σ2 : MS} {N b rd sz lim P Zm Wm a p : Nat} {sp : Bool} {F : Nat → Nat} {nm : Nat → Int64} {pace : Nat} {s s0 : WS} {ln : Nat → Nat × Nat × Nat}
theorem mW.refl : mW σ σ := ⟨fun _ _ => rfl, rfl, fun _ _ _ _ _ _ _ _ _ _ _ _ => rfl⟩
theorem mW.trans (k1 : mW σ σ') (k2 : mW σ' σ2) : mW σ σ2 := ⟨fun j hj => (k2.1 j hj).trans (k1.1 j hj), k2.2.1.trans k1.2.1, fun k a1 a2 a3 a4 a5 a6 a7 a8 a9 a10 a11 => (k2.2.2 k a1 a2 a3 a4 a5 a6 a7 a8 a9 a10 a11).trans (k1.2.2 k a1 a2 a3 a4 a5 a6 a7 a8 a9 a10 a11)⟩
theorem mK.w (k : mK σ σ') : mW σ σ' := ⟨fun j _ => by rw [k.1], k.2.1, fun j a1 a2 a3 a4 a5 a6 a7 a8 _ _ _ => k.2.2 j a1 a2 a3 a4 a5 a6 a7 a8⟩
theorem mW.a8 {f : Nat → Int32} : mW σ (aS σ 8 f) := ⟨fun j hj => gA_o hj, rfl, fun _ _ _ _ _ _ _ _ _ _ _ _ => rfl⟩
theorem mW.i {k : Nat} {v : Int32} (hk : k = 32 ∨ k = 33 ∨ k = 34) : mW σ (sI σ k v) := ⟨fun _ _ => rfl, rfl, fun j _ _ _ _ _ _ _ _ a9 a10 a11 => by rw [gI_sI, if_neg (by omega)]⟩
theorem PRS.ms (R : PRS h0 b rd sz lim Zm Wm sp P h σ) (e1 : gA σ' 1 = gA σ 1) (e2 : gJ σ' 10 = gJ σ 10) (e3 : gL σ' = gL σ) (e4 : ∀ k, (k = 3 ∨ k = 4 ∨ k = 5 ∨ k = 11 ∨ k = 12 ∨ k = 14) → gI σ' k = gI σ k) : PRS h0 b rd sz lim Zm Wm sp P h σ' := by
  obtain ⟨⟨⟨r1, ⟨r2, r3, r4, r5⟩, r6, r7, r8, r9, r10⟩, rg, rj, rz⟩, ⟨x, x1, x2, x3⟩, T, spr⟩ := R
  refine ⟨⟨⟨r1, ⟨r2, r3, r4, fun i hi => by rw [e1]; exact r5 i hi⟩, r6, r7, by rw [e4 3 (by omega)]; exact r8, by rw [e4 5 (by omega)]; exact r9, by rw [e4 4 (by omega)]; exact r10⟩, rg, fun k hk => by rw [e2]; exact rj k hk, rz⟩, ⟨x, x1, x2, by rw [e4 12 (by omega)]; exact x3⟩, ?_, spr⟩
  unfold TKR
  rw [e4 11 (by omega), e4 14 (by omega), e3]
  exact T
theorem PRS.row (R : PRS h0 b rd sz lim Zm Wm sp P h σ) {f : Nat → Int32} (e : ∀ j, j < 10 → f j = kI h rd j) : PRS h0 b rd sz lim Zm Wm sp P (setR h rd f) σ := by
  obtain ⟨⟨RB0, ⟨g1, g2, g3, g4⟩, rj, rz⟩, ⟨x, x1, x2, x3⟩, T, spr⟩ := R
  refine ⟨⟨RB0.row RB0.2.2.1.1 (e 1 (by decide)) (e 2 (by decide)) (by rw [e 3 (by decide)]; exact RB0.2.2.2.1.2.2) rfl rfl RB0.2.2.2.2.2.2 rfl, ⟨g1.ond ond.setR g2, g2, g3, g4⟩, rj, rz⟩, ⟨x, x1, by rw [setR_I, e 5 (by decide)]; exact x2, x3⟩, ?_, by rw [setR_I, e 4 (by decide)]; exact spr⟩
  unfold TKR at T ⊢
  rw [setR_I, e 4 (by decide), e 6 (by decide), e 7 (by decide)]
  rcases T with T | T | ⟨t1, t2, q, l, t3, t4, t5, t6⟩ | T | T | T
  · exact Or.inl T
  · exact Or.inr (Or.inl T)
  · refine Or.inr (Or.inr (Or.inl ⟨t1, t2, q, l, t3, t4, t5.ond ond.setR (fun z => ?_) (fun z => ?_), t6⟩))
    · have k1 := t5.2.1
      have k2 := RB0.1.1
      have k3 := RB0.1.2.1
      rw [z] at k1; omega
    · have k1 := t5.2.2.2.2.1
      have k2 := RB0.1.1
      have k3 := RB0.1.2.1
      rw [z] at k1; omega
  · exact Or.inr (Or.inr (Or.inr (Or.inl T)))
  · exact Or.inr (Or.inr (Or.inr (Or.inr (Or.inl T))))
  · exact Or.inr (Or.inr (Or.inr (Or.inr (Or.inr T))))
/-- between two lines -/
def WL (h0 : HS) (b rd sz Zm Wm a p pace : Nat) (F : Nat → Nat) (s0 : WS) (σs : MS) (k P : Nat) (ln : Nat → Nat × Nat × Nat) (h : HS) (σ : MS) : Prop :=
  PRS h0 b rd sz 300 Zm Wm true P h σ ∧ kT h rd = 6 ∧ kR h rd 9 = some a ∧ WF h rd (k + 1) (wev F pace s0 ln k) ∧ gI σ 34 = nI k ∧ LN σ ln k ∧ gI σ 32 = nI p ∧ mW σs σ ∧ gI σ 33 = gI σs 33 ∧ gI σ 15 = gI σs 15
theorem wf_k {k : Nat} (K : cK rd h h') (hW : WF h rd k s) : WF h' rd k s := by
  unfold WF
  rw [K.2.2.2 10 (by omega), K.2.2.2 11 (by omega), K.2.2.2 12 (by omega), K.2.2.2 13 (by omega), K.2.2.2 14 (by omega), K.2.2.2 15 (by omega), K.2.2.2 16 (by omega)]
  exact hW
theorem wA8a {n : Nat} {v : Int32} (hn : n < 135) : wA σ 8 (nI n) v = some (aS σ 8 (upd (gA σ 8) n v)) := (wA_n (by show n < 135; exact hn) (by decide)).trans (by rw [sA_aS])
/-- a line and the next ones -/
theorem wr_loop (hN : 200000 ≤ N) (hH0 : HouR h0 (kI h0) b a F nm) (hp : p < F 2) (hpc : F (19 + p) = pace) (hs : okS s0) : ∀ m P k ln h σ fuel, sz - P = m → m < fuel → WL h0 b rd sz Zm Wm a p pace F s0 σs k P ln h σ →
    (∃ fa h' σ', lX12_read_85 N fuel h rd (le h0 (rf h0 a 5) p) = some (.inr (.inl fa, h')) ∧ lX5_walkRead_116 N fuel σ = some (.inr (0, σ')) ∧ FLT h0 Zm Wm h' fa σ' ∧ mW σs σ') ∨
    (∃ k' P' ln' h' σ', lX12_read_85 N fuel h rd (le h0 (rf h0 a 5) p) = some (.inl h') ∧ lX5_walkRead_116 N fuel σ = some (.inl σ') ∧ WL h0 b rd sz Zm Wm a p pace F s0 σs k' P' ln' h' σ') := by
  have k0 := hH0.1.1.1
  have k1 := hH0.1.1.2.1
  intro mm
  induction mm using Nat.strongRecOn with
  | _ mm ih =>
    intro P k ln h σ fuel hm hf hWL
    obtain ⟨R, hT, h9, hW, g34, hL, g32, mw, g33, g15⟩ := id hWL
    obtain ⟨n, rfl⟩ : ∃ n, fuel = n + 1 := ⟨fuel - 1, by omega⟩
    have k30 := hL.1
    have G6 : ∀ {x : HS} {α : Type} (y : Option α), kT x rd = 6 → gT x rd 6 6 y = y := fun y e => gT_n (Nat.le_of_eq e.symm) (Nat.le_of_eq e)
    have O6 : ∀ {x : HS} (j : Nat), kT x rd = 6 → oI x rd 6 6 j = some (kI x rd j) := fun j e => oI_n (Nat.le_of_eq e.symm) (Nat.le_of_eq e)
    obtain ⟨X, hX⟩ : ∃ X, lX12_read_85 N (n + 1) h rd (le h0 (rf h0 a 5) p) = X := ⟨_, rfl⟩
    have e0 := hX
    rw [lX12_read_85, O6 4 hT] at e0
    simp only [Option.bind_some] at e0
    obtain ⟨Y, hY⟩ : ∃ Y, lX5_walkRead_116 N (n + 1) σ = Y := ⟨_, rfl⟩
    have e1 := hY
    rw [lX5_walkRead_116] at e1
    rcases tk_stop R.tk with ⟨t1, t2⟩ | ⟨t1, t2⟩
    · rw [if_pos t1] at e0
      rw [if_pos t2] at e1
      exact Or.inr ⟨k, P, ln, h, σ, by rw [hX, ← e0], by rw [hY, ← e1], hWL⟩
    rw [if_neg t1] at e0
    rw [if_neg t2] at e1
    obtain ⟨v, d1, d2, d3⟩ := dir_both (N := N) hN R
    simp only [G6 _ hT, d1, Option.bind_some, lt_] at e0
    rw [d2] at e1
    rcases d3 with rfl | ⟨t4, d, hd, rfl⟩
    · left
      obtain ⟨fa, h', p1, p2⟩ := need_0 (N := N) (k := 1) R (fun _ => rfl)
      rw [if_pos rfl, p1] at e0
      rw [if_neg (show ¬ (0 : Int32) ≤ -1 by decide)] at e1
      exact ⟨fa, h', _, by rw [hX, ← e0]; rfl, by rw [hY, ← e1]; rfl, p2, mw.trans (bad_m 1).w⟩
    rw [if_neg (fun z => (pl_em1 (a := d) (by omega)).mp z), need_1] at e0
    simp only [Option.bind_some, thr, O6 12 hT, hW.2.2.1, G6 _ hT] at e0
    rw [if_pos (show (0 : Int32) ≤ nI d from nI_le (a := 0) (by omega) (by omega)), g34] at e1
    by_cases c30 : k = 30
    · left
      obtain ⟨fa, h', p1, p2⟩ := need_0 (N := N) (k := 4) R (fun z => by rw [t4] at z; exact absurd z (by decide))
      rw [if_pos (show (30 : Int32) < nI (k + 1) from nI_lt (a := 30) (by omega) (by omega)), p1] at e0
      rw [if_pos (show nI k = 30 by rw [c30]; rfl)] at e1
      exact ⟨fa, h', _, by rw [hX, ← e0]; rfl, by rw [hY, ← e1]; rfl, p2, mw.trans (bad_m 4).w⟩
    rw [if_neg (show ¬ (30 : Int32) < nI (k + 1) from nI_nlt (a := 30) (b := k + 1) (by omega) (by decide)), need_1] at e0
    rw [if_neg (show ¬ nI k = 30 from fun z => c30 ((nI_eq (b := 30) (by omega) (by decide)).mp z))] at e1
    simp only [Option.bind_some, thr, G6 _ hT] at e0
    -- the number of steps
    obtain ⟨h1, σ1, P1, p1, p2, R1, p4, p5, T1⟩ := go_both (N := N) hN R.1
    have hT1 : kT h1 rd = 6 := T1.2.1.trans hT
    have g1 : gI σ1 34 = nI k := (T1.2.2.2.2.2.2 34 (by decide) (by decide) (by decide) (by decide) (by decide)).trans g34
    have n0 : (3 : Int32) * nI k = nI (3 * k) := pl_lm 3 k
    rw [p1] at e0
    rw [p2] at e1
    simp only [Option.bind_some, G6 _ hT1] at e0
    simp only [Option.bind_some, g1, n0] at e1
    rw [wA8a (show 3 * k < 135 by omega)] at e1
    simp only [Option.bind_some] at e1
    obtain ⟨σ2, es2⟩ : ∃ σ2, σ2 = aS σ1 8 (upd (gA σ1 8) (3 * k) (nI d)) := ⟨_, rfl⟩
    rw [← es2] at e1
    have R2 : PRS h0 b rd sz 300 Zm Wm true P1 h1 σ2 := by
      rw [es2]
      exact R1.ms (gA_o (by decide)) rfl rfl fun _ _ => rfl
    have mw2 : mW σs σ2 := by rw [es2]; exact (mw.trans T1.m.w).trans mW.a8
    rcases num_both (N := N) hN R2 1 11 with ⟨fa, h', σ', q1, q2, q3, q4⟩ | ⟨n1, h3, σ3, P3, n999, in1, q1, q2, q3, R3, q5, q6, C3, M3, fM3⟩
    · left
      rw [q1] at e0
      rw [q2] at e1
      exact ⟨fa, h', σ', by rw [hX, ← e0]; rfl, by rw [hY, ← e1]; rfl, q3, mw2.trans q4.w⟩
    rw [q1] at e0
    rw [q2] at e1
    have hT3 : kT h3 rd = 6 := C3.2.1.trans hT1
    have g3 : gI σ3 34 = nI k := by rw [M3.2.2 34 (by decide) (by decide) (by decide) (by decide) (by decide) (by decide) (by decide) (by decide), es2]; exact g1
    simp only [Option.bind_some, thr, G6 _ hT3] at e0
    simp only [Option.bind_some, one0, if_false, g3, n0, q3, show nI (3 * k) + 1 = nI (3 * k + 1) from nI_add _ 1] at e1
    rw [wA8a (show 3 * k + 1 < 135 by omega)] at e1
    simp only [Option.bind_some] at e1
    obtain ⟨σ4, es4⟩ : ∃ σ4, σ4 = aS σ3 8 (upd (gA σ3 8) (3 * k + 1) (nI n1)) := ⟨_, rfl⟩
    rw [← es4] at e1
    have R4 : PRS h0 b rd sz 300 Zm Wm true P3 h3 σ4 := by
      rw [es4]
      exact R3.ms (gA_o (by decide)) rfl rfl fun _ _ => rfl
    have mw4 : mW σs σ4 := by rw [es4]; exact (mw2.trans M3.w).trans mW.a8
    rcases num_both (N := N) hN R4 1 99 with ⟨fa, h', σ', r1, r2, r3, r4⟩ | ⟨n2, h5, σ5, P5, n2999, in2, r1, r2, r3, R5, r5, r6, C5, M5, fM5⟩
    · left
      rw [r1] at e0
      rw [r2] at e1
      exact ⟨fa, h', σ', by rw [hX, ← e0]; rfl, by rw [hY, ← e1]; rfl, r3, mw4.trans r4.w⟩
    rw [r1] at e0
    rw [r2] at e1
    have hT5 : kT h5 rd = 6 := C5.2.1.trans hT3
    have g5 : gI σ5 34 = nI k := by rw [M5.2.2 34 (by decide) (by decide) (by decide) (by decide) (by decide) (by decide) (by decide) (by decide), es4]; exact g3
    simp only [Option.bind_some, thr, G6 _ hT5] at e0
    simp only [Option.bind_some, one0, if_false, g5, n0, r3, show nI (3 * k) + 2 = nI (3 * k + 2) from nI_add _ 2] at e1
    rw [wA8a (show 3 * k + 2 < 135 by omega)] at e1
    simp only [Option.bind_some] at e1
    obtain ⟨σ6, es6⟩ : ∃ σ6, σ6 = aS σ5 8 (upd (gA σ5 8) (3 * k + 2) (nI n2)) := ⟨_, rfl⟩
    rw [← es6] at e1
    have R6 : PRS h0 b rd sz 300 Zm Wm true P5 h5 σ6 := by
      rw [es6]
      exact R5.ms (gA_o (by decide)) rfl rfl fun _ _ => rfl
    have mw6 : mW σs σ6 := by rw [es6]; exact (mw4.trans M5.w).trans mW.a8
    rcases end_both (N := N) hN R6 with ⟨fa, h', σ', s1, s2, s3, s4⟩ | ⟨h7, σ7, P7, s1, s2, R7, s4, s5, C7, M7, fM7⟩
    · left
      rw [s1] at e0
      rw [s2] at e1
      exact ⟨fa, h', σ', by rw [hX, ← e0]; rfl, by rw [hY, ← e1]; rfl, s3, mw6.trans s4.w⟩
    rw [s1] at e0
    rw [s2] at e1
    have hT7 : kT h7 rd = 6 := C7.2.1.trans hT5
    have g7 : gI σ7 34 = nI k := by rw [M7.2.2 34 (by decide) (by decide) (by decide) (by decide) (by decide) (by decide) (by decide) (by decide), es6]; exact g5
    have CC : cK rd h h7 := ((T1.c.trans C3).trans C5).trans C7
    have hW7 := wf_k CC hW
    have Pl : P < P7 := by
      have := r6 (by rw [s5]; decide) (by rw [s5]; decide)
      omega
    have b1 : 1 ≤ n1 ∧ n1 ≤ 11 := by
      rcases isIn_20 (nI n1) (m := 11) (by decide) with z | ⟨-, x, x1, x2, x3⟩
      · rw [show fX1_isIn (nI n1) 1 (nI 11) = fX1_isIn (nI n1) 1 11 from rfl, in1] at z; cases z
      · have := (nI_eq (by omega) (by omega)).mp x3; omega
    have b2 : 1 ≤ n2 ∧ n2 ≤ 99 := by
      rcases isIn_20 (nI n2) (m := 99) (by decide) with z | ⟨-, x, x1, x2, x3⟩
      · rw [show fX1_isIn (nI n2) 1 (nI 99) = fX1_isIn (nI n2) 1 99 from rfl, in2] at z; cases z
      · have := (nI_eq (by omega) (by omega)).mp x3; omega
    obtain ⟨ln', eln⟩ : ∃ ln' : Nat → Nat × Nat × Nat, ln' = fun i => if i = k then (d, n1, n2) else ln i := ⟨_, rfl⟩
    have lnk : ln' k = (d, n1, n2) := by rw [eln]; simp
    have lno : ∀ i, i < k → ln' i = ln i := fun i hi => by rw [eln]; simp only [if_neg (show ¬ i = k by omega)]
    have we : wev F pace s0 ln' k = wev F pace s0 ln k := wev_ext k lno
    have okl : okL (d, n1, n2) := ⟨hd, b1.1, b1.2, b2.1, b2.2⟩
    have gr7 : grow h0 h7 := R7.1.2.1.1
    have hH7 : HouR h7 (kI h7) b a F nm := hH0.keep gr7.kept
    have C7' := R7.1.cs
    have h97 : kR h7 rd 9 = some a := (CC.2.2.1 9 (by decide)).trans h9
    have okw := wev_ok (F := F) (pace := pace) (ln := ln) k0 k1 hs (fun i hi => (hL.2 i hi).1) k (Nat.le_refl _)
    have lee : le h7 (rf h7 a 5) p = le h0 (rf h0 a 5) p := by
      have im5 := (ho_p hH0).1
      have im5' := (ho_p hH0).2.2.2.1.1
      unfold le
      have q1 : rf h7 a 5 = rf h0 a 5 := gr7.kept.rfe hH0.2.1
      have q2 : rf h7 (rf h0 a 5) 1 = rf h0 (rf h0 a 5) 1 := gr7.kept.rfe im5
      rw [q1, q2]
      exact gr7.kept.rfe im5'
    simp only [Option.bind_some, thr, O6 10 hT7, hW7.1, G6 _ hT7] at e0
    simp only [Option.bind_some, one0, if_false, lt_, g7, show nI k + 1 = nI (k + 1) from nI_add _ 1] at e1
    -- the Model's lines
    have LN7 : LN σ7 ln' (k + 1) := by
      refine ⟨by omega, fun i hi => ?_⟩
      have a8 : gA σ7 8 = upd (upd (upd (gA σ 8) (3 * k) (nI d)) (3 * k + 1) (nI n1)) (3 * k + 2) (nI n2) := by
        rw [M7.1, es6, gA_same, M5.1, es4, gA_same, M3.1, es2, gA_same, T1.m.1]
      rw [a8]
      by_cases ei : i = k
      · subst ei
        rw [lnk]
        refine ⟨okl, ?_, ?_, ?_⟩
        · rw [pk_un (by omega), pk_un (by omega), pk_us]
        · rw [pk_un (by omega), pk_us]
        · rw [pk_us]
      · rw [lno i (by omega), pk_un (by omega), pk_un (by omega), pk_un (by omega), pk_un (by omega), pk_un (by omega), pk_un (by omega), pk_un (by omega), pk_un (by omega), pk_un (by omega)]
        exact hL.2 i (by omega)
    have fin : ∀ f : Nat → Int32, WF (setR h7 rd f) rd (k + 1) (wev F pace s0 ln' (k + 1)) → (∀ j, j < 10 → f j = kI h7 rd j) → WL h0 b rd sz Zm Wm a p pace F s0 σs (k + 1) P7 ln' (setR h7 rd (upd f 12 (nI (k + 1 + 1)))) (sI σ7 34 (nI (k + 1))) := fun f hWf hf => by
      refine ⟨?_, hT7, h97, ?_, rfl, ?_, ?_, (mw6.trans M7.w).trans (mW.i (by omega)), ?_, ?_⟩
      · exact (R7.row (f := upd f 12 (nI (k + 1 + 1))) (fun j hj => by rw [pk_un (by omega)]; exact hf j hj)).ms rfl rfl rfl fun j hj => by rw [gI_sI, if_neg (by omega)]
      · obtain ⟨w1, w2, w3, w4, w5, w6, w7⟩ := hWf
        rw [setR_I] at w1 w2 w3 w4 w5 w6 w7
        unfold WF
        rw [setR_I]
        exact ⟨by rw [pk_un (by decide)]; exact w1, by rw [pk_un (by decide)]; exact w2, pk_us, by rw [pk_un (by decide)]; exact w4, by rw [pk_un (by decide)]; exact w5, by rw [pk_un (by decide)]; exact w6, by rw [pk_un (by decide)]; exact w7⟩
      · exact LN7
      · show gI σ7 32 = _
        rw [M7.2.2 32 (by decide) (by decide) (by decide) (by decide) (by decide) (by decide) (by decide) (by decide), es6]
        show gI σ5 32 = _
        rw [M5.2.2 32 (by decide) (by decide) (by decide) (by decide) (by decide) (by decide) (by decide) (by decide), es4]
        show gI σ3 32 = _
        rw [M3.2.2 32 (by decide) (by decide) (by decide) (by decide) (by decide) (by decide) (by decide) (by decide), es2]
        show gI σ1 32 = _
        rw [T1.m.2.2 32 (by decide) (by decide) (by decide) (by decide) (by decide) (by decide) (by decide) (by decide)]; exact g32
      · show gI σ7 33 = _
        rw [M7.2.2 33 (by decide) (by decide) (by decide) (by decide) (by decide) (by decide) (by decide) (by decide), es6]
        show gI σ5 33 = _
        rw [M5.2.2 33 (by decide) (by decide) (by decide) (by decide) (by decide) (by decide) (by decide) (by decide), es4]
        show gI σ3 33 = _
        rw [M3.2.2 33 (by decide) (by decide) (by decide) (by decide) (by decide) (by decide) (by decide) (by decide), es2]
        show gI σ1 33 = _
        rw [T1.m.2.2 33 (by decide) (by decide) (by decide) (by decide) (by decide) (by decide) (by decide) (by decide)]; exact g33
      · show gI σ7 15 = _
        rw [fM7, es6]
        show gI σ5 15 = _
        rw [fM5, es4]
        show gI σ3 15 = _
        rw [fM3, es2]
        show gI σ1 15 = _
        rw [T1.2.2.2.2.2.2 15 (by decide) (by decide) (by decide) (by decide) (by decide)]; exact g15
    have P5le : P7 ≤ sz := R7.rb.2.2.1.1
    have go : ∀ f : Nat → Int32, WF (setR h7 rd f) rd (k + 1) (wev F pace s0 ln' (k + 1)) → (∀ j, j < 10 → f j = kI h7 rd j) → X = lX12_read_85 N n (setR h7 rd (upd f 12 (nI (k + 1 + 1)))) rd (le h0 (rf h0 a 5) p) → (∃ fa h' σ', lX12_read_85 N (n + 1) h rd (le h0 (rf h0 a 5) p) = some (.inr (.inl fa, h')) ∧ lX5_walkRead_116 N (n + 1) σ = some (.inr (0, σ')) ∧ FLT h0 Zm Wm h' fa σ' ∧ mW σs σ') ∨ (∃ k' P' ln' h' σ', lX12_read_85 N (n + 1) h rd (le h0 (rf h0 a 5) p) = some (.inl h') ∧ lX5_walkRead_116 N (n + 1) σ = some (.inl σ') ∧ WL h0 b rd sz Zm Wm a p pace F s0 σs k' P' ln' h' σ') := fun f hWf hf ex => by
      rw [hX, hY, ex, ← e1]
      exact ih (sz - P7) (by omega) P7 (k + 1) ln' _ _ n rfl (by omega) (fin f hWf hf)
    have i12 : ∀ f : Nat → Int32, WF (setR h7 rd f) rd (k + 1) (wev F pace s0 ln' (k + 1)) → ((oI (setR h7 rd f) rd 6 6 12).bind fun v39 => ((pI (setR h7 rd f) rd 6 6 12 (v39 + 1)).bind fun σ40 => lX12_read_85 N n σ40 rd (le h0 (rf h0 a 5) p))) = lX12_read_85 N n (setR h7 rd (upd f 12 (nI (k + 1 + 1)))) rd (le h0 (rf h0 a 5) p) := fun f hWf => by
      rw [oI_n (h := setR h7 rd f) (Nat.le_of_eq hT7.symm) (Nat.le_of_eq hT7), hWf.2.2.1]
      simp only [Option.bind_some, show nI (k + 1) + 1 = nI (k + 1 + 1) from nI_add _ 1]
      rw [pI_n (h := setR h7 rd f) (Nat.le_of_eq hT7.symm) (Nat.le_of_eq hT7) R7.rb.1.2.2.1, tI_setR]; rfl
    have ws : wev F pace s0 ln' (k + 1) = wstep F pace k (wev F pace s0 ln k) (d, n1, n2) := by
      show wstep F pace k (wev F pace s0 ln' k) (ln' k) = _
      rw [we, lnk]
    by_cases wz : (wev F pace s0 ln k).1 = 0
    · rw [if_pos (show nI (wev F pace s0 ln k).1 = 0 by rw [wz]; rfl)] at e0
      obtain ⟨f, f1, f2, f3⟩ := co_wl (N := N) hN hT7 R7.rb.1.2.2.1 h97 C7'.1 hH7 hp hpc okl (by omega) okw wz hW7
      rw [lee] at f1
      rw [f1] at e0
      simp only [Option.bind_some] at e0
      rw [← ws] at f2
      rw [i12 f f2] at e0
      exact go f f2 f3 e0.symm
    · have := okw.2.2.1
      rw [if_neg (show ¬ nI (wev F pace s0 ln k).1 = 0 from fun z => wz ((nI_eq (b := 0) (by omega) (by decide)).mp z))] at e0
      simp only [Option.bind_some] at e0
      have eh : h7 = setR h7 rd (kI h7 rd) := setR_id.symm
      have f2 : WF (setR h7 rd (kI h7 rd)) rd (k + 1) (wev F pace s0 ln' (k + 1)) := by
        rw [setR_id, ws, wstep_n wz]; exact hW7
      refine go (kI h7 rd) f2 (fun _ _ => rfl) ?_
      rw [← i12 (kI h7 rd) f2, setR_id]
      exact e0.symm
end PTO
