/-! walks: a walk is read -/
section PTP
variable {h0 h h' h2 : HS} {σs σ σ' σ2 : MS} {N b rd sz lim P Zm Wm a p : Nat} {sp : Bool} {F : Nat → Nat} {nm : Nat → Int64} {pace : Nat} {s s0 : WS} {ln : Nat → Nat × Nat × Nat}
/-- a number is held, and left behind -/
theorem hg_both (hN : 200000 ≤ N) (R : PRS h0 b rd sz lim Zm Wm sp P h σ) (x1 x2 : Int32) : (∃ fa h' σ', fX6_hold N h rd x1 x2 = some (.inl fa, h') ∧ fX5_takes N σ x1 x2 = some (0, σ') ∧ FLT h0 Zm Wm h' fa σ' ∧ mK σ σ') ∨ (∃ k h' σ' P', k ≤ 999 ∧ fX1_isIn (nI k) x1 x2 = 1 ∧ fX6_hold N h rd x1 x2 = some (.inr (nI k), h) ∧ fX6_go N h rd = some h' ∧ fX5_takes N σ x1 x2 = some (1, σ') ∧ gI σ' 18 = nI k ∧ PRS h0 b rd sz lim Zm Wm true P' h' σ' ∧ P ≤ P' ∧ (kI h' rd 4 ≠ 0 → kI h' rd 4 ≠ 5 → P < P') ∧ cK rd h h' ∧ mK σ σ' ∧ gI σ' 15 = gI σ 15) := by
  have RB0 := R.rb
  unfold fX5_takes
  rw [isIn_5]
  rcases hold_c (N := N) R x1 x2 with ⟨t, fa, h', e1, e2⟩ | ⟨t, k, hk, t4, t3, ⟨q, fa, h', e1, e2⟩ | ⟨q, e1⟩⟩
  · left
    rw [if_neg t]
    exact ⟨fa, h', _, e1, rfl, e2, bad_m 1⟩
  · left
    rw [if_pos t, t4, if_pos q]
    exact ⟨fa, h', _, e1, rfl, e2, bad_m 2⟩
  · right
    have R2 : PR0 h0 b rd sz lim Zm Wm P h (sI σ 18 (nI k)) := R.1
    obtain ⟨h', σ', P', p1, p2, p3, p4, p5, p6⟩ := go_both (N := N) hN R2
    refine ⟨k, h', σ', P', hk, q, e1, p1, ?_, ?_, p3, p4, p5, p6.c, ?_, (p6.2.2.2.2.2.2 15 (by decide) (by decide) (by decide) (by decide) (by decide)).trans rfl⟩
    · rw [if_pos t, t4, q, if_neg (by decide)]
      simp only [lt_, p2, Option.bind_some]
    · rw [p6.2.2.2.2.2.2 18 (by decide) (by decide) (by decide) (by decide) (by decide)]; rfl
    · have := p6.m
      exact ⟨this.1, this.2.1, fun j a1 a2 a3 a4 a5 a6 a7 a8 => by rw [this.2.2 j a1 a2 a3 a4 a5 a6 a7 a8, gI_sI, if_neg a8]⟩
theorem in_lt {k n : Nat} (hk : k ≤ 999) (hn : n < 1000) (h : fX1_isIn (nI k) 0 (nI n - 1) = 1) : k < n := by
  rcases isIn_cs (nI k) (n := n) (by omega) with ⟨z, -⟩ | ⟨-, i, hi, e⟩
  · rw [h] at z; cases z
  · have := (nI_eq (by omega) (by omega)).mp e; omega
/-- where a walk begins -/
def wbeg (F : Nat → Nat) (at_ : Nat) : WS := if F (25 + at_) = 1 then (1, 0, none, 0, 0, none) else (0, -1, some at_, 0, 0, none)
theorem wbeg_ok {at_ : Nat} (h : at_ < 144) : okS (wbeg F at_) := by
  unfold wbeg
  by_cases c : F (25 + at_) = 1
  · rw [if_pos c]; exact ⟨fun t ht => (by cases ht), fun q => absurd q (by show ¬ (1 : Nat) = 0; decide), by show (1 : Nat) ≤ 3; decide, fun c hc => (by cases hc)⟩
  · rw [if_neg c]; exact ⟨fun t ht => by cases ht; exact h, fun _ => ⟨at_, rfl⟩, Nat.zero_le _, fun c hc => (by cases hc)⟩
/-- the whole reading -/
theorem wk_read (hN : 200000 ≤ N) (hH0 : HouR h0 (kI h0) b a F (gJ σ 9)) (hM : MH (gA σ 6) F) (R : PR0 h0 b rd sz 300 Zm Wm P h σ) (hT : kT h rd = 6) (h9 : kR h rd 9 = some a) (i10 : kI h rd 10 = 0) (i11 : kI h rd 11 = -1) (i12 : kI h rd 12 = 0) (i13 : kI h rd 13 = -1) (i14 : kI h rd 14 = 0) (i15 : kI h rd 15 = 0) (i16 : kI h rd 16 = -1) (g34 : gI σ 34 = 0) :
    (∃ fa h' σ', fX12_read N h rd = some (.inl fa, h') ∧ ((fX5_next N σ).bind fun r5 => fX5_walkRead N r5) = some (0, σ') ∧ FLT h0 Zm Wm h' fa σ' ∧ mW σ σ') ∨
    (∃ p at_ k P' ln' h' σ' σs, at_ < 144 ∧ p < F 2 ∧ fX12_read N h rd = some (.inr rd, h') ∧ ((fX5_next N σ).bind fun r5 => fX5_walkRead N r5) = some (1, σ') ∧ mW σ σs ∧ (gI σs 33 = nI at_ ∧ gI σs 15 = gI σ 15) ∧ WL h0 b rd sz Zm Wm a p (F (19 + p)) F (wbeg F at_) σs k P' ln' h' σ') := by
  have k0 := hM.1.1.1
  have k1 := hM.1.1.2.1
  have G6 : ∀ {x : HS} {α : Type} (y : Option α), kT x rd = 6 → gT x rd 6 6 y = y := fun y e => gT_n (Nat.le_of_eq e.symm) (Nat.le_of_eq e)
  have F9 : ∀ {x : HS}, kT x rd = 6 → kR x rd 9 = some a → fR x rd 6 6 9 = some a := fun e e9 => (fR_n (Nat.le_of_eq e.symm) (Nat.le_of_eq e)).trans e9
  have HH : ∀ {x : HS}, grow h0 x → HouR x (kI x) b a F (gJ σ 9) := fun H => hH0.keep H.kept
  have RF : ∀ {x : HS}, grow h0 x → rf x a 5 = rf h0 a 5 := fun H => H.kept.rfe hH0.2.1
  have LE : ∀ {x : HS} (i : Nat), grow h0 x → le x (rf h0 a 5) i = le h0 (rf h0 a 5) i := fun i H => by
    unfold le
    rw [H.kept.rfe (ho_p hH0).1]
    exact H.kept.rfe (ho_p hH0).2.2.2.1.1
  obtain ⟨h1, σ1, P1, p1, p2, R1, p4, p5, T1⟩ := go_both (N := N) hN R
  have hT1 : kT h1 rd = 6 := T1.2.1.trans hT
  have h91 : kR h1 rd 9 = some a := (T1.2.2.1 9 (by decide)).trans h9
  have gr1 := R1.1.2.1.1
  have gJ1 : gJ σ1 = gJ σ := T1.2.2.2.2.2.1
  have gA1 : gA σ1 = gA σ := T1.2.2.2.2.1
  have hM1 : MH (gA σ1 6) F := by rw [gA1]; exact hM
  obtain ⟨X, hX⟩ : ∃ X, fX12_read N h rd = X := ⟨_, rfl⟩
  have e0 := hX
  unfold fX12_read at e0
  rw [G6 _ hT, p1] at e0
  have hp5 : fR h1 a 2 2 5 = some (rf h0 a 5) := (ho_R (HH gr1) (k := 5) (by decide) (by decide)).trans (by rw [RF gr1])
  simp only [Option.bind_some, F9 hT1 h91, hp5, G6 _ hT1] at e0
  rw [p2, Option.bind_some]
  obtain ⟨Y, hY⟩ : ∃ Y, fX5_walkRead N σ1 = Y := ⟨_, rfl⟩
  have e1 := hY
  unfold fX5_walkRead at e1
  have k2 := hM.1.1.2.2.1
  have O := one_both (N := N) (lst := rf h0 a 5) (n := F 2) (base := 0) hN R1 (by omega) (by omega) (fun h' K => by
    have gr' := gr1.ond K.1 R1.1.2.1.2.1
    have H' := HH gr'
    refine ⟨by rw [← RF gr']; exact ho_p H', fun i hi => ?_⟩
    have := H'.2.2.2.2.2.2.2.2.1 i hi
    rw [RF gr'] at this
    refine ⟨by rw [this.1]; decide, by rw [this.1]; decide, this.2.2.2.2.1, ?_⟩
    rw [gJ1, Nat.zero_add]; exact this.2.2.2.2.2)
  have fd0 : fX5_find N σ1 0 (nI (F 2)) = fX5_find N σ1 (nI 0) (nI (F 2)) := rfl
  rcases O with ⟨o1, fa, h', o2, o3⟩ | ⟨o1, o4, fa, h', o2, o3⟩ | ⟨o1, p, h2, hp, o4, o2, R2, K2⟩
  · left
    rw [o2] at e0
    rw [o1] at e1
    exact ⟨fa, h', _, by rw [hX, ← e0]; rfl, by rw [hY, ← e1]; rfl, o3, (T1.m.trans (bad_m 1)).w⟩
  · left
    rw [o2] at e0
    rw [o1] at e1
    simp only [Option.bind_some, one0, if_false, mo_2 hM1, fd0, o4, lt_, show gI (sI σ1 32 (-1)) 32 = -1 from rfl, show ((0 : Int32) ≤ -1) = False from eq_false (by decide)] at e1
    refine ⟨fa, h', (fX5_bad (sI σ1 32 (-1)) 3).2, by rw [hX, ← e0]; rfl, by rw [hY, ← e1]; rfl, o3, (T1.m.w.trans (mW.i (by omega))).trans (bad_m 3).w⟩
  have hT2 : kT h2 rd = 6 := K2.2.1.trans hT1
  have h92 : kR h2 rd 9 = some a := (K2.2.2.1 9 (by decide)).trans h91
  have gr2 := R2.1.2.1.1
  rw [o2] at e0
  rw [o1] at e1
  have hL2 := ho_p (HH gr2)
  rw [RF gr2] at hL2
  have lsg : ∀ {α : Type} (x : Option α), gT h2 (rf h0 a 5) 15 15 x = x := fun x => ls_g hL2
  have gt2 : fJ2_get N h2 (rf h0 a 5) (nI p) = some (le h0 (rf h0 a 5) p) := (ls_get (N := N) hL2 hp).trans (by rw [LE p gr2])
  have pT : ∀ {x : HS}, grow h0 x → kT x (le h0 (rf h0 a 5) p) = 9 := fun H => by
    have := ho_pT (HH H) hp
    rw [RF H, LE p H] at this; exact this
  have pT2 := pT gr2
  have z32 : gI (sI σ1 32 (nI p)) 32 = nI p := rfl
  simp only [Option.bind_some, thr, lsg, gt2, G6 _ hT2] at e0
  rw [gT_n (Nat.le_of_eq pT2.symm) (Nat.le_of_eq pT2)] at e0
  simp only [Option.bind_some, one0, if_false, mo_2 hM1, fd0, o4, lt_, z32] at e1
  rw [if_pos (show (0 : Int32) ≤ nI p from nI_le (a := 0) (by omega) (by omega))] at e1
  -- x
  obtain ⟨σ2, es2⟩ : ∃ σ2, σ2 = sI σ1 32 (nI p) := ⟨_, rfl⟩
  rw [← es2] at e1
  have R2' : PR0 h0 b rd sz 300 Zm Wm P1 h2 σ2 := by rw [es2]; exact (R2.ms (σ' := sI σ1 32 (nI p)) rfl rfl rfl fun k hk => by rw [gI_sI, if_neg (by omega)]).1
  have mw2 : mW σ σ2 := by rw [es2]; exact T1.m.w.trans (mW.i (by omega))
  obtain ⟨h3, σ3, P3, q1, q2, R3, q4, q5, T3⟩ := go_both (N := N) hN R2'
  have hT3 : kT h3 rd = 6 := T3.2.1.trans hT2
  have h93 : kR h3 rd 9 = some a := (T3.2.2.1 9 (by decide)).trans h92
  have gr3 := R3.1.2.1.1
  have mw3 := mw2.trans T3.m.w
  have hM3 : MH (gA σ3 6) F := by rw [mw3.1 6 (by decide)]; exact hM
  rw [q1] at e0
  rw [q2] at e1
  simp only [Option.bind_some, F9 hT3 h93, G6 _ hT3] at e0
  unfold fX6_holdTuft at e0
  have ho0 : oI h3 a 2 2 0 = some (nI (F 0)) := ho_0 (HH gr3)
  have r0 : rA σ3 6 0 = some (nI (F 0)) := mo_i (i := 0) hM3 (by decide)
  rw [ho0] at e0
  rw [Option.bind_some, r0] at e1
  simp only [Option.bind_some, rb_g R3.rb] at e0 e1
  rcases num_both (N := N) hN R3 0 (nI (F 0) - 1) with ⟨fa, h', σ', s1, s2, s3, s4⟩ | ⟨x, h4, σ4, P4, x999, inx, s1, s2, s3, R4, s5, s6, C4, M4, fM4⟩
  · left
    rw [s1] at e0
    rw [s2] at e1
    exact ⟨fa, h', σ', by rw [hX, ← e0]; rfl, by rw [hY, ← e1]; rfl, s3, mw3.trans s4.w⟩
  rw [s1] at e0
  rw [s2] at e1
  have hT4 : kT h4 rd = 6 := C4.2.1.trans hT3
  have h94 : kR h4 rd 9 = some a := (C4.2.2.1 9 (by decide)).trans h93
  have gr4 := R4.1.2.1.1
  obtain ⟨σ5, es5⟩ : ∃ σ5, σ5 = sI σ4 33 (nI x) := ⟨_, rfl⟩
  have mw5 : mW σ σ5 := by rw [es5]; exact (mw3.trans M4.w).trans (mW.i (by omega))
  have hM5 : MH (gA σ5 6) F := by rw [mw5.1 6 (by decide)]; exact hM
  have r1 : rA σ5 6 1 = some (nI (F 1)) := mo_i (i := 1) hM5 (by decide)
  have ho1 : oI h4 a 2 2 1 = some (nI (F 1)) := ho_1 (HH gr4)
  have R5 : PRS h0 b rd sz 300 Zm Wm true P4 h4 σ5 := by rw [es5]; exact R4.ms rfl rfl rfl fun k hk => by rw [gI_sI, if_neg (by omega)]
  simp only [Option.bind_some, thr, ho1, rb_g R4.rb] at e0
  simp only [Option.bind_some, one0, if_false, lt_, s3, ← es5, r1] at e1
  rcases hg_both (N := N) hN R5 0 (nI (F 1) - 1) with ⟨fa, h', σ', u1, u2', u3, u4⟩ | ⟨y, h6, σ6, P6, y999, iny, u1, u2', u3, u4, R6, u6, u7, C6, M6, fM6⟩
  · left
    rw [u1] at e0
    rw [u2'] at e1
    exact ⟨fa, h', σ', by rw [hX, ← e0]; rfl, by rw [hY, ← e1]; rfl, u3, mw5.trans u4.w⟩
  have hx := in_lt x999 (by omega) inx
  have hy := in_lt y999 (by omega) iny
  rw [u1] at e0
  rw [u3] at e1
  have hT6 : kT h6 rd = 6 := C6.2.1.trans hT4
  have g633 : gI σ6 33 = nI x := by rw [M6.2.2 33 (by decide) (by decide) (by decide) (by decide) (by decide) (by decide) (by decide) (by decide), es5]; rfl
  simp only [Option.bind_some, thr, G6 _ hT4, u2', G6 _ hT6] at e0
  obtain ⟨at_, eat⟩ : ∃ at_, at_ = 12 * y + x := ⟨_, rfl⟩
  have at144 : at_ < 144 := by omega
  have w11 : (12 : Int32) * nI y + nI x = nI at_ := by rw [pl_lm, nI_add, eat]
  have w11' : nI x + 12 * nI y = nI at_ := by rw [pl_lm, nI_add, eat]; congr 1; show x + 12 * y = _; omega
  simp only [Option.bind_some, one0, if_false, lt_, g633, u4, w11'] at e1
  rw [w11] at e0
  obtain ⟨σ7, es7⟩ : ∃ σ7, σ7 = sI σ6 33 (nI at_) := ⟨_, rfl⟩
  rw [← es7] at e1
  have mw7 : mW σ σ7 := by rw [es7]; exact (mw5.trans M6.w).trans (mW.i (by omega))
  have R7 : PRS h0 b rd sz 300 Zm Wm true P6 h6 σ7 := by rw [es7]; exact R6.ms rfl rfl rfl fun k hk => by rw [gI_sI, if_neg (by omega)]
  rcases end_both (N := N) hN R7 with ⟨fa, h', σ', v1, v2, v3, v4⟩ | ⟨h8, σ8, P8, v1, v2, R8, v4, v5, C8, M8, fM8⟩
  · left
    rw [v1] at e0
    rw [v2] at e1
    exact ⟨fa, h', σ', by rw [hX, ← e0]; rfl, by rw [hY, ← e1]; rfl, v3, mw7.trans v4.w⟩
  have hT8 : kT h8 rd = 6 := C8.2.1.trans hT6
  have CC : cK rd h h8 := ((((T1.c.trans K2).trans T3.c).trans C4).trans C6).trans C8
  have h98 : kR h8 rd 9 = some a := (CC.2.2.1 9 (by decide)).trans h9
  have gr8 := R8.1.2.1.1
  have hwl : aI h8 (rf h8 a 8) 33 (nI at_) = some (nI (F (25 + at_))) := ho_wall (HH gr8) at144
  have hr8 : fR h8 a 2 2 8 = some (rf h8 a 8) := ho_R (HH gr8) (k := 8) (by decide) (by decide)
  rw [v1] at e0
  rw [v2] at e1
  simp only [Option.bind_some, thr, F9 hT8 h98, hr8, hwl, G6 _ hT8] at e0
  simp only [Option.bind_some, one0, if_false] at e1
  have I8 : ∀ k, (k < 3 ∨ 7 < k) → kI h8 rd k = kI h rd k := CC.2.2.2
  have O6 : ∀ g j, oI (setR h8 rd g) rd 6 6 j = some (g j) := fun g j => (oI_n (h := setR h8 rd g) (Nat.le_of_eq hT8.symm) (Nat.le_of_eq hT8)).trans (by rw [setR_I])
  have P0 : ∀ j v, pI h8 rd 6 6 j v = some (setR h8 rd (upd (kI h8 rd) j v)) := fun j v => pI_n (Nat.le_of_eq hT8.symm) (Nat.le_of_eq hT8) R8.rb.1.2.2.1
  have Pw : ∀ g j v, pI (setR h8 rd g) rd 6 6 j v = some (setR h8 rd (upd g j v)) := fun g j v => (pI_n (h := setR h8 rd g) (Nat.le_of_eq hT8.symm) (Nat.le_of_eq hT8) R8.rb.1.2.2.1).trans (by rw [tI_setR])
  have g8 : ∀ k, (k = 32 ∨ k = 34) → gI σ8 k = if k = 32 then nI p else 0 := fun k hk => by
    have hh : gI σ8 k = gI σ2 k := by
      have e8 := M8.2.2 k (by omega) (by omega) (by omega) (by omega) (by omega) (by omega) (by omega) (by omega)
      have e6 := M6.2.2 k (by omega) (by omega) (by omega) (by omega) (by omega) (by omega) (by omega) (by omega)
      have e4 := M4.2.2 k (by omega) (by omega) (by omega) (by omega) (by omega) (by omega) (by omega) (by omega)
      have e3 := T3.m.2.2 k (by omega) (by omega) (by omega) (by omega) (by omega) (by omega) (by omega) (by omega)
      rw [e8, es7, gI_sI, if_neg (by omega), e6, es5, gI_sI, if_neg (by omega), e4, e3]
    rw [hh, es2, gI_sI]
    rcases hk with rfl | rfl
    · rw [if_pos rfl, if_pos rfl]
    · rw [if_neg (by decide), if_neg (by decide), T1.m.2.2 34 (by decide) (by decide) (by decide) (by decide) (by decide) (by decide) (by decide) (by decide)]; exact g34
  have mw8 : mW σ σ8 := mw7.trans M8.w
  have g833 : gI σ8 33 = nI at_ := by rw [M8.2.2 33 (by decide) (by decide) (by decide) (by decide) (by decide) (by decide) (by decide) (by decide), es7]; rfl
  have g815 : gI σ8 15 = gI σ 15 := by
    rw [fM8, es7]
    show gI σ6 15 = _
    rw [fM6, es5]
    show gI σ4 15 = _
    rw [fM4, T3.2.2.2.2.2.2 15 (by decide) (by decide) (by decide) (by decide) (by decide), es2]
    show gI σ1 15 = _
    exact T1.2.2.2.2.2.2 15 (by decide) (by decide) (by decide) (by decide) (by decide)
  -- the loop
  have run : ∀ f : Nat → Int32, (∀ j, j < 10 → f j = kI h8 rd j) → WF (setR h8 rd f) rd 1 (wbeg F at_) → X = (osm (lX12_read_85 N N (setR h8 rd f) rd (le h0 (rf h0 a 5) p)) id fun q41 => some (.inr rd, q41)) → (∃ fa h' σ', X = some (.inl fa, h') ∧ Y = some (0, σ') ∧ FLT h0 Zm Wm h' fa σ' ∧ mW σ σ') ∨ (∃ p at_ k P' ln' h' σ' σs, at_ < 144 ∧ p < F 2 ∧ X = some (.inr rd, h') ∧ Y = some (1, σ') ∧ mW σ σs ∧ (gI σs 33 = nI at_ ∧ gI σs 15 = gI σ 15) ∧ WL h0 b rd sz Zm Wm a p (F (19 + p)) F (wbeg F at_) σs k P' ln' h' σ') := fun f hf hW ex => by
    have WL0 : WL h0 b rd sz Zm Wm a p (F (19 + p)) F (wbeg F at_) σ8 0 P8 (fun _ => (0, 0, 0)) (setR h8 rd f) σ8 := ⟨R8.row hf, hT8, h98, hW, by rw [g8 34 (by omega)]; rfl, ⟨by omega, fun i hi => absurd hi (Nat.not_lt_zero _)⟩, by rw [g8 32 (by omega)]; rfl, mW.refl, rfl, rfl⟩
    have sz9 : sz ≤ 940 := R8.rb.2.2.1.2.1
    rcases wr_loop (N := N) hN hH0 hp rfl (wbeg_ok at144) (sz - P8) P8 0 _ _ σ8 N rfl (by omega) WL0 with ⟨fa, h', σ', z1, z2, z3, z4⟩ | ⟨k', P', ln', h', σ', z1, z2, z3⟩
    · left
      rw [z1] at ex
      rw [z2] at e1
      exact ⟨fa, h', σ', ex, e1.symm, z3, mw8.trans z4⟩
    · right
      rw [z1] at ex
      rw [z2] at e1
      exact ⟨p, at_, k', P', ln', h', σ', σ8, at144, hp, ex, e1.symm, mw8, ⟨g833, g815⟩, z3⟩
  have hwl01 := hM.1.2.2.2.1 at_ at144
  rw [hX, hY]
  by_cases w1 : F (25 + at_) = 1
  · rw [w1, if_neg (show ¬ nI 1 = 0 by decide)] at e0
    unfold fX12_judge at e0
    simp only [P0, Option.bind_some, O6, Pw] at e0
    have i12' : kI h8 rd 12 = 0 := (I8 12 (by omega)).trans i12
    rw [pk_un (show (12 : Nat) ≠ 10 by decide), pk_un (show (12 : Nat) ≠ 11 by decide), pk_un (show (12 : Nat) ≠ 10 by decide), i12'] at e0
    refine run _ (fun j hj => ?_) ?_ e0.symm
    · rw [pk_un (by omega), pk_un (by omega), pk_un (by omega)]
    · unfold WF wbeg
      rw [setR_I, if_pos w1]
      refine ⟨?_, ?_, ?_, ?_, ?_, ?_, ?_⟩
      · rw [pk_un (by decide), pk_un (by decide), pk_us]; rfl
      · rw [pk_un (by decide), pk_us]
      · rw [pk_us]; rfl
      · rw [pk_un (by decide), pk_un (by decide), pk_un (by decide), I8 13 (by omega), i13]; rfl
      · rw [pk_un (by decide), pk_un (by decide), pk_un (by decide), I8 14 (by omega), i14]
      · rw [pk_un (by decide), pk_un (by decide), pk_un (by decide), I8 15 (by omega), i15]
      · rw [pk_un (by decide), pk_un (by decide), pk_un (by decide), I8 16 (by omega), i16]; rfl
  · have w0 : F (25 + at_) = 0 := by omega
    rw [w0, if_pos (show nI 0 = 0 from rfl)] at e0
    simp only [P0, Option.bind_some, O6, Pw] at e0
    have i12' : kI h8 rd 12 = 0 := (I8 12 (by omega)).trans i12
    rw [pk_un (show (12 : Nat) ≠ 13 by decide), i12'] at e0
    refine run _ (fun j hj => ?_) ?_ e0.symm
    · rw [pk_un (by omega), pk_un (by omega)]
    · unfold WF wbeg
      rw [setR_I, if_neg w1]
      refine ⟨?_, ?_, ?_, ?_, ?_, ?_, ?_⟩
      · rw [pk_un (by decide), pk_un (by decide), I8 10 (by omega), i10]; rfl
      · rw [pk_un (by decide), pk_un (by decide), I8 11 (by omega), i11]
      · rw [pk_us]; rfl
      · rw [pk_un (by decide), pk_us]; rfl
      · rw [pk_un (by decide), pk_un (by decide), I8 14 (by omega), i14]
      · rw [pk_un (by decide), pk_un (by decide), I8 15 (by omega), i15]
      · rw [pk_un (by decide), pk_un (by decide), I8 16 (by omega), i16]; rfl
end PTP
