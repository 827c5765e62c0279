/-! readers: what is asked of a token -/
/-- what the Model keeps -/
def mK (σ σ' : MS) : Prop := gA σ' = gA σ ∧ gJ σ' = gJ σ ∧ ∀ k, k ≠ 4 → k ≠ 11 → k ≠ 12 → k ≠ 13 → k ≠ 14 → k ≠ 15 → k ≠ 16 → k ≠ 18 → gI σ' k = gI σ k
/-- what a reader keeps -/
def cK (rd : Nat) (h h' : HS) : Prop := ond (fun q => q = rd) h h' ∧ kT h' rd = kT h rd ∧ (∀ k, k ≠ 8 → kR h' rd k = kR h rd k) ∧ ∀ k, (k < 3 ∨ 7 < k) → kI h' rd k = kI h rd k
/-- a fault, both sides -/
def FLT (h0 : HS) (Zm Wm : Nat) (h' : HS) (fa : Nat) (σ' : MS) : Prop := kT h' fa = 8 ∧ kI h' fa 0 = gI σ' 15 ∧ kI h' fa 1 = gI σ' 16 ∧ grow h0 h' ∧ kZ h' ≤ Zm + 1 ∧ kW h' ≤ Wm + 8
section PTK
variable {h0 h h' h2 : HS} {σ σ' σ2 : MS} {N b rd sz lim P Zm Wm : Nat} {sp : Bool}
theorem mK.refl : mK σ σ := ⟨rfl, rfl, fun _ _ _ _ _ _ _ _ _ => rfl⟩
theorem mK.trans (k1 : mK σ σ') (k2 : mK σ' σ2) : mK σ σ2 := ⟨k2.1.trans k1.1, k2.2.1.trans k1.2.1, fun k a1 a2 a3 a4 a5 a6 a7 a8 => (k2.2.2 k a1 a2 a3 a4 a5 a6 a7 a8).trans (k1.2.2 k a1 a2 a3 a4 a5 a6 a7 a8)⟩
theorem cK.refl : cK rd h h := ⟨ond.refl, rfl, fun _ _ => rfl, fun _ _ => rfl⟩
theorem cK.trans (k1 : cK rd h h') (k2 : cK rd h' h2) : cK rd h h2 := ⟨k1.1.trans k2.1, k2.2.1.trans k1.2.1, fun k hk => (k2.2.2.1 k hk).trans (k1.2.2.1 k hk), fun k hk => (k2.2.2.2 k hk).trans (k1.2.2.2 k hk)⟩
theorem tkK.m (k : tkK rd h h' σ σ') : mK σ σ' := ⟨k.2.2.2.2.1, k.2.2.2.2.2.1, fun j a1 a2 a3 a4 a5 _ _ _ => k.2.2.2.2.2.2 j a1 a2 a3 a4 a5⟩
theorem tkK.c (k : tkK rd h h' σ σ') : cK rd h h' := ⟨k.1, k.2.1, k.2.2.1, k.2.2.2.1⟩
theorem bad_m (k : Int32) : mK σ (fX5_bad σ k).2 := ⟨rfl, rfl, fun j _ _ _ _ _ a6 a7 _ => by
  show gI (sI (sI σ 15 k) 16 _) j = _
  rw [gI_sI, if_neg a7, gI_sI, if_neg a6]⟩
theorem PRS.rb (R : PRS h0 b rd sz lim Zm Wm sp P h σ) : RB h b rd sz lim P σ := R.1.1
theorem PRS.down (R : PRS h0 b rd sz lim Zm Wm sp P h σ) : PRS h0 b rd sz lim Zm Wm false P h σ := ⟨R.1, R.2.1, R.2.2.1, fun q => by cases q⟩
/-- a fault is thrown -/
theorem need_0 (R : PRS h0 b rd sz lim Zm Wm sp P h σ) {k : Int32} (hk : kI h rd 4 = 1 ∨ kI h rd 4 = 5 → k = 1) : ∃ fa h', fX6_need N h rd 0 k = some (.inl fa, h') ∧ FLT h0 Zm Wm h' fa (fX5_bad σ k).2 := by
  obtain ⟨⟨RB0, ⟨g1, g2, g3, g4⟩, rj, ⟨z1, z2, z3⟩, z4, z5⟩, ⟨a, ha, a1, a2⟩, T, -⟩ := R
  have rl := RB0.1.2.2.2.2
  obtain ⟨h1, e1⟩ : ∃ h1, h1 = tA h 20 0 8 := ⟨_, rfl⟩
  have no : nO h 20 8 = some (kZ h, h1) := by unfold nO; rw [if_pos ⟨by omega, by omega⟩, e1]
  have RB1 : RB h1 b rd sz lim P σ := by
    rw [e1]
    exact RB0.of RB0.2.2.1.1 (ond.tA.up fun _ _ z => z.elim) (by rw [kT_tA, if_neg (by omega)]) (by rw [kR_tA, if_neg (by omega)]) (by rw [kI_tA, if_neg (by omega)]) (by rw [kI_tA, if_neg (by omega)]) (by rw [kI_tA, if_neg (by omega)]; exact RB0.2.2.2.1.2.2) rfl rfl RB0.2.2.2.2.2.2 rfl
  have i1 : ∀ j, kI h1 rd j = kI h rd j := fun j => by rw [e1, kI_tA, if_neg (by omega)]
  have it : ∀ v w : Int32, fX8_init N h1 (kZ h) v w = some (tI (tI (tK h1 (kZ h) 8) (kZ h) 0 v) (kZ h) 1 w) := fun v w => by
    unfold fX8_init
    rw [if_pos ⟨by rw [e1, kT_tA, if_pos rfl], by rw [e1]; exact z1, by rw [e1, kR_tA, if_pos rfl], by rw [e1, kI_tA, if_pos rfl], by rw [e1, kI_tA, if_pos rfl]⟩]
  have od : ∀ v w : Int32, ond (fun _ => False) h (tI (tI (tK h1 (kZ h) 8) (kZ h) 0 v) (kZ h) 1 w) := fun v w => by
    have k1 : ond (fun q => q = kZ h) h1 (tK h1 (kZ h) 8) := ⟨Nat.le_refl _, rfl, fun q _ hn => ⟨by rw [tK_T, if_neg hn], rfl, by
      funext j
      show (fun x => if x = kZ h then fun _ => 0 else h1.2.2.1 x) q j = _
      simp only [if_neg hn]; rfl, by
      funext j
      show (fun x => if x = kZ h then fun _ => none else h1.2.2.2.1 x) q j = _
      simp only [if_neg hn]; rfl⟩⟩
    have k0 : ond (fun _ => False) h h1 := by rw [e1]; exact ond.tA
    exact ((k0.tr k1 fun q hq z => by omega).tr ond.tI fun q hq z => by omega).tr ond.tI fun q hq z => by omega
  have gr : ∀ v w : Int32, grow h0 (tI (tI (tK h1 (kZ h) 8) (kZ h) 0 v) (kZ h) 1 w) := fun v w => g1.ond ((od v w).up fun _ _ z => z.elim) g2
  refine ⟨kZ h, tI (tI (tK h1 (kZ h) 8) (kZ h) 0 k) (kZ h) 1 (kI h rd 5), ?_, ?_, ?_, ?_, gr _ _, ?_, ?_⟩
  · unfold fX6_need
    rw [if_pos rfl, no]
    simp only [Option.bind_some, rb_o RB1, i1]
    by_cases c1 : kI h rd 4 = 1
    · rw [if_pos c1]
      simp only [Option.bind_some, if_true, it]
      rw [hk (Or.inl c1)]
    · rw [if_neg c1]
      by_cases c5 : kI h rd 4 = 5
      · rw [if_pos c5]
        simp only [Option.bind_some, if_true, it]
        rw [hk (Or.inr c5)]
      · rw [if_neg c5]
        simp only [Option.bind_some, Bool.false_eq_true, if_false, it]
  · show kT (tK h1 (kZ h) 8) (kZ h) = 8
    rw [tK_T, if_pos rfl]
  · rw [kI_tI, if_neg (by omega), kI_tI, if_pos ⟨rfl, rfl⟩]; rfl
  · rw [kI_tI, if_pos ⟨rfl, rfl⟩, a1]
    show _ = gI σ 12
    exact a2.symm
  · show kZ h1 ≤ _
    rw [e1, kZ_tA]; omega
  · show kW h1 ≤ _
    rw [e1, kW_tA]; omega
theorem need_1 {k : Int32} : fX6_need N h rd 1 k = some (.inr (), h) := rfl
/-- what kinds of token there are, by the Model's numbers -/
theorem PRS.tk (R : PRS h0 b rd sz lim Zm Wm sp P h σ) : TKR h b rd σ := R.2.2.1
theorem tk_num (T : TKR h b rd σ) : (kI h rd 4 = 3 ∧ gI σ 11 = 2 ∧ ∃ k, k ≤ 999 ∧ kI h rd 6 = nI k ∧ gI σ 14 = nI k) ∨ (kI h rd 4 ≠ 3 ∧ gI σ 11 ≠ 2) := by
  rcases T with ⟨a, b⟩ | ⟨a | a, b⟩ | ⟨a, b, -⟩ | T | ⟨a, b, -⟩ | ⟨a, b, -⟩
  · rw [a, b]; exact Or.inr ⟨by decide, by decide⟩
  · rw [a, b]; exact Or.inr ⟨by decide, by decide⟩
  · rw [a, b]; exact Or.inr ⟨by decide, by decide⟩
  · rw [a, b]; exact Or.inr ⟨by decide, by decide⟩
  · exact Or.inl T
  · rw [a, b]; exact Or.inr ⟨by decide, by decide⟩
  · rw [a, b]; exact Or.inr ⟨by decide, by decide⟩
theorem tk_end (T : TKR h b rd σ) : (kI h rd 4 = 4 ∧ gI σ 11 = 3 ∧ gI σ 14 = 59) ∨ (kI h rd 4 ≠ 4 ∧ fX5_isSign σ 59 = 0) := by
  unfold fX5_isSign
  rcases T with ⟨a, b⟩ | ⟨a | a, b⟩ | ⟨a, b, -⟩ | ⟨a, b, -⟩ | T | ⟨a, b, c, hc, c1, c2⟩
  · rw [a, b]; exact Or.inr ⟨by decide, rfl⟩
  · rw [a, b]; exact Or.inr ⟨by decide, rfl⟩
  · rw [a, b]; exact Or.inr ⟨by decide, rfl⟩
  · rw [a, b]; exact Or.inr ⟨by decide, rfl⟩
  · rw [a, b]; exact Or.inr ⟨by decide, rfl⟩
  · exact Or.inl T
  · rw [a, b, c2, if_pos rfl]
    refine Or.inr ⟨by decide, ?_⟩
    rcases hc with q | q | q | q | q <;> (rw [q]; rfl)
theorem tk_word (T : TKR h b rd σ) : (kI h rd 4 = 2 ∧ gI σ 11 = 1 ∧ ∃ q l, kR h rd 8 = some q ∧ okW l ∧ StrR h (kI h) b q l ∧ gL σ = enc l) ∨ (kI h rd 4 ≠ 2 ∧ gI σ 11 ≠ 1) := by
  rcases T with ⟨a, b⟩ | ⟨a | a, b⟩ | T | ⟨a, b, -⟩ | ⟨a, b, -⟩ | ⟨a, b, -⟩
  · rw [a, b]; exact Or.inr ⟨by decide, by decide⟩
  · rw [a, b]; exact Or.inr ⟨by decide, by decide⟩
  · rw [a, b]; exact Or.inr ⟨by decide, by decide⟩
  · exact Or.inl T
  · rw [a, b]; exact Or.inr ⟨by decide, by decide⟩
  · rw [a, b]; exact Or.inr ⟨by decide, by decide⟩
  · rw [a, b]; exact Or.inr ⟨by decide, by decide⟩
theorem tk_stop (T : TKR h b rd σ) : (kI h rd 4 = 0 ∧ gI σ 11 = 0) ∨ (kI h rd 4 ≠ 0 ∧ gI σ 11 ≠ 0) := by
  rcases T with T | ⟨a | a, b⟩ | ⟨a, b, -⟩ | ⟨a, b, -⟩ | ⟨a, b, -⟩ | ⟨a, b, -⟩
  · exact Or.inl T
  · rw [a, b]; exact Or.inr ⟨by decide, by decide⟩
  · rw [a, b]; exact Or.inr ⟨by decide, by decide⟩
  · rw [a, b]; exact Or.inr ⟨by decide, by decide⟩
  · rw [a, b]; exact Or.inr ⟨by decide, by decide⟩
  · rw [a, b]; exact Or.inr ⟨by decide, by decide⟩
  · rw [a, b]; exact Or.inr ⟨by decide, by decide⟩
/-- a number is held -/
theorem hold_c (R : PRS h0 b rd sz lim Zm Wm sp P h σ) (x1 x2 : Int32) : (gI σ 11 ≠ 2 ∧ ∃ fa h', fX6_hold N h rd x1 x2 = some (.inl fa, h') ∧ FLT h0 Zm Wm h' fa (fX5_bad σ 1).2) ∨ (gI σ 11 = 2 ∧ ∃ k, k ≤ 999 ∧ gI σ 14 = nI k ∧ kI h rd 4 = 3 ∧ ((fX1_isIn (nI k) x1 x2 = 0 ∧ ∃ fa h', fX6_hold N h rd x1 x2 = some (.inl fa, h') ∧ FLT h0 Zm Wm h' fa (fX5_bad σ 2).2) ∨ (fX1_isIn (nI k) x1 x2 = 1 ∧ fX6_hold N h rd x1 x2 = some (.inr (nI k), h)))) := by
  have RB0 := R.rb
  rcases tk_num R.tk with ⟨t1, t2, k, hk, t3, t4⟩ | ⟨t1, t2⟩
  · right
    refine ⟨t2, k, hk, t4, t1, ?_⟩
    unfold fX6_hold
    rw [rb_o RB0, t1]
    simp only [Option.bind_some, if_true, rb_g RB0, need_1, thr, rb_o RB0, t3]
    rcases isIn01 (nI k) x1 x2 with q | q
    · left
      obtain ⟨fa, h', e1, e2⟩ := need_0 (N := N) (k := 2) R (fun z => by rw [t1] at z; exact absurd z (by decide))
      refine ⟨q, fa, h', ?_, e2⟩
      rw [q, e1]; rfl
    · right
      refine ⟨q, ?_⟩
      rw [q, need_1]
      simp only [Option.bind_some, thr, rb_o RB0, t3]
  · left
    obtain ⟨fa, h', e1, e2⟩ := need_0 (N := N) (k := 1) R (fun _ => rfl)
    refine ⟨t2, fa, h', ?_, e2⟩
    unfold fX6_hold
    rw [rb_o RB0]
    simp only [Option.bind_some, if_neg t1, rb_g RB0, e1, thr]
/-- a number is read -/
theorem num_both (hN : 200000 ≤ N) (R : PRS h0 b rd sz lim Zm Wm sp P h σ) (x1 x2 : Int32) : (∃ fa h' σ', fX6_number N h rd x1 x2 = some (.inl fa, h') ∧ fX5_takes N σ x1 x2 = some (0, σ') ∧ FLT h0 Zm Wm h' fa σ' ∧ mK σ σ') ∨ (∃ k h' σ' P', k ≤ 999 ∧ fX1_isIn (nI k) x1 x2 = 1 ∧ fX6_number N h rd x1 x2 = some (.inr (nI k), h') ∧ fX5_takes N σ x1 x2 = some (1, σ') ∧ gI σ' 18 = nI k ∧ PRS h0 b rd sz lim Zm Wm true P' h' σ' ∧ P ≤ P' ∧ (kI h' rd 4 ≠ 0 → kI h' rd 4 ≠ 5 → P < P') ∧ cK rd h h' ∧ mK σ σ' ∧ gI σ' 15 = gI σ 15) := by
  have RB0 := R.rb
  unfold fX6_number fX5_takes
  rw [rb_g RB0, isIn_5]
  rcases hold_c (N := N) R x1 x2 with ⟨t, fa, h', e1, e2⟩ | ⟨t, k, hk, t4, t3, ⟨q, fa, h', e1, e2⟩ | ⟨q, e1⟩⟩
  · left
    rw [e1, if_neg t]
    exact ⟨fa, h', _, rfl, rfl, e2, bad_m 1⟩
  · left
    rw [e1, if_pos t, t4, if_pos q]
    exact ⟨fa, h', _, rfl, rfl, e2, bad_m 2⟩
  · right
    have R2 : PR0 h0 b rd sz lim Zm Wm P h (sI σ 18 (nI k)) := R.1
    obtain ⟨h', σ', P', p1, p2, p3, p4, p5, p6⟩ := go_both (N := N) hN R2
    refine ⟨k, h', σ', P', hk, q, ?_, ?_, ?_, p3, p4, p5, p6.c, ?_, (p6.2.2.2.2.2.2 15 (by decide) (by decide) (by decide) (by decide) (by decide)).trans rfl⟩
    · rw [e1]
      simp only [Option.bind_some, thr, rb_g RB0, p1]
    · rw [if_pos t, t4, q, if_neg (by decide)]
      simp only [lt_, p2, Option.bind_some]
    · rw [p6.2.2.2.2.2.2 18 (by decide) (by decide) (by decide) (by decide) (by decide)]; rfl
    · have := p6.m
      exact ⟨this.1, this.2.1, fun j a1 a2 a3 a4 a5 a6 a7 a8 => by rw [this.2.2 j a1 a2 a3 a4 a5 a6 a7 a8, gI_sI, if_neg a8]⟩
/-- the end of a line -/
theorem end_both (hN : 200000 ≤ N) (R : PRS h0 b rd sz lim Zm Wm sp P h σ) : (∃ fa h' σ', fX6_end N h rd = some (.inl fa, h') ∧ fX5_sign N σ 59 = some (0, σ') ∧ FLT h0 Zm Wm h' fa σ' ∧ mK σ σ') ∨ (∃ h' σ' P', fX6_end N h rd = some (.inr (), h') ∧ fX5_sign N σ 59 = some (1, σ') ∧ PRS h0 b rd sz lim Zm Wm true P' h' σ' ∧ P ≤ P' ∧ kI h rd 4 = 4 ∧ cK rd h h' ∧ mK σ σ' ∧ gI σ' 15 = gI σ 15) := by
  have RB0 := R.rb
  unfold fX6_end fX5_sign
  rw [rb_o RB0]
  simp only [Option.bind_some]
  rcases tk_end R.tk with ⟨t1, t2, t3⟩ | ⟨t1, t2⟩
  · right
    obtain ⟨h', σ', P', p1, p2, p3, p4, p5, p6⟩ := go_both (N := N) hN R.1
    refine ⟨h', σ', P', ?_, ?_, p3, p4, t1, p6.c, p6.m, p6.2.2.2.2.2.2 15 (by decide) (by decide) (by decide) (by decide) (by decide)⟩
    · rw [if_pos t1]
      simp only [rb_g RB0, need_1, Option.bind_some, thr, p1]
    · have : fX5_isSign σ 59 = 1 := by unfold fX5_isSign; rw [t2, t3]; rfl
      rw [this, if_neg (by decide), p2]; rfl
  · left
    obtain ⟨fa, h', e1, e2⟩ := need_0 (N := N) (k := 1) R (fun _ => rfl)
    refine ⟨fa, h', _, ?_, ?_, e2, bad_m 1⟩
    · rw [if_neg t1]
      simp only [rb_g RB0, e1, Option.bind_some, thr]
    · rw [t2, if_pos rfl]; rfl
/-- a word is one of the class -/
theorem is_both (hN : 200000 ≤ N) (R : PRS h0 b rd sz lim Zm Wm sp P h σ) {k : Nat} (k1 : 20 ≤ k) (k2 : k ≤ 42) (ok : okW (stx k)) {w : Int64} (hw : w = enc (stx k)) : ∃ v, fX6_is N h rd (kG h k) = some v ∧ fX5_isWord σ w = v ∧ (v = 0 ∨ (v = 1 ∧ kI h rd 4 = 2)) := by
  have RB0 := R.rb
  have hC := R.1.cs
  unfold fX6_is fX5_isWord
  rw [rb_o RB0]
  simp only [Option.bind_some]
  rcases tk_word R.tk with ⟨t1, t2, q, l, t3, t4, t5, t6⟩ | ⟨t1, t2⟩
  · have S := hC.2.1 k k1 k2
    have e := str_eq (N := N) hN t5 S (by have := t4.2.1; omega) (by have := ok.2.1; omega) (fun c hc => by have := t4.2.2 c hc; omega) (fun c hc => by have := ok.2.2 c hc; omega)
    rw [if_pos t1, if_pos t2, rb_f RB0, t3, t6]
    simp only [Option.bind_some]
    rw [gT_n (Nat.le_of_eq t5.2.1.symm) (Nat.le_of_eq t5.2.1), e]
    simp only [Option.bind_some]
    by_cases c : l = stx k
    · refine ⟨1, by rw [if_pos c, if_neg (by decide)], ?_, Or.inr ⟨rfl, t1⟩⟩
      rw [if_pos ((lg_cmp_eq _ _).mpr (by rw [c, hw]))]
    · refine ⟨0, by rw [if_neg c, if_pos rfl], ?_, Or.inl rfl⟩
      rw [if_neg (fun z => c (enc_inj t4 ok (by rw [← hw]; exact (lg_cmp_eq _ _).mp z)))]
  · rw [if_neg t1, if_neg t2]
    exact ⟨0, rfl, rfl, Or.inl rfl⟩
theorem dir_both (hN : 200000 ≤ N) (R : PRS h0 b rd sz lim Zm Wm sp P h σ) : ∃ v, fX6_direction N h rd = some v ∧ fX5_dirOfWord σ = v ∧ (v = -1 ∨ (kI h rd 4 = 2 ∧ ∃ d, d < 4 ∧ v = nI d)) := by
  have RB0 := R.rb
  have w1 : okW (stx 33) := by unfold okW; decide
  have w2 : okW (stx 34) := by unfold okW; decide
  have w3 : okW (stx 35) := by unfold okW; decide
  have w4 : okW (stx 36) := by unfold okW; decide
  obtain ⟨v1, a1, b1, c1⟩ := is_both (N := N) (w := 110) hN R (k := 33) (by decide) (by decide) w1 (by decide)
  obtain ⟨v2, a2, b2, c2⟩ := is_both (N := N) (w := 101) hN R (k := 34) (by decide) (by decide) w2 (by decide)
  obtain ⟨v3, a3, b3, c3⟩ := is_both (N := N) (w := 115) hN R (k := 35) (by decide) (by decide) w3 (by decide)
  obtain ⟨v4, a4, b4, c4⟩ := is_both (N := N) (w := 119) hN R (k := 36) (by decide) (by decide) w4 (by decide)
  unfold fX6_direction fX5_dirOfWord
  simp only [rb_g RB0, a1, a2, a3, a4, b1, b2, b3, b4, Option.bind_some]
  rcases c1 with q1 | ⟨q1, t⟩
  · rw [q1, if_pos rfl, if_pos rfl]
    rcases c2 with q2 | ⟨q2, t⟩
    · rw [q2, if_pos rfl, if_pos rfl]
      rcases c3 with q3 | ⟨q3, t⟩
      · rw [q3, if_pos rfl, if_pos rfl]
        rcases c4 with q4 | ⟨q4, t⟩
        · rw [q4, if_pos rfl, if_pos rfl]; exact ⟨_, rfl, rfl, Or.inl rfl⟩
        · rw [q4, if_neg (by decide), if_neg (by decide)]; exact ⟨_, rfl, rfl, Or.inr ⟨t, 3, by decide, rfl⟩⟩
      · rw [q3, if_neg (by decide), if_neg (by decide)]; exact ⟨_, rfl, rfl, Or.inr ⟨t, 2, by decide, rfl⟩⟩
    · rw [q2, if_neg (by decide), if_neg (by decide)]; exact ⟨_, rfl, rfl, Or.inr ⟨t, 1, by decide, rfl⟩⟩
  · rw [q1, if_neg (by decide), if_neg (by decide)]; exact ⟨_, rfl, rfl, Or.inr ⟨t, 0, by decide, rfl⟩⟩
end PTK
