/-! operations that only look: way, hidden, missing, soles, deepest -/
/-- two loops that count together -/
theorem lp_two {α α' β β' : Type} (l : Nat → α → Int32 → Option β) (l' : Nat → α' → Int32 → Option β') (n : Nat) (P : Nat → α → α' → Prop) (Q : β → β' → Prop)
    (hs : ∀ m i s s', i < n → P i s s' → (∃ r r', l (m + 1) s (nI i) = some r ∧ l' (m + 1) s' (nI i) = some r' ∧ Q r r') ∨ ∃ t t', P (i + 1) t t' ∧ l (m + 1) s (nI i) = l m t (nI (i + 1)) ∧ l' (m + 1) s' (nI i) = l' m t' (nI (i + 1)))
    (he : ∀ m s s', P n s s' → ∃ r r', l (m + 1) s (nI n) = some r ∧ l' (m + 1) s' (nI n) = some r' ∧ Q r r') : ∀ k i s s' fuel, i + k = n → k < fuel → P i s s' → ∃ r r', l fuel s (nI i) = some r ∧ l' fuel s' (nI i) = some r' ∧ Q r r' := by
  intro k
  induction k with
  | zero =>
    intro i s s' fuel hi hf hp
    obtain ⟨m, rfl⟩ : ∃ m, fuel = m + 1 := ⟨fuel - 1, by omega⟩
    obtain rfl : i = n := by omega
    exact he m s s' hp
  | succ k ih =>
    intro i s s' fuel hi hf hp
    obtain ⟨m, rfl⟩ : ∃ m, fuel = m + 1 := ⟨fuel - 1, by omega⟩
    rcases hs m i s s' (by omega) hp with h1 | ⟨t, t', h1, h2, h3⟩
    · exact h1
    · rw [h2, h3]
      exact ih (i + 1) t t' m (by omega) (by omega) h1
theorem exE2 {α β : Type} {A : α → Prop} {B : β → Prop} {Q : α → β → Prop} {C : Prop} (h : ∃ r r', A r ∧ B r' ∧ Q r r') (k : ∀ r r', A r → B r' → Q r r' → C) : C := by
  obtain ⟨r, r', a, b, q⟩ := h
  exact k r r' a b q
/-- the house and the rug of now -/
def NW (h : HS) (g : Nat → Nat → Int32) (b : Nat) (σ : MS) (F : Nat → Nat) (a : Nat) : Prop := FX h b ∧ CS h g b ∧ RugS h (b + 8) ∧ kR h b 3 = some a ∧ kR h (b + 8) 0 = some a ∧ HouR h g b a F (gJ σ 9) ∧ MH (gA σ 6) F ∧ RugR g (b + 8) F (gA σ 6)
section PO3
variable {b N n a : Nat} {h : HS} {g : Nat → Nat → Int32} {σ : MS} {F : Nat → Nat}
theorem LR.nw (hL : LR b n h σ) : ∃ F a, NW h (kI h) b σ F a := by
  obtain ⟨⟨hF, -⟩, hC, -, ⟨F, a, ⟨h1, h2, h3, h4, h5, -⟩, -⟩, -⟩ := hL
  exact ⟨F, a, hF, hC, hF.2.2.2.2.2.2.2.2.1, h1, h4, h2, ⟨h2.1, h3⟩, h5⟩
theorem NW.r3 (W : NW h g b σ F a) : fR (iS h g) b 1 1 3 = some a := (fx_f W.1 g).trans W.2.2.2.1
theorem NW.r4 (W : NW h g b σ F a) : fR (iS h g) b 1 1 4 = some (b + 8) := fx_R4 W.1 g
theorem NW.ru (W : NW h g b σ F a) : RugS h (b + 8) := W.2.2.1
theorem NW.ho (W : NW h g b σ F a) : HouR h g b a F (gJ σ 9) := W.2.2.2.2.2.1
theorem NW.mh (W : NW h g b σ F a) : MH (gA σ 6) F := W.2.2.2.2.2.2.1
theorem NW.rr (W : NW h g b σ F a) : RugR g (b + 8) F (gA σ 6) := W.2.2.2.2.2.2.2
theorem NW.th (W : NW h g b σ F a) (v : Int32) : NW h g b (sI σ 0 v) F a := W
theorem NW.depth (W : NW h g b σ F a) {t : Nat} (ht : t < 144) : dp (TC g (b + 8) 3) F t = dp (TM (gA σ 6)) F t := by
  have k := W.mh.1.1
  exact dp_ext k.2.2.1 k.2.2.2.2.2.2.2 fun p hp i hi => W.rr.2.2.1 t p i ht hp hi
theorem NW.full (W : NW h g b σ F a) {t : Nat} (ht : t < 144) : fdp (FM (gA σ 6)) F t = dp (TC g (b + 8) 1012) F t := dp_full W.mh.1 fun i hi => W.rr.2.2.2.2.1 t i ht hi
theorem NW.cd (W : NW h g b σ F a) (hN : 200000 ≤ N) {t : Nat} (ht : t < 144) : fX3_depth N (iS h g) (b + 8) (nI t) = some (dp (TM (gA σ 6)) F t) := by
  rw [co_depth hN W.ru W.ho W.2.2.2.2.1 ht, W.depth ht]
theorem NW.cm (W : NW h g b σ F a) (hN : 200000 ≤ N) {t : Nat} (ht : t < 144) : fX3_missing N (iS h g) (b + 8) (nI t) = some (fdp (FM (gA σ 6)) F t - dp (TM (gA σ 6)) F t) := by
  rw [co_missing hN W.ru W.ho W.2.2.2.2.1 ht, W.depth ht, W.full ht]
theorem NW.md (W : NW h g b σ F a) (hN : 200000 ≤ N) {t : Nat} (ht : t < 144) : fX5_depth N σ (nI t) = some (dp (TM (gA σ 6)) F t) := mo_depth hN W.mh ht
theorem NW.mf (W : NW h g b σ F a) (hN : 200000 ≤ N) {t : Nat} (ht : t < 144) : fX5_fullDepth N σ (nI t) = some (fdp (FM (gA σ 6)) F t) := mo_fdepth hN W.mh ht
theorem NW.mt (W : NW h g b σ F a) (x : Int32) : fX5_isTuft N σ x = some (tfN F x) := mo_tuft (W.mh.2 0 (by decide)) (W.mh.2 1 (by decide)) W.mh.1.1.1 W.mh.1.1.2.1 x
theorem tfN_cs (F : Nat → Nat) (k0 : F 0 ≤ 12) (k1 : F 1 ≤ 12) (x : Int32) : tfN F x = 0 ∨ (tfN F x = 1 ∧ ∃ t, t < 144 ∧ tuf F t ∧ x = nI t) := by
  rcases pl_cs x with hx | ⟨i, hi, rfl⟩
  · left; unfold tfN; rw [if_pos hx]
  · rw [tfN_n hi]
    by_cases q : tufD F i = true
    · rw [if_pos q]
      have := tufD_iff.mp q
      exact Or.inr ⟨rfl, i, tuf_lt k0 k1 this, this, rfl⟩
    · rw [if_neg q]; exact Or.inl rfl
theorem op_missing (hN : 200000 ≤ N) : LO_missing N b (LR b) := by
  intro n h σ x hL
  obtain ⟨F, a, W⟩ := hL.nw
  have W0 := W.th 0
  rw [show fX1_missing N h b x = fX1_missing N (iS h (kI h)) b x from rfl]
  unfold fX1_missing fX5_missing
  simp only [lt_, W.r3, Option.bind_some, ho_g W.ho, ho_tuft W.ho, W0.mt, W.r4, ru_g W.ru]
  rcases tfN_cs F W.mh.1.1.1 W.mh.1.1.2.1 x with q | ⟨q, t, ht, htf, rfl⟩
  · simp only [q, eq_self, if_true]
    exact ⟨-1, sI σ 0 0, rfl, rfl, hL.less.thrown 0⟩
  · simp only [q, one0, if_false, W.cm hN ht, W0.mf hN ht, W0.md hN ht, Option.bind_some]
    exact ⟨_, sI σ 0 0, rfl, rfl, hL.less.thrown 0⟩
theorem sub0 {x y : Int32} : (x - y = 0) = (x = y) := by
  apply propext
  constructor
  · intro e
    have := congrArg (· + y) e
    simpa using this
  · rintro rfl; simp
theorem op_hidden (hN : 200000 ≤ N) : LO_hidden N b (LR b) := by
  intro n h σ x hL
  obtain ⟨F, a, W⟩ := hL.nw
  have W0 := W.th 0
  rw [show fX1_hidden N h b x = fX1_hidden N (iS h (kI h)) b x from rfl]
  unfold fX1_hidden fX5_hidden
  refine exE2 (lp_two (fun m s i => lX1_hidden_4 N (iS h (kI h)) m b x s i) (fun m s i => lX5_hidden_16 N (sI σ 0 0) m x s i) 144 (fun i s s' => s = s' ∧ ∃ j, j ≤ i ∧ s = nI j) (fun r r' => (∃ v, r = .inl v ∧ r' = .inl v) ∨ ∃ v j, j ≤ 144 ∧ x = nI j ∧ r = .inr v ∧ r' = .inr (v, sI σ 0 0)) ?_ ?_ 144 0 0 0 N rfl (by omega) ⟨rfl, 0, by omega, rfl⟩) fun r r' e1 e2 hq => ?_
  · rintro m i s _ hi ⟨rfl, j, hj, rfl⟩
    rw [lX1_hidden_4, lX5_hidden_16, W0.mf hN hi, W0.md hN hi]
    simp (disch := omega) only [pl_let, pl_lef, pl_ltt, pl_ltf, pl_eqf, pl_let1, pl_lef1, pl_ltt1, pl_ltf1, pl_eqf1, pl_let2, pl_lef2, pl_ltt2, pl_ltf2, pl_em1, if_true, if_false, ite_self, pl_la, pl_al, pl_lm, pl_ml, nI_add, pk_mul, pl_sl, pl_m1, W.r4, Option.bind_some, ru_g W.ru, W.cm hN hi, sub0]
    by_cases c : fdp (FM (gA σ 6)) F i = dp (TM (gA σ 6)) F i
    · right
      refine ⟨nI j, nI j, ⟨rfl, j, by omega, rfl⟩, ?_, ?_⟩
      · rw [if_pos c]
      · exact if_pos c
    · by_cases c2 : nI j = x
      · left
        refine ⟨_, _, (if_neg c).trans (if_pos c2), (if_neg c).trans (if_pos c2), Or.inr ⟨nI i, j, by omega, c2.symm, rfl, rfl⟩⟩
      · right
        refine ⟨nI (j + 1), nI (j + 1), ⟨rfl, j + 1, by omega, rfl⟩, (if_neg c).trans (if_neg c2), (if_neg c).trans (if_neg c2)⟩
  · rintro m s _ ⟨rfl, j, hj, rfl⟩
    rw [lX1_hidden_4, lX5_hidden_16]
    exact ⟨_, _, rfl, rfl, Or.inl ⟨_, rfl, rfl⟩⟩
  · have e1 : lX1_hidden_4 N (iS h (kI h)) N b x 0 0 = some r := e1
    have e2 : lX5_hidden_16 N (sI σ 0 0) N x 0 0 = some r' := e2
    simp only [lt_, e1, e2]
    rcases hq with ⟨v, rfl, rfl⟩ | ⟨v, j, hj, rfl, rfl, rfl⟩
    · by_cases c : x = -1
      · subst c
        rw [if_pos (by decide)]
        exact ⟨v, sI σ 0 0, rfl, rfl, hL.less.thrown 0⟩
      · refine ⟨-1, sI σ 0 0, ?_, ?_, hL.less.thrown 0⟩
        · show (if x = -1 then some v else some (-1)) = _
          rw [if_neg c]
        · by_cases c2 : -1 ≤ x
          · rw [if_pos c2]
            show (if x = -1 then some (v, _) else some (-1, _)) = _
            rw [if_neg c]
          · rw [if_neg c2]
    · rw [if_pos (by
        rw [Int32.le_iff_toInt_le, nI_toInt (by omega)]
        have : (-1 : Int32).toInt = -1 := by decide
        omega)]
      exact ⟨v, sI σ 0 0, rfl, rfl, hL.less.thrown 0⟩
theorem op_soles (hN : 200000 ≤ N) : LO_soles N b (LR b) := by
  intro n h σ x hL
  obtain ⟨F, a, W⟩ := hL.nw
  rw [show fX1_soles N h b x = fX1_soles N (iS h (kI h)) b x from rfl]
  unfold fX1_soles fX5_soles
  refine exE2 (lp_two (fun m s i => lX1_soles_4 N (iS h (kI h)) m b x s i) (fun m s i => lX5_soles_9 N (sI σ 0 0) m x s i) 144 (fun i s s' => s = s') (fun r r' => r = r') ?_ ?_ 144 0 0 0 N rfl (by omega) rfl) fun r r' e1 e2 hq => ?_
  · rintro m i s _ hi rfl
    right
    have I7 := ru_I7 W.ru (kI h) (i := i) hi
    have I5 := ru_I5 W.ru (kI h) (i := i) hi
    rw [lX1_soles_4, lX5_soles_9]
    simp (disch := omega) only [pl_let, pl_lef, pl_ltt, pl_ltf, pl_eqf, pl_let1, pl_lef1, pl_ltt1, pl_ltf1, pl_eqf1, pl_let2, pl_lef2, pl_ltt2, pl_ltf2, pl_em1, if_true, if_false, ite_self, pl_la, pl_al, pl_lm, pl_ml, nI_add, pk_mul, pl_sl, pl_m1, W.r4, Option.bind_some, ru_R7 W.ru, ru_R5 W.ru, I7, I5, rA6]
    rw [show gA (sI σ 0 0) 6 = gA σ 6 from rfl]
    rcases W.rr.2.2.2.2.2 i hi with ⟨c1, c2, c3, c4, c5, c6⟩ | ⟨w, o, d, sl, e, ⟨k1, k2, k3, k4, k5⟩, c1, c2, c3, c4, c5, c6, c7, c8, c9, c10⟩
    · rw [c5, c1, if_pos rfl, if_pos (by decide)]
      exact ⟨_, _, rfl, rfl, by rw [Int32.add_zero]⟩
    · have k6 : F 6 ≤ 9 := W.mh.1.1.2.2.2.2.2.2.2
      rw [c9, c2, c3, c7]
      simp (disch := omega) only [pl_em1, if_false, pl_lef2]
      by_cases c : nI sl = x
      · rw [if_pos c, if_pos c]; exact ⟨_, _, rfl, rfl, rfl⟩
      · rw [if_neg c, if_neg c]; exact ⟨_, _, rfl, rfl, by rw [Int32.add_zero]⟩
  · rintro m s _ rfl
    rw [lX1_soles_4, lX5_soles_9]
    exact ⟨_, _, rfl, rfl, rfl⟩
  · obtain rfl := hq
    have e1 : lX1_soles_4 N (iS h (kI h)) N b x 0 0 = some r := e1
    have e2 : lX5_soles_9 N (sI σ 0 0) N x 0 0 = some r := e2
    simp only [lt_, e1, e2, Option.bind_some]
    exact ⟨r, sI σ 0 0, rfl, rfl, hL.less.thrown 0⟩
theorem op_deepest (hN : 200000 ≤ N) : LO_deepest N b (LR b) := by
  intro n h σ hL
  obtain ⟨F, a, W⟩ := hL.nw
  have W0 := W.th 0
  rw [show fX1_deepest N h b = fX1_deepest N (iS h (kI h)) b from rfl]
  unfold fX1_deepest fX5_deepest
  refine exE2 (lp_two (fun m s i => lX1_deepest_4 N (iS h (kI h)) m b s i) (fun m (s : Int32 × Int32) i => lX5_deepest_11 N (sI σ 0 0) m s.1 s.2 i) 144 (fun i s s' => s = s'.1 ∧ ((s = -1 ∧ s'.2 = 0) ∨ ∃ j, j < 144 ∧ s = nI j ∧ s'.2 = dp (TM (gA σ 6)) F j ∧ 0 < s'.2)) (fun r r' => r = r') ?_ ?_ 144 0 (-1) (-1, 0) N rfl (by omega) ⟨rfl, Or.inl ⟨rfl, rfl⟩⟩) fun r r' e1 e2 hq => ?_
  · rintro m i s ⟨s1, s2⟩ hi ⟨rfl, hs⟩
    right
    simp only at hs ⊢
    rw [lX1_deepest_4, lX5_deepest_11, W0.md hN hi]
    simp (disch := omega) only [pl_let, pl_lef, pl_ltt, pl_ltf, pl_eqf, pl_let1, pl_lef1, pl_ltt1, pl_ltf1, pl_eqf1, pl_let2, pl_lef2, pl_ltt2, pl_ltf2, pl_em1, if_true, if_false, ite_self, pl_la, pl_al, pl_lm, pl_ml, nI_add, pk_mul, pl_sl, pl_m1, W.r4, Option.bind_some, ru_g W.ru, W.cd hN hi]
    rw [show gA (sI σ 0 0) 6 = gA σ 6 from rfl]
    generalize hv : dp (TM (gA σ 6)) F i = v
    rcases hs with ⟨rfl, rfl⟩ | ⟨j, hj, rfl, rfl, hpos⟩
    · by_cases c : v ≤ 0
      · rw [if_pos c, if_neg (Int32.not_lt.mpr c)]
        exact ⟨-1, (-1, 0), ⟨rfl, Or.inl ⟨rfl, rfl⟩⟩, rfl, rfl⟩
      · rw [if_neg c, if_pos rfl, if_pos (Int32.not_le.mp c)]
        exact ⟨nI i, (nI i, v), ⟨rfl, Or.inr ⟨i, hi, rfl, hv.symm, Int32.not_le.mp c⟩⟩, rfl, rfl⟩
    · rw [W.cd hN hj]
      simp (disch := omega) only [pl_em1, if_false, Option.bind_some]
      by_cases c : v ≤ 0
      · rw [if_pos c, if_neg (Int32.not_lt.mpr (Int32.le_trans c (Int32.le_of_lt hpos)))]
        exact ⟨nI j, (nI j, _), ⟨rfl, Or.inr ⟨j, hj, rfl, rfl, hpos⟩⟩, rfl, rfl⟩
      · rw [if_neg c]
        by_cases c2 : v ≤ dp (TM (gA σ 6)) F j
        · rw [if_pos c2, if_neg (Int32.not_lt.mpr c2)]
          exact ⟨nI j, (nI j, _), ⟨rfl, Or.inr ⟨j, hj, rfl, rfl, hpos⟩⟩, rfl, rfl⟩
        · rw [if_neg c2, if_pos (Int32.not_le.mp c2)]
          exact ⟨nI i, (nI i, v), ⟨rfl, Or.inr ⟨i, hi, rfl, hv.symm, Int32.not_le.mp c⟩⟩, rfl, rfl⟩
  · rintro m s ⟨s1, s2⟩ ⟨rfl, hs⟩
    simp only
    rw [lX1_deepest_4, lX5_deepest_11]
    exact ⟨_, _, rfl, rfl, rfl⟩
  · obtain rfl := hq
    have e1 : lX1_deepest_4 N (iS h (kI h)) N b (-1) 0 = some r := e1
    have e2 : lX5_deepest_11 N (sI σ 0 0) N (-1) 0 0 = some r := e2
    simp only [lt_, e1, e2, Option.bind_some]
    exact ⟨r, sI σ 0 0, rfl, rfl, hL.less.thrown 0⟩
end PO3
