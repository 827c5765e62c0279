/-! operations that only look: way, age, who, rarest, ways, both, spot -/
section PO4
variable {b N n a : Nat} {h : HS} {g : Nat → Nat → Int32} {σ : MS} {F : Nat → Nat}
theorem gB01 {α : Type} {v : Int32} {x : Option α} (hv : v = 0 ∨ v = 1) : gB v x = x := by unfold gB; rw [if_pos hv]
theorem isIn01 (x y z : Int32) : fX1_isIn x y z = 0 ∨ fX1_isIn x y z = 1 := by
  unfold fX1_isIn
  by_cases h1 : x < y
  · rw [if_pos h1]; exact Or.inl rfl
  · rw [if_neg h1]
    by_cases h2 : z < x
    · rw [if_pos h2]; exact Or.inl rfl
    · rw [if_neg h2]; exact Or.inr rfl
theorem NW.cP (W : NW h g b σ F a) (x : Int32) : fX1_isPerson N (iS h g) b x = some (fX1_isIn x 0 (nI (F 2) - 1)) := by
  unfold fX1_isPerson
  simp (disch := omega) only [W.r3, Option.bind_some, ho_R W.ho, ls_g (ho_p W.ho), ls_size (ho_p W.ho), gB01 (isIn01 _ _ _)]
theorem NW.cW (W : NW h g b σ F a) (x : Int32) : fX1_isWay N (iS h g) b x = some (fX1_isIn x 0 (nI (F 3) - 1)) := by
  unfold fX1_isWay
  simp (disch := omega) only [W.r3, Option.bind_some, ho_R W.ho, ls_g (ho_w W.ho), ls_size (ho_w W.ho), gB01 (isIn01 _ _ _)]
theorem NW.mP (W : NW h g b σ F a) (x : Int32) : fX5_isPerson N σ x = some (fX1_isIn x 0 (nI (F 2) - 1)) := by
  unfold fX5_isPerson
  rw [mo_2 W.mh, isIn_5]
  simp only [Option.bind_some, gB01 (isIn01 _ _ _)]
theorem NW.mW (W : NW h g b σ F a) (x : Int32) : fX5_isWay N σ x = some (fX1_isIn x 0 (nI (F 3) - 1)) := by
  unfold fX5_isWay
  rw [mo_3 W.mh, isIn_5]
  simp only [Option.bind_some, gB01 (isIn01 _ _ _)]
theorem op_way : LO_way N b (LR b) := by
  intro n h σ x y hL
  obtain ⟨F, a, W⟩ := hL.nw
  have W0 := W.th 0
  have k3 : F 3 ≤ 6 := W.mh.1.1.2.2.2.1
  rw [show fX1_way N h b x y = fX1_way N (iS h (kI h)) b x y from rfl]
  unfold fX1_way fX5_way
  simp only [lt_, fx_g W.1, W.cW, W0.mW, Option.bind_some]
  rcases isIn_cs x (n := F 3) (by omega) with ⟨h9, -⟩ | ⟨h9, w, hw, rfl⟩
  · simp only [h9, eq_self, if_true]
    exact ⟨-1, sI σ 0 0, rfl, rfl, hL.less.thrown 0⟩
  · obtain ⟨kw1, kw2, -⟩ := W.mh.1.2.2.2.2.2 w hw
    simp only [h9, one0, if_false]
    simp (disch := omega) only [W.r3, Option.bind_some, ho_R W.ho, ls_g (ho_w W.ho), ls_get (ho_w W.ho) hw, ho_wg W.ho hw, ho_w3 W.ho hw, pl_la, pl_al, pl_lm, pl_ml, nI_add, pk_mul, pl_sl, pl_m1, mo_i W0.mh, isIn_5]
    rw [show nI (F (177 + w) - 1) = nI (F (177 + w)) - 1 from (pl_sl (n := 1) kw1).symm]
    rcases isIn_cs y (n := F (177 + w)) (by omega) with ⟨h8, -⟩ | ⟨h8, i, hi, rfl⟩
    · simp only [h8, eq_self, if_true]
      exact ⟨-1, sI σ 0 0, rfl, rfl, hL.less.thrown 0⟩
    · simp only [h8, one0, if_false]
      simp (disch := omega) only [ho_w1 W.ho hw, Option.bind_some, ho_wt W.ho hw hi, pl_la, pl_al, pl_lm, pl_ml, nI_add, pk_mul, pl_sl, pl_m1, mo_i W0.mh]
      exact ⟨_, sI σ 0 0, rfl, rfl, hL.less.thrown 0⟩
/-- how old a print of one tread is -/
def agN (w fd : Nat) (x : Int32) : Int32 := if x ≤ 0 then -1 else if x.toNatClampNeg % w = 0 ∧ x.toNatClampNeg / w ≤ fd then nI (fd - x.toNatClampNeg / w) else -1
theorem NW.cA (W : NW h g b σ F a) {p : Nat} (hp : p < F 2) (x : Int32) : fX1_ageOf N (iS h g) b (nI p) x = some (agN (F (7 + p)) (F 6) x) := by
  obtain ⟨p1, p2, -⟩ := W.mh.1.2.1 p hp
  have k6 : F 6 ≤ 9 := W.mh.1.1.2.2.2.2.2.2.2
  unfold fX1_ageOf agN
  simp (disch := omega) only [W.r3, Option.bind_some, ho_R W.ho, ls_g (ho_p W.ho), ls_get (ho_p W.ho) hp, ho_pg W.ho hp, ho_p1 W.ho hp, ho_2 W.ho]
  have hz : ∀ {α : Type} (y : Option α), gZ (nI (F (7 + p))) y = y := fun y => by
    unfold gZ; rw [if_neg]; intro e; have := (nI_eq (b := 0) (by omega) (by omega)).mp e; omega
  simp only [hz]
  by_cases c : x ≤ 0
  · rw [if_pos c, if_pos c]
  · rw [if_neg c, if_neg c]
    obtain ⟨d, hd, rfl⟩ := nI_of (x := x) (fun h9 => c (Int32.le_of_lt h9))
    rw [nI_clamp hd, show irm (nI d) (nI (F (7 + p))) = nI (d % F (7 + p)) from pk_rem hd (by omega) (by omega), pk_div hd (by omega) (by omega)]
    have hm : d % F (7 + p) < F (7 + p) := Nat.mod_lt _ (by omega)
    have hdv : d / F (7 + p) ≤ d := Nat.div_le_self _ _
    by_cases c1 : d % F (7 + p) = 0
    · rw [c1, if_pos (show nI 0 = 0 from rfl)]
      by_cases c2 : d / F (7 + p) ≤ F 6
      · rw [if_neg (nI_nlt c2 (by omega)), if_pos ⟨rfl, c2⟩, pk_sub c2]
      · rw [if_pos (nI_lt (by omega) (by omega)), if_neg (fun q => c2 q.2)]
    · rw [if_neg (show ¬ nI (d % F (7 + p)) = 0 from nI_ne0 (by omega) (by omega)), if_neg (fun q => c1 q.1)]
theorem ag_ex {w fd d : Nat} (hw1 : 1 ≤ w) (hw : w ≤ 9) (hfd : fd ≤ 9) (hd : 0 < d) : (d % w = 0 ∧ d / w ≤ fd → ∀ i, i < fd - d / w → w * (fd - i) ≠ d) ∧ (d % w = 0 ∧ d / w ≤ fd → fd - d / w < fd ∧ w * (fd - (fd - d / w)) = d) ∧ (¬ (d % w = 0 ∧ d / w ≤ fd) → ∀ i, i < fd → w * (fd - i) ≠ d) := by
  have : w = 1 ∨ w = 2 ∨ w = 3 ∨ w = 4 ∨ w = 5 ∨ w = 6 ∨ w = 7 ∨ w = 8 ∨ w = 9 := by omega
  rcases this with rfl | rfl | rfl | rfl | rfl | rfl | rfl | rfl | rfl <;> exact ⟨fun h i hi => by omega, fun h => by omega, fun h i hi => by omega⟩
theorem NW.mA (W : NW h g b σ F a) (hN : 200000 ≤ N) {p : Nat} (hp : p < F 2) (x : Int32) : fX5_ageBy N σ (nI p) x = some (agN (F (7 + p)) (F 6) x) := by
  obtain ⟨p1, p2, -⟩ := W.mh.1.2.1 p hp
  have k2 : F 2 ≤ 6 := W.mh.1.1.2.2.1
  have k6 : F 6 ≤ 9 := W.mh.1.1.2.2.2.2.2.2.2
  have step : ∀ m i, i < F 6 → lX5_ageBy_2 N σ (m + 1) (nI p) x (nI i) = if nI (F (7 + p) * (F 6 - i)) = x then some (.inr (nI i)) else lX5_ageBy_2 N σ m (nI p) x (nI (i + 1)) := by
    intro m i hi
    rw [lX5_ageBy_2]
    simp (disch := omega) only [mo_6 W.mh, Option.bind_some, pl_let, pl_lef, pl_ltt, pl_ltf, pl_eqf, pl_let1, pl_lef1, pl_ltt1, pl_ltf1, pl_eqf1, pl_let2, pl_lef2, pl_ltt2, pl_ltf2, pl_em1, if_true, if_false, ite_self, pl_la, pl_al, pl_lm, pl_ml, nI_add, pk_mul, pl_sl, pl_m1, mo_i W.mh, pk_sub]
  have hmul : ∀ i, F (7 + p) * (F 6 - i) ≤ 81 := fun i => Nat.mul_le_mul p2 (show F 6 - i ≤ 9 by omega)
  have endl : ∀ m, lX5_ageBy_2 N σ (m + 1) (nI p) x (nI (F 6)) = some (.inl ()) := by
    intro m
    rw [lX5_ageBy_2]
    simp (disch := omega) only [mo_6 W.mh, Option.bind_some, pl_let, pl_lef, pl_ltt, pl_ltf, pl_eqf, pl_let1, pl_lef1, pl_ltt1, pl_ltf1, pl_eqf1, pl_let2, pl_lef2, pl_ltt2, pl_ltf2, pl_em1, if_true, if_false, ite_self]
  unfold fX5_ageBy agN
  by_cases c : x ≤ 0
  · rw [if_pos c]
    have e := lp_fold (fun m (_ : Unit) i => lX5_ageBy_2 N σ m (nI p) x i) (fun _ => ()) (F 6) (.inl ()) (fun m i hi => by
      rw [step m i hi, if_neg]
      intro e
      rw [← e] at c
      have h1 : 1 * 1 ≤ F (7 + p) * (F 6 - i) := Nat.mul_le_mul p1 (show 1 ≤ F 6 - i by omega)
      exact absurd c (nI_nle (by omega) (by have := hmul i; omega))) (fun m => endl m) (F 6) 0 N (by omega) (by omega)
    rw [show lX5_ageBy_2 N σ N (nI p) x 0 = some (.inl ()) from e]; rfl
  · rw [if_neg c]
    obtain ⟨d, hd, rfl⟩ := nI_of (x := x) (fun h9 => c (Int32.le_of_lt h9))
    have hd0 : 0 < d := by
      rcases Nat.eq_zero_or_pos d with e | e
      · subst e; exact absurd (by decide) c
      · exact e
    rw [nI_clamp hd]
    obtain ⟨g1, g2, g3⟩ := ag_ex (fd := F 6) p1 p2 k6 hd0
    by_cases c2 : d % F (7 + p) = 0 ∧ d / F (7 + p) ≤ F 6
    · obtain ⟨g4, g5⟩ := g2 c2
      have e := lp_fold (fun m (_ : Unit) i => lX5_ageBy_2 N σ m (nI p) (nI d) i) (fun _ => ()) (F 6 - d / F (7 + p)) (.inr (nI (F 6 - d / F (7 + p)))) (fun m i hi => by
        rw [step m i (by omega), if_neg]
        intro e
        exact g1 c2 i hi ((nI_eq (by have := hmul i; omega) hd).mp e)) (fun m => by
        rw [step m _ g4, g5, if_pos rfl]) (F 6 - d / F (7 + p)) 0 N (by omega) (by omega)
      rw [show lX5_ageBy_2 N σ N (nI p) (nI d) 0 = some (.inr _) from e, if_pos c2]; rfl
    · have e := lp_fold (fun m (_ : Unit) i => lX5_ageBy_2 N σ m (nI p) (nI d) i) (fun _ => ()) (F 6) (.inl ()) (fun m i hi => by
        rw [step m i hi, if_neg]
        intro e
        exact g3 c2 i hi ((nI_eq (by have := hmul i; omega) hd).mp e)) (fun m => endl m) (F 6) 0 N (by omega) (by omega)
      rw [show lX5_ageBy_2 N σ N (nI p) (nI d) 0 = some (.inl ()) from e, if_neg c2]; rfl
theorem agN_cs (w fd : Nat) (hfd : fd ≤ 9) (x : Int32) : agN w fd x = -1 ∨ ∃ i, i ≤ 9 ∧ agN w fd x = nI i := by
  unfold agN
  by_cases c : x ≤ 0
  · rw [if_pos c]; exact Or.inl rfl
  · rw [if_neg c]
    by_cases c2 : x.toNatClampNeg % w = 0 ∧ x.toNatClampNeg / w ≤ fd
    · rw [if_pos c2]; exact Or.inr ⟨_, Nat.le_trans (Nat.sub_le _ _) hfd, rfl⟩
    · rw [if_neg c2]; exact Or.inl rfl
theorem op_age (hN : 200000 ≤ N) : LO_age N b (LR b) := by
  intro n h σ x y hL
  obtain ⟨F, a, W⟩ := hL.nw
  have W0 := W.th 0
  have k2 : F 2 ≤ 6 := W.mh.1.1.2.2.1
  rw [show fX1_age N h b x y = fX1_age N (iS h (kI h)) b x y from rfl]
  unfold fX1_age fX5_age
  simp only [lt_, fx_g W.1, W.cP, W0.mP, Option.bind_some]
  rcases isIn_cs x (n := F 2) (by omega) with ⟨h9, -⟩ | ⟨h9, p, hp, rfl⟩
  · simp only [h9, eq_self, if_true]
    exact ⟨-1, sI σ 0 0, rfl, rfl, hL.less.thrown 0⟩
  · simp only [h9, one0, if_false, W.cA hp, W0.mA hN hp, Option.bind_some]
    exact ⟨_, sI σ 0 0, rfl, rfl, hL.less.thrown 0⟩
theorem op_who (hN : 200000 ≤ N) : LO_who N b (LR b) := by
  intro n h σ x hL
  obtain ⟨F, a, W⟩ := hL.nw
  have W0 := W.th 0
  have k2 : F 2 ≤ 6 := W.mh.1.1.2.2.1
  have k6 : F 6 ≤ 9 := W.mh.1.1.2.2.2.2.2.2.2
  rw [show fX1_who N h b x = fX1_who N (iS h (kI h)) b x from rfl]
  unfold fX1_who fX5_who
  refine exE2 (lp_two (fun m s i => lX1_who_4 N (iS h (kI h)) m b x s i) (fun m s i => lX5_who_9 N (sI σ 0 0) m x s i) (F 2) (fun i s s' => s = s') (fun r r' => r = r') ?_ ?_ (F 2) 0 0 0 N (by omega) (by omega) rfl) fun r r' e1 e2 hq => ?_
  · rintro m i s _ hi rfl
    right
    rw [lX1_who_4, lX5_who_9, W0.mA hN hi, mo_2 W0.mh]
    simp (disch := omega) only [W.r3, Option.bind_some, ho_R W.ho, ls_g (ho_p W.ho), ls_size (ho_p W.ho), pl_let, pl_lef, pl_ltt, pl_ltf, pl_eqf, pl_let1, pl_lef1, pl_ltt1, pl_ltf1, pl_eqf1, pl_let2, pl_lef2, pl_ltt2, pl_ltf2, pl_em1, if_true, if_false, ite_self, pl_la, pl_al, pl_lm, pl_ml, nI_add, pk_mul, pl_sl, pl_m1, fx_g W.1, W.cA hi, lt_]
    rcases agN_cs (F (7 + i)) (F 6) k6 x with e | ⟨j, hj, e⟩
    · rw [e, if_pos rfl, if_pos (by decide)]
      exact ⟨_, _, rfl, rfl, by rw [Int32.or_zero]⟩
    · rw [e, if_neg (fun e9 => by rw [pl_em1 (by omega)] at e9; exact e9), if_neg (nI_pos (by omega))]
      exact ⟨_, _, rfl, rfl, rfl⟩
  · rintro m s _ rfl
    rw [lX1_who_4, lX5_who_9, mo_2 W0.mh]
    simp (disch := omega) only [W.r3, Option.bind_some, ho_R W.ho, ls_g (ho_p W.ho), ls_size (ho_p W.ho), pl_let, pl_lef, pl_ltt, pl_ltf, pl_eqf, pl_let1, pl_lef1, pl_ltt1, pl_ltf1, pl_eqf1, pl_let2, pl_lef2, pl_ltt2, pl_ltf2, pl_em1, if_true, if_false, ite_self]
    exact ⟨_, _, rfl, rfl, rfl⟩
  · obtain rfl := hq
    have e1 : lX1_who_4 N (iS h (kI h)) N b x 0 0 = some r := e1
    have e2 : lX5_who_9 N (sI σ 0 0) N x 0 0 = some r := e2
    simp only [lt_, e1, e2, Option.bind_some]
    by_cases c : r = 0
    · simp only [c, eq_self, if_true]; exact ⟨-1, sI σ 0 0, rfl, rfl, hL.less.thrown 0⟩
    · simp only [c, if_false]; exact ⟨r, sI σ 0 0, rfl, rfl, hL.less.thrown 0⟩
theorem op_rarest (hN : 200000 ≤ N) : LO_rarest N b (LR b) := by
  intro n h σ hL
  obtain ⟨F, a, W⟩ := hL.nw
  have W0 := W.th 0
  have k2 : F 2 ≤ 6 := W.mh.1.1.2.2.1
  rw [show fX1_rarest N h b = fX1_rarest N (iS h (kI h)) b from rfl]
  unfold fX1_rarest fX5_rarest
  refine exE2 (lp_two (fun m s i => lX1_rarest_4 N (iS h (kI h)) m b s i) (fun m s i => lX5_rarest_9 N (sI σ 0 0) m s i) (F 2) (fun i s s' => s = s' ∧ (s = -1 ∨ ∃ j, j < F 2 ∧ s = nI j)) (fun r r' => r = r') ?_ ?_ (F 2) 0 (-1) (-1) N (by omega) (by omega) ⟨rfl, Or.inl rfl⟩) fun r r' e1 e2 hq => ?_
  · rintro m i s _ hi ⟨rfl, hs⟩
    right
    have I8 := ru_I8 W.ru (kI h) (i := i) (by omega)
    rw [lX1_rarest_4, lX5_rarest_9, mo_2 W0.mh]
    simp (disch := omega) only [W.r3, W.r4, Option.bind_some, ho_R W.ho, ls_g (ho_p W.ho), ls_size (ho_p W.ho), pl_let, pl_lef, pl_ltt, pl_ltf, pl_eqf, pl_let1, pl_lef1, pl_ltt1, pl_ltf1, pl_eqf1, pl_let2, pl_lef2, pl_ltt2, pl_ltf2, pl_em1, if_true, if_false, ite_self, pl_la, pl_al, pl_lm, pl_ml, nI_add, pk_mul, pl_sl, pl_m1, ru_R8 W.ru, I8, rA6]
    rcases hs with rfl | ⟨j, hj, rfl⟩
    · rw [if_pos rfl, if_pos (by decide)]
      exact ⟨nI i, nI i, ⟨rfl, Or.inr ⟨i, hi, rfl⟩⟩, rfl, rfl⟩
    · have J8 := ru_I8 W.ru (kI h) (i := j) (by omega)
      simp (disch := omega) only [pl_em1, if_false, J8, Option.bind_some, pl_la, pl_al, pl_lm, pl_ml, nI_add, pk_mul, pl_sl, pl_m1, rA6, pl_ltf2]
      rw [W.rr.2.1 i (by omega), W.rr.2.1 j (by omega), show gA (sI σ 0 0) 6 = gA σ 6 from rfl]
      by_cases c : gA σ 6 (430 + j) ≤ gA σ 6 (430 + i)
      · rw [if_pos c, if_pos c]
        exact ⟨nI j, nI j, ⟨rfl, Or.inr ⟨j, hj, rfl⟩⟩, rfl, rfl⟩
      · rw [if_neg c, if_neg c]
        exact ⟨nI i, nI i, ⟨rfl, Or.inr ⟨i, hi, rfl⟩⟩, rfl, rfl⟩
  · rintro m s _ ⟨rfl, -⟩
    rw [lX1_rarest_4, lX5_rarest_9, mo_2 W0.mh]
    simp (disch := omega) only [W.r3, Option.bind_some, ho_R W.ho, ls_g (ho_p W.ho), ls_size (ho_p W.ho), pl_let, pl_lef, pl_ltt, pl_ltf, pl_eqf, pl_let1, pl_lef1, pl_ltt1, pl_ltf1, pl_eqf1, pl_let2, pl_lef2, pl_ltt2, pl_ltf2, pl_em1, if_true, if_false, ite_self]
    exact ⟨_, _, rfl, rfl, rfl⟩
  · obtain rfl := hq
    have e1 : lX1_rarest_4 N (iS h (kI h)) N b (-1) 0 = some r := e1
    have e2 : lX5_rarest_9 N (sI σ 0 0) N (-1) 0 = some r := e2
    simp only [lt_, e1, e2, Option.bind_some]
    exact ⟨r, sI σ 0 0, rfl, rfl, hL.less.thrown 0⟩
end PO4
