/-! operations: the tape, and what is only told -/
section PO1
variable {b N : Nat}
theorem fx_id (h : HS) : h = iS h (kI h) := rfl
theorem op_fault : LO_fault N b (LR b) := by
  intro n h σ hL
  obtain ⟨⟨hF, -⟩, -, ⟨-, -, hf⟩, -⟩ := id hL
  refine ⟨kI h b 2, sI σ 0 0, ?_, ?_, hL.less.thrown 0⟩
  · show fX1_fault N (iS h (kI h)) b = _
    unfold fX1_fault; rw [fx_b hF]; rfl
  · rw [hf]; rfl
theorem op_fewest : LO_fewest N b (LR b) := by
  intro n h σ hL
  obtain ⟨⟨hF, -⟩, -, -, -, -, ⟨hr, -⟩, -⟩ := id hL
  refine ⟨kI h b 16, sI σ 0 0, ?_, ?_, hL.less.thrown 0⟩
  · show fX1_fewest N (iS h (kI h)) b = _
    unfold fX1_fewest; rw [fx_b hF]; rfl
  · unfold fX5_fewest lt_
    show (if gI σ 28 < 0 then _ else (gI σ 29, _)) = _
    rcases hr with ⟨e1, e2, e3⟩ | ⟨m, m1, e1, e2, e3, -⟩
    · rw [e1, e3]; rfl
    · rw [e1, e3, if_neg (nI_pos (by omega))]
theorem op_end : LO_end N b (LR b) := by
  intro n h σ x hL
  obtain ⟨⟨hF, hO, hz⟩, hC, ⟨⟨m, m1, e1, e2⟩, ht, hf⟩, ⟨F, a, hH, hU⟩, hK, hR, hM⟩ := id hL.less
  have hr : fX1_end N h b x = (if x < 0 then some (0, h) else if x ≤ nI m then some (1, iS h (u2 (kI h) b 1 x)) else some (0, h)) := by
    show fX1_end N (iS h (kI h)) b x = _
    unfold fX1_end
    rw [fx_b hF, fx_p hF]
    simp only [Option.bind_some, e1]; rfl
  have hs : fX5_end σ x = (if x < 0 then (0, sI σ 0 0) else if x ≤ nI m then (1, sI (sI σ 0 0) 2 x) else (0, sI σ 0 0)) := by
    unfold fX5_end; simp only [lt_]
    rw [show gI (sI σ 0 0) 2 = nI m from e2]
  rw [hr, hs]
  by_cases c1 : x < 0
  · rw [if_pos c1, if_pos c1]; exact ⟨0, h, _, rfl, rfl, hL.less.thrown 0⟩
  · rw [if_neg c1, if_neg c1]
    by_cases c2 : x ≤ nI m
    · rw [if_pos c2, if_pos c2]
      obtain ⟨j, hj, rfl⟩ := nI_of c1
      have hjm : j ≤ m := (nI_leI hj (by omega)).mp c2
      have hg : ∀ q, q ≠ b → u2 (kI h) b 1 (nI j) q = kI h q := fun q hq => u2_nf hq
      have hb : ∀ k, k ≠ 1 → u2 (kI h) b 1 (nI j) b k = kI h b k := fun k hk => u2_ne (Or.inr hk)
      have K : kept b h (iS h (u2 (kI h) b 1 (nI j))) (kI h) (u2 (kI h) b 1 (nI j)) := ⟨Nat.le_refl _, fun q hq => ⟨rfl, rfl, rfl, hg q (by obtain ⟨_, h9⟩ := hq; omega)⟩⟩
      refine ⟨1, _, _, rfl, rfl, ⟨hF, hO, hz⟩, hC.keep K rfl, ⟨⟨j, by omega, u2_eq _ _ _ _, rfl⟩, fun i hi => by rw [kI_iS, hg (b + 1) (by omega)]; exact ht i hi, by rw [kI_iS, hb 2 (by decide)]; exact hf⟩, ⟨F, a, hH.keep K rfl (fun q q1 q2 => hg q (by omega)) (fun _ _ => rfl), hU.of (hb 7 (by decide)) rfl (fun q q1 q2 => ⟨hg q (by omega), rfl⟩) rfl rfl⟩, hK.of K (fun q q1 q2 => ⟨hg q (by omega), rfl⟩) rfl rfl rfl, hR.of (hb 16 (by decide)) (hb 17 (by decide)) (hb 29 (by decide)) ⟨hg _ (by omega), hg _ (by omega), hg _ (by omega), hg _ (by omega)⟩ ⟨rfl, rfl, rfl, rfl⟩ ⟨rfl, rfl, rfl, rfl⟩, hM⟩
    · rw [if_neg c2, if_neg c2]; exact ⟨0, h, _, rfl, rfl, hL.less.thrown 0⟩
/-- a number that is in, or isn't -/
theorem isIn_cs (x : Int32) {n : Nat} (hn : n < 2147483648) : (fX1_isIn x 0 (nI n - 1) = 0 ∧ ∀ i, i < n → x ≠ nI i) ∨ (fX1_isIn x 0 (nI n - 1) = 1 ∧ ∃ i, i < n ∧ x = nI i) := by
  rw [isIn_in x hn]
  rcases pl_cs x with hx | ⟨i, hi, rfl⟩
  · rw [inB_neg hx]
    exact Or.inl ⟨rfl, fun i hi e => by subst e; exact absurd hx (nI_pos (by omega))⟩
  · rw [inB_n hi]
    by_cases q : i < n
    · rw [decide_eq_true q]; exact Or.inr ⟨rfl, i, q, rfl⟩
    · rw [decide_eq_false q]; exact Or.inl ⟨rfl, fun j hj e => by have := (nI_eq hi (by omega)).mp e; omega⟩
theorem isIn_lit (x : Int32) (k : Nat) (hk : k + 1 < 2147483648) : fX1_isIn x 0 (nI k) = fX1_isIn x 0 (nI (k + 1) - 1) := by
  rw [pl_sl (n := 1) (by show 1 ≤ k + 1; omega)]; rfl
theorem op_read : LO_read N b (LR b) := by
  intro n h σ x y hL
  obtain ⟨⟨hF, -⟩, -, -, -, -, ⟨hr, -⟩, -⟩ := id hL
  have e5 : fX5_read N σ x y = (if fX1_isIn x 0 (gI σ 28 - 1) = 0 then some (-3, sI σ 0 0) else if fX1_isIn y 0 1 = 0 then some (-3, sI σ 0 0) else if y = 0 then (rA σ 26 x).bind fun v => some (v, sI σ 0 0) else (rA σ 27 x).bind fun v => some (v, sI σ 0 0)) := rfl
  have e1 : fX1_read N h b x y = (if fX1_isIn x 0 (kI h b 17 - 1) = 0 then some (-3) else if fX1_isIn y 0 1 = 0 then some (-3) else if y = 0 then (aI h (b + 2037) 31 x) else (aI h (b + 2038) 31 x)) := by
    show fX1_read N (iS h (kI h)) b x y = _
    unfold fX1_read
    simp only [fx_b hF, fx_R12 hF, fx_R13 hF, Option.bind_some, Option.bind_fun_some]
    rfl
  rcases hr with ⟨q1, q2, q3⟩ | ⟨m, m1, q1, q2, q3, q4⟩
  · refine ⟨-3, sI σ 0 0, ?_, ?_, hL.less.thrown 0⟩
    · rw [e1, q2]
      have : fX1_isIn x 0 (0 - 1) = 0 := by
        rcases isIn_cs x (n := 0) (by decide) with h9 | ⟨-, i, hi, -⟩
        · exact h9.1
        · omega
      rw [if_pos this]
    · rw [e5, q1]
      have : fX1_isIn x 0 (-1 - 1) = 0 := by
        unfold fX1_isIn
        by_cases c : x < 0
        · rw [if_pos c]
        · rw [if_neg c, if_pos]
          obtain ⟨j, hj, rfl⟩ := nI_of c
          rw [Int32.lt_iff_toInt_lt, nI_toInt hj]
          have : (-1 - 1 : Int32).toInt = -2 := by decide
          omega
      rw [if_pos this]
  · rw [e1, e5, q1, q2]
    rcases isIn_cs x (n := m) (by omega) with ⟨h9, -⟩ | ⟨h9, i, hi, rfl⟩
    · simp only [h9, eq_self, if_true]; exact ⟨-3, sI σ 0 0, rfl, rfl, hL.less.thrown 0⟩
    · simp only [h9, one0, if_false]
      by_cases c : fX1_isIn y 0 1 = 0
      · simp only [c, eq_self, if_true]; exact ⟨-3, sI σ 0 0, rfl, rfl, hL.less.thrown 0⟩
      · simp only [c, if_false]
        have a1 := fx_I12 hF (kI h) (i := i) (by omega)
        have a2 := fx_I13 hF (kI h) (i := i) (by omega)
        by_cases c0 : y = 0
        · simp only [c0, eq_self, if_true]; rw [rA26 (by omega)]
          exact ⟨_, sI σ 0 0, a1, by rw [(q4 i hi).1]; rfl, hL.less.thrown 0⟩
        · simp only [c0, if_false]; rw [rA27 (by omega)]
          exact ⟨_, sI σ 0 0, a2, by rw [(q4 i hi).2]; rfl, hL.less.thrown 0⟩
theorem op_walked : LO_walked N b (LR b) := by
  intro n h σ x hL
  obtain ⟨⟨hF, -⟩, -, -, -, -, ⟨-, hr, -⟩, -⟩ := id hL
  have e5 : fX5_walked N σ x = (if gI σ 35 = 0 then some (-1, sI σ 0 0) else if fX1_isIn x 0 3 = 0 then some (-1, sI σ 0 0) else (rA σ 31 x).bind fun v => some (v, sI σ 0 0)) := rfl
  have e1 : fX1_walked N h b x = (if fX1_isIn x 0 3 = 0 then some (-1) else (aI h (b + 2048) 31 x)) := by
    show fX1_walked N (iS h (kI h)) b x = _
    unfold fX1_walked
    simp only [fx_R21 hF, Option.bind_some, Option.bind_fun_some]
    rfl
  rw [e1, e5, show (3 : Int32) = nI 3 from rfl, isIn_lit x 3 (by decide)]
  rcases isIn_cs x (n := 4) (by decide) with ⟨h9, -⟩ | ⟨h9, i, hi, rfl⟩
  · simp only [h9, eq_self, if_true]
    refine ⟨-1, sI σ 0 0, rfl, ?_, hL.less.thrown 0⟩
    by_cases c : gI σ 35 = 0
    · rw [if_pos c]
    · rw [if_neg c]
  · simp only [h9, one0, if_false]; rw [rA31 hi]
    have a1 := fx_I21 hF (kI h) (i := i) hi
    rcases hr with ⟨c1, c2⟩ | ⟨c1, c2⟩
    · rw [if_pos c1]; exact ⟨_, sI σ 0 0, a1, by rw [c2 i hi], hL.less.thrown 0⟩
    · rw [if_neg (by rw [c1]; decide)]; exact ⟨_, sI σ 0 0, a1, by rw [c2 i hi]; rfl, hL.less.thrown 0⟩
theorem op_lay : LO_lay N b (LR b) := by
  intro n h σ x hL
  obtain ⟨⟨hF, -⟩, -, -, -, -, ⟨-, -, m, m1, c1, c2, c3⟩, -⟩ := id hL
  have e5 : fX5_lay N σ x = (if fX1_isIn x 0 (gI σ 42 - 1) = 0 then some (-1, sI σ 0 0) else (rA σ 40 x).bind fun v => some (v, sI σ 0 0)) := rfl
  have e1 : fX1_lay N h b x = (if fX1_isIn x 0 (kI h b 29 - 1) = 0 then some (-1) else (aI h (b + 2198) 31 x)) := by
    show fX1_lay N (iS h (kI h)) b x = _
    unfold fX1_lay
    simp only [fx_b hF, fx_R28 hF, Option.bind_some, Option.bind_fun_some]
    rfl
  rw [e1, e5, c1, c2]
  rcases isIn_cs x (n := m) (by omega) with ⟨h9, -⟩ | ⟨h9, i, hi, rfl⟩
  · simp only [h9, eq_self, if_true]; exact ⟨-1, sI σ 0 0, rfl, rfl, hL.less.thrown 0⟩
  · simp only [h9, one0, if_false]; rw [rA40 (by omega)]
    exact ⟨_, sI σ 0 0, fx_I28 hF (kI h) (i := i) (by omega), by rw [c3 i hi]; rfl, hL.less.thrown 0⟩
theorem op_count : LO_count N b (LR b) := by
  intro n h σ x hL
  obtain ⟨⟨hF, -⟩, -, ⟨⟨m, m1, t1, t2⟩, -⟩, ⟨F, a, ⟨ha, hH, hf, hr, ⟨⟨d, d1, d2, d3⟩, -⟩, -⟩, -⟩, -⟩ := id hL
  have R3 : fR (iS h (kI h)) b 1 1 3 = some a := (fx_f hF (kI h)).trans ha
  have hRu : RugS h (b + 8) := hF.2.2.2.2.2.2.2.2.1
  have fi := fun i hi => congrArg some (hf i hi)
  have e5 : fX5_count N σ x = (if x = 7 then (rA σ 6 429).bind fun v => some (v, sI σ 0 0) else if x = 8 then some (gI σ 2, sI σ 0 0) else if fX1_isIn x 0 6 = 0 then some (-1, sI σ 0 0) else (rA σ 6 x).bind fun v => some (v, sI σ 0 0)) := rfl
  have e1 : fX1_count N h b x = some (if x = 0 then nI (F 0) else if x = 1 then nI (F 1) else if x = 2 then nI (F 2) else if x = 3 then nI (F 3) else if x = 4 then nI (F 4) else if x = 5 then nI (F 5) else if x = 6 then nI (F 6) else if x = 7 then nI d else if x = 8 then nI m else -1) := by
    show fX1_count N (iS h (kI h)) b x = _
    unfold fX1_count
    simp (disch := omega) only [R3, Option.bind_some, ho_0 hH, ho_1 hH, ho_2 hH, ho_4 hH, ho_R hH, ls_g (ho_p hH), ls_g (ho_w hH), ls_g (ho_d hH), ls_size (ho_p hH), ls_size (ho_w hH), ls_size (ho_d hH), fx_R4 hF, ru_i hRu, fx_b hF, d3, t1]
    repeat' split
    all_goals rfl
  rw [e1, e5, rL6 (by decide)]
  by_cases c7 : x = 7
  · subst c7; exact ⟨_, sI σ 0 0, rfl, by rw [show gA σ 6 (OfNat.ofNat 429) = nI d from d2]; rfl, hL.less.thrown 0⟩
  by_cases c8 : x = 8
  · subst c8; exact ⟨_, sI σ 0 0, rfl, by rw [t2]; rfl, hL.less.thrown 0⟩
  have e6 : fX1_isIn x 0 6 = fX1_isIn x 0 (nI 7 - 1) := isIn_lit x 6 (by decide)
  simp only [c7, c8, if_false, e6]
  rcases isIn_cs x (n := 7) (by decide) with ⟨h9, h8⟩ | ⟨h9, i, hi, rfl⟩
  · simp only [h9, eq_self, if_true, show ¬ x = 0 from h8 0 (by decide), show ¬ x = 1 from h8 1 (by decide), show ¬ x = 2 from h8 2 (by decide), show ¬ x = 3 from h8 3 (by decide), show ¬ x = 4 from h8 4 (by decide), show ¬ x = 5 from h8 5 (by decide), show ¬ x = 6 from h8 6 (by decide), if_false]
    exact ⟨-1, sI σ 0 0, rfl, rfl, hL.less.thrown 0⟩
  · simp only [h9, one0, if_false]; rw [rA6 (by omega), hf i (by omega)]
    have h7 : i = 0 ∨ i = 1 ∨ i = 2 ∨ i = 3 ∨ i = 4 ∨ i = 5 ∨ i = 6 := by omega
    rcases h7 with rfl | rfl | rfl | rfl | rfl | rfl | rfl <;> exact ⟨_, sI σ 0 0, rfl, rfl, hL.less.thrown 0⟩
end PO1
