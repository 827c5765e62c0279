/-! sentences: one() at a bracket -/
/-- bracket() from S with OPEN on it: back to S -/
def BrC (N : Nat) (h0 : HS) (b rd sz Z W a : Nat) (F : Nat → Nat) (σ0 : MS) (r : Option ((Nat ⊕ Nat) × HS)) (O : Nat) (S : List Nat) (C : List CD3) (h : HS) (σ : MS) : Prop :=
  SFa N h0 Z W σ0 O r σ ∨ ∃ c h' σ' t' O' L k, r = some (.inr c, h') ∧ O ≤ O' ∧ k ≤ 3 * (O' - O) ∧ (∀ n, lX5_sentence_48 N (n + k) σ 1 = lX5_sentence_48 N n σ' 1) ∧ SX h0 b rd sz Z W a σ0 t' O' S (C ++ L) true h' σ' ∧ kI h' rd 11 = nI (cn2 S + 1) ∧ sK rd h h' ∧ CondR h' (kI h') b F L.length c L
section PUM
variable {h0 h h' h2 : HS} {σ0 σ σ' σ1 : MS} {N b rd sz Z W a O t n : Nat} {wh : Bool} {F : Nat → Nat} {S : List Nat} {C : List CD3} {v : Int32}
theorem one_br (hN : 200000 ≤ N) (m1 : Z + 60 ≤ kG h0 1) (m2 : W + 500 ≤ kG h0 2) {rec : HS → Nat → Option ((Nat ⊕ Nat) × HS)} (hX : SX h0 b rd sz Z W a σ0 t O S C false h σ) (h11 : kI h rd 11 = nI (cn2 S)) (k4 : kI h rd 4 = 6) (k7 : kI h rd 7 = 40) (s : fX5_isSign σ 40 = 1) (m11 : gI σ 11 = 3)
    (hR : cn2 S < 8 → ∀ t' O' C' h' σ', SX h0 b rd sz Z W a σ0 t' O' (S ++ [13]) C' false h' σ' → kI h' rd 11 = nI (cn2 (S ++ [13])) → BrC N h0 b rd sz Z W a F σ0 (fX13_bracket N rec h' rd) O' S C' h' σ') : OneC N h0 b rd sz Z W a F σ0 (fX13_one N rec h rd) O S C h σ := by
  obtain ⟨⟨P, R⟩, ⟨T, A, I⟩, hS, f15, hO, b1, b2⟩ := id hX
  have b1 : t + 0 ≤ 2 * O := b1
  have b2 : C.length + S.length + 0 ≤ 2 * O := b2
  have i50 : gI σ 50 = 0 := hS.1.2.2.2.2
  have i47 : gI σ 47 = nI O := hS.1.2.1
  have i49 : gI σ 49 = nI (1 + cn2 S) := hS.1.2.2.2.1
  have G : kG h 0 ≤ rd := R.rb.1.2.2.1
  have cl : cn2 S ≤ S.length := cn2_le
  obtain ⟨r6, r7, r8, e6, e7, e8, w6, v6, lf, wd⟩ := lf_both (N := N) hN R T
  have u : fX5_isWord σ 7237492 = 0 := by unfold fX5_isWord; rw [m11, if_neg (by decide)]
  have q4 : kI h rd 4 = 1 ∨ kI h rd 4 = 5 → (4 : Int32) = 1 := fun z => by rw [k4] at z; rcases z with z | z <;> exact absurd z (by decide)
  rw [one_b T e6 e7 e8 k4 k7]
  by_cases lim : O = 20 ∨ 8 ≤ cn2 S
  · obtain ⟨fa, h', e1, e2⟩ := need_0 (N := N) R (k := 4) q4
    refine Or.inl (sfa_op i50 (op_too (Or.inr (Or.inl s)) ?_) (oneH_no T ?_ e1) e2 (by omega) (by omega) hS.e.bad)
    · rw [i47, i49]
      rcases lim with z | z
      · exact Or.inl (by rw [z]; rfl)
      · exact Or.inr (nI_ge (a := 8) (by omega) (by omega))
    · rw [I, h11]
      rcases lim with z | z
      · exact Or.inl (by rw [z]; decide)
      · exact Or.inr (nI_le (a := 8) (by omega) (by omega))
  · have o20 : O < 20 := by omega
    have c8 : cn2 S < 8 := by omega
    have t1 : gI σ 47 ≠ 20 := by rw [i47]; exact fun z => by have := (nI_eq (b := 20) (by omega) (by decide)).mp z; omega
    have t2 : gI σ 49 ≤ 8 := by rw [i49]; exact nI_le (b := 8) (by omega) (by omega)
    rw [oneH_ok T G (by rw [I]; exact nI_ge (b := 20) (by omega) (by omega)) (by rw [h11]; exact nI_ge (b := 8) (by omega) (by omega))]
    have R1 : PRS h0 b rd sz 200 (Z + t) (W + 8 * t) true P (oneI rd h) (sI σ 47 (nI (O + 1))) := (prs_in R).ms rfl rfl rfl fun k hk => by rw [gI_sI, if_neg (by omega)]
    obtain ⟨h3, σ3, P1, g1, g2, R3, g4, g5, g6⟩ := go_both (N := N) hN R1.1
    have n47 : gI σ 47 + 1 = nI (O + 1) := by rw [i47]; exact nI_add _ 1
    have S3 : SM σ0 S C (O + 1) false σ3 := sm_mk (sm_on1 (O' := O + 1) hS).1 g6.m
    have v49 : gI σ3 49 + 1 = nI (1 + cn2 (S ++ [13])) := by
      rw [S3.1.2.2.2.1, cn2_app]; exact nI_add _ 1
    obtain ⟨p1, p2, p3, p4⟩ := sm_push S3 (by omega) (k := 13) (by decide) _ v49
    obtain ⟨σ4, e4⟩ : ∃ s, s = sI (sI (aS σ3 45 (upd (gA σ3 45) S.length (nI 13))) 48 (nI (S.length + 1))) 49 (gI σ3 49 + 1) := ⟨_, rfl⟩
    rw [← e4] at p3 p4
    have opE : fX5_operand N σ = some (1, σ4) := by
      rw [op_b u s t1 t2 (by rw [n47]; exact g2), show wA σ3 45 (gI σ3 48) 13 = _ from p1, Option.bind_some, e4, ← p2]
      rfl
    have R4 : PRS h0 b rd sz 200 (Z + t) (W + 8 * t) true P1 h3 σ4 := R3.ms (p4.2.2.2 1 (by decide) (by decide)) (by rw [p4.2.2.1]) p4.2.1 fun k hk => p4.1 k (by omega)
    have K3 : sK rd (oneI rd h) h3 := g6.c.sk
    have G3 : kG h3 = kG h0 := R4.1.2.1.1.2.1
    have rl : rd < kZ h := R.rb.1.2.2.2.2
    have T4 : kT h3 rd = 7 := K3.2.1.trans T
    have i4 : ∀ j, j = 10 ∨ j = 11 → kI h3 rd j = kI (oneI rd h) rd j := fun j hj => g6.c.2.2.2 j (by omega)
    have w4 : kI h3 rd 11 = nI (cn2 (S ++ [13])) := by
      rw [i4 11 (Or.inr rfl), oneI_k.2.2, h11, cn2_app]; exact nI_add _ 1
    have X4 : SX h0 b rd sz Z W a σ0 t (O + 1) (S ++ [13]) C false h3 σ4 := by
      refine ⟨⟨P1, R4⟩, ⟨T4, (K3.2.2.1 9 (by decide)).trans A, ?_⟩, p3, ?_, o20, ?_, ?_⟩
      · rw [i4 10 (Or.inl rfl), oneI_k.2.1, I]; exact nI_add _ 1
      · rw [p4.1 15 (by decide), g6.2.2.2.2.2.2 15 (by decide) (by decide) (by decide) (by decide) (by decide), gI_sI, if_neg (by omega)]; exact f15
      · show t + 0 ≤ 2 * (O + 1); omega
      · rw [List.length_append]; show C.length + (S.length + 1) + 0 ≤ 2 * (O + 1); omega
    have st : ∀ n, lX5_sentence_48 N (n + 1) σ 1 = lX5_sentence_48 N n σ4 1 := fun n => by rw [lp_op i50 opE, if_neg (by decide)]
    unfold oneB
    rw [gT_n (by rw [show kT (oneI rd h) rd = 7 from T]; exact Nat.le_refl _) (by rw [show kT (oneI rd h) rd = 7 from T]; exact Nat.le_refl _), g1, Option.bind_some, gT_n (by rw [T4]; exact Nat.le_refl _) (by rw [T4]; exact Nat.le_refl _)]
    rcases hR c8 _ _ _ _ _ X4 w4 with H | ⟨c, h5, σ5, t', O', L, k, y1, y2, y3, y4, y5, y6, y7, y8⟩
    · exact Or.inl (H.step (fun fa h' z => by rw [z]; rfl) (by omega) (by omega) (by omega) st)
    · obtain ⟨⟨P5, R6⟩, ⟨T5, A5, I5⟩, S5, f5, o5, d1, d2⟩ := y5
      have gr5 : kG h5 0 ≤ rd := R6.rb.1.2.2.1
      have e11 : kI h5 rd 11 - 1 = nI (cn2 S) := by
        rw [y6]; exact pl_sl (n := 1) (by show 1 ≤ cn2 S + 1; omega)
      refine Or.inr ⟨c, tI h5 rd 11 (kI h5 rd 11 - 1), σ5, t', O', 0, L, k + 1, one_out T5 gr5 y1, by omega, by omega, fun n => ?_, ?_, ?_, sk_tI ((oneI_k.1.trans K3).trans y7) (Or.inr rfl), ?_⟩
      · rw [← Nat.add_assoc, st, y4]
      · rw [List.replicate_zero, List.append_nil]
        refine ⟨⟨P5, prs_tI R6 (by decide)⟩, ⟨T5, A5, ?_⟩, S5, f5, o5, d1, d2⟩
        rw [kI_tI, if_neg (by omega)]; exact I5
      · rw [kI_tI, if_pos ⟨rfl, rfl⟩, e11]
      · rw [List.replicate_zero, List.append_nil]
        exact cond_tI T5 y8
end PUM
