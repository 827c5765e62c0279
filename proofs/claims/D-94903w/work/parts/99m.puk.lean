/-! sentences: one() at a leaf -/
section PUK
variable {h0 h h' h2 : HS} {σ0 σ σ' σ1 : MS} {N b rd sz Z W a O t n : Nat} {wh : Bool} {F : Nat → Nat} {S : List Nat} {C : List CD3} {v : Int32}
theorem cn2_le {l : List Nat} : cn2 l ≤ l.length := by
  induction l with
  | nil => exact Nat.le_refl _
  | cons x l ih =>
    show (if x = 10 ∨ x = 13 then 1 else 0) + cn2 l ≤ l.length + 1
    by_cases c : x = 10 ∨ x = 13
    · rw [if_pos c]; omega
    · rw [if_neg c]; omega
/-- a leaf is read -/
theorem leaf_fin {c P' : Nat} {l : CD3} {r : Option ((Nat ⊕ Nat) × HS)} (hX : SX h0 b rd sz Z W a σ0 t O S C false h σ) (h11 : kI h rd 11 = nI (cn2 S)) (hO : O < 20) (K : sK rd (oneI rd h) h') (i10 : kI h' rd 10 = kI (oneI rd h) rd 10) (i11 : kI h' rd 11 = kI (oneI rd h) rd 11)
    (hr : r = some (.inr c, tI h' rd 11 (kI h' rd 11 - 1))) (R : PRS h0 b rd sz 200 (Z + t + 1) (W + 8 * t + 8) true P' h' σ') (hc : CondR h' (kI h') b F 1 c [l]) (hS : SM σ0 S (C ++ [l]) (O + 1) true σ') (f15 : gI σ' 15 = 0) (st : ∀ n, lX5_sentence_48 N (n + 1) σ 1 = lX5_sentence_48 N n σ' 1) : OneC N h0 b rd sz Z W a F σ0 r O S C h σ := by
  obtain ⟨⟨P, R0⟩, ⟨T, A, I⟩, -, -, -, b1, b2⟩ := hX
  have b1 : t + 0 ≤ 2 * O := b1
  have b2 : C.length + S.length + 0 ≤ 2 * O := b2
  have K1 : sK rd h h' := oneI_k.1.trans K
  have T' : kT h' rd = 7 := K1.2.1.trans T
  have e : kI h' rd 11 - 1 = nI (cn2 S) := by
    rw [i11, oneI_k.2.2, h11]
    show nI (cn2 S) + 1 - 1 = _
    rw [show nI (cn2 S) + 1 = nI (cn2 S + 1) from nI_add _ 1]
    exact pl_sl (n := 1) (by show 1 ≤ cn2 S + 1; omega)
  refine Or.inr ⟨c, _, σ', t + 1, O + 1, 0, [l], 1, hr, Nat.lt_succ_self _, by omega, st, ?_, ?_, sk_tI K1 (Or.inr rfl), ?_⟩
  · rw [List.replicate_zero, List.append_nil]
    refine ⟨⟨P', prs_tI R (by decide)⟩, ⟨T', (K1.2.2.1 9 (by decide)).trans A, ?_⟩, hS, f15, hO, ?_, ?_⟩
    · rw [kI_tI, if_neg (by omega), i10, oneI_k.2.1, I]; exact nI_add _ 1
    · show t + 1 + 1 ≤ 2 * (O + 1); omega
    · rw [List.length_append]; show C.length + 1 + S.length + 1 ≤ 2 * (O + 1); omega
  · rw [kI_tI, if_pos ⟨rfl, rfl⟩, e]
  · rw [List.replicate_zero, List.append_nil]
    exact cond_tI T' hc
/-- one() at a leaf, or at no one at all -/
theorem one_leaf (hN : 200000 ≤ N) (X : SF h0 b a F σ0) (m1 : Z + 60 ≤ kG h0 1) (m2 : W + 500 ≤ kG h0 2) {rec : HS → Nat → Option ((Nat ⊕ Nat) × HS)} (hX : SX h0 b rd sz Z W a σ0 t O S C false h σ) (h11 : kI h rd 11 = nI (cn2 S)) (u : fX5_isWord σ 7237492 = 0) (s : fX5_isSign σ 40 = 0) (np : ¬ (kI h rd 4 = 6 ∧ kI h rd 7 = 40)) : OneC N h0 b rd sz Z W a F σ0 (fX13_one N rec h rd) O S C h σ := by
  obtain ⟨⟨P, R⟩, ⟨T, A, I⟩, hS, f15, hO, b1, b2⟩ := id hX
  have b1 : t + 0 ≤ 2 * O := b1
  have b2 : C.length + S.length + 0 ≤ 2 * O := b2
  have i50 : gI σ 50 = 0 := hS.1.2.2.2.2
  have i47 : gI σ 47 = nI O := hS.1.2.1
  have i49 : gI σ 49 = nI (1 + cn2 S) := hS.1.2.2.2.1
  have G : kG h 0 ≤ rd := R.rb.1.2.2.1
  have cl : cn2 S ≤ S.length := cn2_le
  obtain ⟨r6, r7, r8, e6, e7, e8, w6, v6, lf, wd⟩ := lf_both (N := N) hN R T
  obtain rfl : r6 = 0 := w6.symm.trans u
  by_cases nw : r7 = 0 ∧ r8 = -1
  · obtain ⟨rfl, rfl⟩ := nw
    have l : fX5_leafOf σ = -1 := by
      rcases lf with ⟨z, -⟩ | ⟨-, ⟨-, z⟩ | ⟨x, x1, x2, -⟩⟩
      · exact absurd z (by decide)
      · exact z
      · exact absurd x2.symm ((pl_em1 (a := x) (by omega)).mp)
    obtain ⟨fa, h', e1, e2⟩ := need_0 (N := N) R (k := 1) fun _ => rfl
    exact Or.inl (sfa_op i50 (op_no u s l) (one_no T e6 e7 e8 np e1) e2 (by omega) (by omega) hS.e.bad)
  · have wd := wd fun z => nw z.2
    have l0 : 0 ≤ fX5_leafOf σ := by
      rcases lf with ⟨-, z⟩ | ⟨y, ⟨y2, -⟩ | ⟨x, x1, -, z⟩⟩
      · rw [z]; decide
      · exact absurd ⟨y, y2⟩ nw
      · rw [z]; exact nI_le (a := 0) (by omega) (by omega)
    have q4 : kI h rd 4 = 1 ∨ kI h rd 4 = 5 → (4 : Int32) = 1 := fun z => by rw [wd.1] at z; rcases z with z | z <;> exact absurd z (by decide)
    rw [one_w T e6 e7 e8 np fun z => nw z.2]
    by_cases lim : O = 20 ∨ 8 ≤ cn2 S
    · obtain ⟨fa, h', e1, e2⟩ := need_0 (N := N) R (k := 4) q4
      refine Or.inl (sfa_op i50 (op_too (Or.inr (Or.inr l0)) ?_) (oneH_no T ?_ e1) e2 (by omega) (by omega) hS.e.bad)
      · rw [i47, i49]
        rcases lim with z | z
        · exact Or.inl (by rw [z]; rfl)
        · exact Or.inr (nI_ge (a := 8) (by omega) (by omega))
      · rw [I, h11]
        rcases lim with z | z
        · exact Or.inl (by rw [z]; decide)
        · exact Or.inr (nI_le (a := 8) (by omega) (by omega))
    · have o20 : O < 20 := by omega
      have c8 : cn2 S < 8 := by omega
      have t1 : gI σ 47 ≠ 20 := by rw [i47]; exact fun z => by have := (nI_eq (b := 20) (by omega) (by decide)).mp z; omega
      have t2 : gI σ 49 ≤ 8 := by rw [i49]; exact nI_le (b := 8) (by omega) (by omega)
      rw [oneH_ok T G (by rw [I]; exact nI_ge (b := 20) (by omega) (by omega)) (by rw [h11]; exact nI_ge (b := 8) (by omega) (by omega))]
      have R1 : PRS h0 b rd sz 200 (Z + t) (W + 8 * t) true P (oneI rd h) (sI σ 47 (nI (O + 1))) := (prs_in R).ms rfl rfl rfl fun k hk => by rw [gI_sI, if_neg (by omega)]
      obtain ⟨h3, σ3, P1, g1, g2, R3, g4, g5, g6⟩ := go_both (N := N) hN R1.1
      have n47 : gI σ 47 + 1 = nI (O + 1) := by rw [i47]; exact nI_add _ 1
      have S3 : SM σ0 S C (O + 1) true (sI σ3 50 1) := (sm_wh (v := true) (sm_mk (sm_on1 (O' := O + 1) hS).1 g6.m)).1
      have R4 : PRS h0 b rd sz 200 (Z + t) (W + 8 * t) true P1 h3 (sI σ3 50 1) := R3.ms rfl rfl rfl fun k hk => by rw [gI_sI, if_neg (by omega)]
      have K3 : sK rd (oneI rd h) h3 := g6.c.sk
      have T3 : kT h3 rd = 7 := K3.2.1.trans T
      have A3 : kR h3 rd 9 = some a := (K3.2.2.1 9 (by decide)).trans A
      have k10 : kI h3 rd 10 = kI (oneI rd h) rd 10 := g6.c.2.2.2 10 (by omega)
      have k11 : kI h3 rd 11 = kI (oneI rd h) rd 11 := g6.c.2.2.2 11 (by omega)
      have f3 : gI (sI σ3 50 1) 15 = 0 := by
        rw [gI_sI, if_neg (by omega), g6.2.2.2.2.2.2 15 (by decide) (by decide) (by decide) (by decide) (by decide), gI_sI, if_neg (by omega)]; exact f15
      have GG : ∀ {h1 : HS}, sK rd (oneI rd h) h1 → kG h1 0 ≤ rd := fun z => by rw [z.1.2.1]; exact G
      unfold oneG
      rw [gT_n (by rw [show kT (oneI rd h) rd = 7 from T]; exact Nat.le_refl _) (by rw [show kT (oneI rd h) rd = 7 from T]; exact Nat.le_refl _), g1, Option.bind_some, if_pos rfl]
      rcases lf with ⟨y, z⟩ | ⟨y, ⟨y2, -⟩ | ⟨x, x1, y2, z⟩⟩
      · have opE := op_l (N := N) u s t1 t2 z (by decide) (by rw [n47]; exact g2)
        rw [if_pos rfl] at opE
        rw [if_neg (by rw [y]; decide), gT_n (by omega) (by omega)]
        rcases tr_both (N := N) hN X R4 T3 A3 (by omega) (by omega) S3 (by omega) with ⟨fa, h', σ', q1, q2, q3, q4⟩ | ⟨c, h', σ', P', w, q1, q2, q3, -, q4, q5, q6, q7, q8, q9⟩
        · exact Or.inl (sfa_op i50 (opE.trans q2) (by rw [q1]; exact oneE_l) q3 (by omega) (by omega) q4)
        · exact leaf_fin hX h11 o20 (K3.trans q4) (q5.trans k10) (q6.trans k11) (one_out ((K3.trans q4).2.1.trans T) (GG (K3.trans q4)) q1) q3 q7 q8 (q9.trans f3) (fun n => by rw [lp_op i50 (opE.trans q2), if_neg (by decide)])
      · exact absurd ⟨y, y2⟩ nw
      · have opE := op_l (N := N) u s t1 t2 z (nI_le (a := 0) (by omega) (by omega)) (by rw [n47]; exact g2)
        rw [if_neg (fun q => by have := (nI_eq (b := 0) (by omega) (by decide)).mp q; omega)] at opE
        rw [if_pos y, gT_n (by omega) (by omega), y2]
        rcases th_both (N := N) (F := F) hN R4 T3 (by omega) (by omega) S3 (by omega) x1 with ⟨fa, h', σ', q1, q2, q3, q4⟩ | ⟨c, h', σ', P', s', n', q1, q2, q3, -, q4, q5, q6, q7, q8, q9⟩
        · exact Or.inl (sfa_op i50 (opE.trans q2) (by rw [q1]; exact oneE_l) q3 (by omega) (by omega) q4)
        · exact leaf_fin hX h11 o20 (K3.trans q4) (q5.trans k10) (q6.trans k11) (one_out ((K3.trans q4).2.1.trans T) (GG (K3.trans q4)) q1) q3 q7 q8 (q9.trans f3) (fun n => by rw [lp_op i50 (opE.trans q2), if_neg (by decide)])
end PUK
