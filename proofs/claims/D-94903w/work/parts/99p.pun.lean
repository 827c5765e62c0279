/-! sentences: what waits on the stack at the level of and -/
def AndP (N : Nat) (σ0 : MS) (S : List Nat) (C : List CD3) (O : Nat) (σ : MS) (L : List CD3) (σ2 σ3 : MS) : Prop :=
  fX5_nots N σ = some σ2 ∧ tkS σ σ2 ∧ tkS σ2 σ3 ∧ (σ2 = σ3 ∨ ∀ m till, lX5_joins_0 N (m + 1) σ2 till = lX5_joins_0 N m σ3 till) ∧ SM σ0 S (C ++ L) O true σ3
section PUN
variable {σ0 σ σ' σ2 σ3 σ4 : MS} {N O x : Nat} {S : List Nat} {C L L0 : List CD3}
theorem tkS.word (K : tkS σ σ') (w : Int64) : fX5_isWord σ' w = fX5_isWord σ w := by
  unfold fX5_isWord; rw [K.1 11 (by decide), K.2.1]
theorem tkS.sign (K : tkS σ σ') (w : Int32) : fX5_isSign σ' w = fX5_isSign σ w := by
  unfold fX5_isSign; rw [K.1 11 (by decide), K.1 14 (by decide)]
/-- joins(11): one AND at most -/
theorem andp_j (hN : 200 ≤ N) (A : AndP N σ0 S C O σ L σ2 σ3) (h11 : lastN S 11) (hb : S.length < 45) : fX5_joins N σ2 11 = some σ3 := by
  obtain ⟨m, rfl⟩ : ∃ m, N = m + 2 := ⟨N - 2, by omega⟩
  have j0 : ∀ m', lX5_joins_0 (m + 2) (m' + 1) σ3 11 = some σ3 := fun m' => sm_j0 A.2.2.2.2 hb h11 (fun z => absurd z (by decide))
  unfold fX5_joins
  rcases A.2.2.2.1 with e | e
  · rw [e, j0]; rfl
  · rw [e, j0]; rfl
/-- and -/
theorem be_and (hN : 200 ≤ N) (A : AndP N σ0 S C O σ L σ2 σ3) (h11 : lastN S 11) (hb : S.length < 45) (w : fX5_isWord σ 6385252 = 1) : fX5_behind N σ = ((wA σ3 45 (gI σ3 48) 11).bind fun a => ((fX5_next N (sI (sI a 48 (gI a 48 + 1)) 50 0)).bind fun r => some (1, r))) := by
  have j := andp_j hN A h11 hb
  obtain ⟨a1, a2, a3, -, -⟩ := A
  have w2 : ¬ fX5_isWord σ2 6385252 = 0 := by rw [a2.word, w]; decide
  have w3 : ¬ fX5_isWord σ3 6385252 = 0 := by rw [a3.word]; exact w2
  unfold fX5_behind
  rw [a1, Option.bind_some, ltE, if_pos (by rw [if_neg w2]), if_neg w2, j, Option.bind_some, if_neg w3]
  rfl
/-- AND is taken, whatever the till -/
theorem sm_j11 {wh : Bool} (hS : SM σ0 (S ++ [11]) C O wh σ) (hb : S.length + 1 + C.length < 45) : ∃ σ', (∀ m till, lX5_joins_0 N (m + 1) σ till = lX5_joins_0 N m σ' till) ∧ SM σ0 S (C ++ [(11, 0, 0)]) O wh σ' ∧ tkS σ σ' := by
  obtain ⟨t1, t2, t3⟩ := sm_top hS (by omega)
  obtain ⟨p1, p2⟩ := sm_pop' (by omega) hS
  obtain ⟨σ1, c1, c2, c3⟩ := sm_code (N := N) p1 (by omega) 11 0 0
  have r : rA (sI σ 48 (nI S.length)) 45 (gI (sI σ 48 (nI S.length)) 48) = some (nI 11) := t3
  have c1 : fX5_code N (sI σ 48 (nI S.length)) (nI 11) 0 0 = some σ1 := c1
  refine ⟨σ1, fun m till => ?_, c2, p2.trans c3⟩
  rw [lX5_joins_0, if_neg t1, t2, t3, Option.bind_some, if_pos (show nI 11 = 11 from rfl)]
  simp only [lt_]
  rw [r, Option.bind_some, c1, Option.bind_some]
/-- after the first one() -/
theorem andp_1 (hN : 200 ≤ N) (hS : SM σ0 (S ++ List.replicate x 10) (C ++ L0) O true σ) (hl : lastN S 10) (hb : S.length + x + (C ++ L0).length < 45) : ∃ σ2, AndP N σ0 S C O σ (L0 ++ List.replicate x (10, 0, 0)) σ2 σ2 := by
  obtain ⟨σ2, e1, e2, e3⟩ := sm_nots (N := N) hl x _ σ N hS hb (by omega)
  exact ⟨σ2, by unfold fX5_nots; rw [e1, Option.bind_some], e3, tkS.refl, Or.inl rfl, by rw [← List.append_assoc]; exact e2⟩
/-- after a later one() -/
theorem andp_2 (hN : 200 ≤ N) (hS : SM σ0 (S ++ [11] ++ List.replicate x 10) (C ++ L ++ L0) O true σ) (hb : S.length + 1 + x + (C ++ L ++ L0).length < 45) : ∃ σ2 σ3, AndP N σ0 S C O σ (L ++ (L0 ++ List.replicate x (10, 0, 0)) ++ [(11, 0, 0)]) σ2 σ3 := by
  have hl : lastN (S ++ [11]) 10 := fun S' z => by
    have := (List.append_inj' z rfl).2
    exact absurd this (by decide)
  obtain ⟨σ2, e1, e2, e3⟩ := sm_nots (N := N) hl x _ σ N hS (by rw [List.length_append]; exact hb) (by omega)
  have hb2 : S.length + 1 + (C ++ L ++ L0 ++ List.replicate x ((10, 0, 0) : CD3)).length < 45 := by
    rw [List.length_append, List.length_replicate]; omega
  obtain ⟨σ3, j1, j2, j3⟩ := sm_j11 (N := N) e2 hb2
  refine ⟨σ2, σ3, by unfold fX5_nots; rw [e1, Option.bind_some], e3, j3, Or.inr j1, ?_⟩
  simp only [List.append_assoc] at j2 ⊢
  exact j2
end PUN
