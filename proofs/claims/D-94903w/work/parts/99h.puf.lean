/-! sentences: the token at the start of one() -/
section PUF
variable {h0 h h' : HS} {σ σ' : MS} {N b rd sz lim P Zm Wm : Nat} {sp : Bool}
theorem tk_br (T : TKR h b rd σ) {c : Nat} (hc : c = 40 ∨ c = 41) : (kI h rd 4 = 6 ∧ kI h rd 7 = nI c ∧ fX5_isSign σ (nI c) = 1 ∧ gI σ 11 = 3) ∨ (¬ (kI h rd 4 = 6 ∧ kI h rd 7 = nI c) ∧ fX5_isSign σ (nI c) = 0) := by
  unfold fX5_isSign
  rcases T with ⟨a, b⟩ | ⟨a, b⟩ | ⟨a, b, -⟩ | ⟨a, b, -⟩ | ⟨a, b, d⟩ | ⟨a, b, d, d1, d2, d3⟩
  · exact Or.inr ⟨by rw [a]; exact fun z => absurd z.1 (by decide), by rw [b, if_neg (by decide)]⟩
  · exact Or.inr ⟨by rcases a with a | a <;> rw [a] <;> exact fun z => absurd z.1 (by decide), by rw [b, if_neg (by decide)]⟩
  · exact Or.inr ⟨by rw [a]; exact fun z => absurd z.1 (by decide), by rw [b, if_neg (by decide)]⟩
  · exact Or.inr ⟨by rw [a]; exact fun z => absurd z.1 (by decide), by rw [b, if_neg (by decide)]⟩
  · exact Or.inr ⟨by rw [a]; exact fun z => absurd z.1 (by decide), by rw [b, if_pos rfl, d, if_neg (by rcases hc with rfl | rfl <;> decide)]⟩
  · by_cases e : d = c
    · rw [e] at d2 d3
      exact Or.inl ⟨a, d2, by rw [b, if_pos rfl, d3, if_pos rfl], b⟩
    · have ne : nI d ≠ nI c := fun z => e ((nI_eq (by omega) (by omega)).mp z)
      exact Or.inr ⟨fun z => ne (d2.symm.trans z.2), by rw [b, if_pos rfl, d3, if_neg ne]⟩
/-- which of the words it is -/
theorem lf_both (hN : 200000 ≤ N) (R : PRS h0 b rd sz lim Zm Wm sp P h σ) (T7 : kT h rd = 7) : ∃ r6 r7 r8, fX6_is N h rd (kG h 20) = some r6 ∧ fX6_is N h rd (kG h 21) = some r7 ∧ fX13_numbered N h rd = some r8 ∧ fX5_isWord σ 7237492 = r6 ∧ (r6 = 0 ∨ r6 = 1) ∧ ((r7 = 1 ∧ fX5_leafOf σ = 0) ∨ (r7 = 0 ∧ ((r8 = -1 ∧ fX5_leafOf σ = -1) ∨ ∃ x, x < 6 ∧ r8 = nI x ∧ fX5_leafOf σ = nI (x + 1)))) ∧ (¬ (r6 = 0 ∧ r7 = 0 ∧ r8 = -1) → kI h rd 4 = 2 ∧ gI σ 11 = 1) := by
  have RB0 := R.rb
  have gt : ∀ {α : Type} (x : Option α), gT h rd 7 7 x = x := fun x => gT_n (by omega) (by omega)
  obtain ⟨v0, a0, b0, c0⟩ := is_both (N := N) (w := 7237492) hN R (k := 20) (by decide) (by decide) (by unfold okW; decide) (by decide)
  obtain ⟨v1, a1, b1, c1⟩ := is_both (N := N) (w := 1953656676) hN R (k := 21) (by decide) (by decide) (by unfold okW; decide) (by decide)
  obtain ⟨v2, a2, b2, c2⟩ := is_both (N := N) (w := 131277443786868) hN R (k := 22) (by decide) (by decide) (by unfold okW; decide) (by decide)
  obtain ⟨v3, a3, b3, c3⟩ := is_both (N := N) (w := 1936682085) hN R (k := 23) (by decide) (by decide) (by unfold okW; decide) (by decide)
  obtain ⟨v4, a4, b4, c4⟩ := is_both (N := N) (w := 1885430629) hN R (k := 24) (by decide) (by decide) (by unfold okW; decide) (by decide)
  obtain ⟨v5, a5, b5, c5⟩ := is_both (N := N) (w := 123636697429107) hN R (k := 25) (by decide) (by decide) (by unfold okW; decide) (by decide)
  obtain ⟨v6, a6, b6, c6⟩ := is_both (N := N) (w := 500185855091) hN R (k := 26) (by decide) (by decide) (by unfold okW; decide) (by decide)
  obtain ⟨v7, a7, b7, c7⟩ := is_both (N := N) (w := 482854658917) hN R (k := 27) (by decide) (by decide) (by unfold okW; decide) (by decide)
  have k2 : kI h rd 4 = 2 → kI h rd 4 = 2 ∧ gI σ 11 = 1 := fun z => by
    rcases tk_word R.tk with ⟨t1, t2, -⟩ | ⟨t1, -⟩
    · exact ⟨t1, t2⟩
    · exact absurd z t1
  have nb : ∃ r8, fX13_numbered N h rd = some r8 ∧ ((r8 = -1 ∧ (if v2 = 0 then (if v3 = 0 then (if v4 = 0 then (if v5 = 0 then (if v6 = 0 then (if v7 = 0 then (-1) else 6) else 5) else 4) else 3) else 2) else (1 : Int32)) = -1) ∨ ((∃ x, x < 6 ∧ r8 = nI x ∧ (if v2 = 0 then (if v3 = 0 then (if v4 = 0 then (if v5 = 0 then (if v6 = 0 then (if v7 = 0 then (-1) else 6) else 5) else 4) else 3) else 2) else (1 : Int32)) = nI (x + 1)) ∧ kI h rd 4 = 2)) := by
    unfold fX13_numbered
    simp only [gt, a2, a3, a4, a5, a6, a7, Option.bind_some]
    rcases c2 with q2 | ⟨q2, t⟩
    · rw [q2, if_pos rfl, if_pos rfl]
      rcases c3 with q3 | ⟨q3, t⟩
      · rw [q3, if_pos rfl, if_pos rfl]
        rcases c4 with q4 | ⟨q4, t⟩
        · rw [q4, if_pos rfl, if_pos rfl]
          rcases c5 with q5 | ⟨q5, t⟩
          · rw [q5, if_pos rfl, if_pos rfl]
            rcases c6 with q6 | ⟨q6, t⟩
            · rw [q6, if_pos rfl, if_pos rfl]
              rcases c7 with q7 | ⟨q7, t⟩
              · rw [q7, if_pos rfl, if_pos rfl]; exact ⟨_, rfl, Or.inl ⟨rfl, rfl⟩⟩
              · rw [q7, if_neg (by decide), if_neg (by decide)]; exact ⟨_, rfl, Or.inr ⟨⟨5, by decide, rfl, rfl⟩, t⟩⟩
            · rw [q6, if_neg (by decide), if_neg (by decide)]; exact ⟨_, rfl, Or.inr ⟨⟨4, by decide, rfl, rfl⟩, t⟩⟩
          · rw [q5, if_neg (by decide), if_neg (by decide)]; exact ⟨_, rfl, Or.inr ⟨⟨3, by decide, rfl, rfl⟩, t⟩⟩
        · rw [q4, if_neg (by decide), if_neg (by decide)]; exact ⟨_, rfl, Or.inr ⟨⟨2, by decide, rfl, rfl⟩, t⟩⟩
      · rw [q3, if_neg (by decide), if_neg (by decide)]; exact ⟨_, rfl, Or.inr ⟨⟨1, by decide, rfl, rfl⟩, t⟩⟩
    · rw [q2, if_neg (by decide), if_neg (by decide)]; exact ⟨_, rfl, Or.inr ⟨⟨0, by decide, rfl, rfl⟩, t⟩⟩
  obtain ⟨r8, e8, n8⟩ := nb
  refine ⟨v0, v1, r8, a0, a1, e8, b0, c0.imp id And.left, ?_, fun z => ?_⟩
  · unfold fX5_leafOf
    rw [b1, b2, b3, b4, b5, b6, b7]
    rcases c1 with q1 | ⟨q1, t⟩
    · rw [q1, if_pos rfl]
      exact Or.inr ⟨rfl, n8.imp id And.left⟩
    · rw [q1, if_neg (by decide)]
      exact Or.inl ⟨rfl, rfl⟩
  · rcases c0 with q0 | ⟨-, t⟩
    · rcases c1 with q1 | ⟨-, t⟩
      · rcases n8 with n8 | n8
        · exact absurd ⟨q0, q1, n8.1⟩ z
        · exact k2 n8.2
      · exact k2 t
    · exact k2 t
end PUF
