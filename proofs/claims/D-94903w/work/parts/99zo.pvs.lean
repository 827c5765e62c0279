/-! houses: the rug begins anew; the Model's copies -/
/-- tufts below t are clean -/
def bgP (g0 g : Nat → Nat → Int32) (r t : Nat) : Prop := (∀ x, (x < r + 3 ∨ r + 2023 ≤ x) → g x = g0 x) ∧ (∀ c u p i, (c = 3 ∨ c = 1012) → u < t → p < 6 → i < 9 → TC g r c u p i = 0) ∧ ∀ k u, 2019 ≤ k → k ≤ 2022 → u < t → g (r + k) u = -1
section PVS
variable {h : HS} {σ : MS} {g g0 : Nat → Nat → Int32} {N r a : Nat} {F : Nat → Nat} {f : Nat → Int32}
theorem co_bg26 (hN : 200000 ≤ N) (hR : RugS h r) {t : Nat} (ht : t < 144) : ∃ g', lX3_begin_26 N N (iS h g) r (nI t) 0 = some (iS h g') ∧ (∀ x, (x < r + 1012 + 7 * t ∨ r + 1018 + 7 * t ≤ x) → g' x = g x) ∧ ∀ p i, p < 6 → i < 9 → TC g' r 1012 t p i = 0 := by
  have A2 := hR.2.2.2.2.2
  have key : okk (lX3_begin_26 N N (iS h g) r (nI t) (nI 0)) (fun x => ∃ g', x = iS h g' ∧ (∀ x, (x < r + 1012 + 7 * t ∨ r + 1018 + 7 * t ≤ x) → g' x = g x) ∧ ∀ p i, p < 6 → i < 9 → TC g' r 1012 t p i = 0) := by
    refine okf (fun m (s : HS) i => lX3_begin_26 N m s r (nI t) i) 6 (fun i s => ∃ g', s = iS h g' ∧ (∀ x, (x < r + 1012 + 7 * t ∨ r + 1018 + 7 * t ≤ x) → g' x = g x) ∧ ∀ p j, p < i → j < 9 → TC g' r 1012 t p j = 0) _ ?_ ?_ 0 (iS h g) N (by omega) (by omega) ⟨g, rfl, fun _ _ => rfl, fun _ _ hp _ => by omega⟩
    · rintro i s m hi ⟨g1, rfl, q1, q2⟩
      right
      have aT := a3_T A2 ht hi
      refine ⟨_, ⟨flG g1 (r + 1010 + 2 + 7 * t + i) 9 0, rfl, fun x hx => ?_, fun p j hp hj => ?_⟩, ?_⟩
      · funext k
        show (if x = r + 1010 + 2 + 7 * t + i ∧ k < 9 then (0 : Int32) else g1 x k) = _
        rw [if_neg (by omega), q1 x hx]
      · unfold TC flG
        by_cases c : p = i
        · rw [if_pos ⟨by omega, hj⟩]
        · rw [if_neg (by omega)]; exact q2 p j (by omega) hj
      · rw [lX3_begin_26]
        simp (disch := omega) only [pl_let, pl_lef, pl_ltt, pl_ltf, pl_eqf, pl_let1, pl_lef1, pl_ltt1, pl_ltf1, pl_eqf1, pl_let2, pl_lef2, pl_ltt2, pl_ltf2, pl_em1, if_true, if_false, ite_self, pl_la, pl_al, pl_lm, pl_ml, nI_add, pk_mul, pl_sl, pl_m1, ru_R3 hR, Option.bind_some, a3_1 A2, a3_2 A2]
        rw [co_fill hN aT.1 aT.2 (by decide) (by have := hR.2.1; omega)]; rfl
    · rintro s m ⟨g1, rfl, hq⟩
      refine ⟨_, ?_, g1, rfl, hq⟩
      rw [lX3_begin_26]; rfl
  obtain ⟨x, e1, g1, rfl, q1, q2⟩ := key
  exact ⟨g1, e1, q1, q2⟩
theorem co_begin (hN : 200000 ≤ N) (hR : RugS h r) : ∃ g', fX3_begin N (iS h g) r a = some (r, iS (tR h r 0 (some a)) g') ∧ (∀ x, (x < r ∨ r + 2024 ≤ x) → g' x = g x) ∧ g' r 1 = 0 ∧ (∀ c u p i, (c = 3 ∨ c = 1012) → u < 144 → p < 6 → i < 9 → TC g' r c u p i = 0) ∧ (∀ k u, 2019 ≤ k → k ≤ 2022 → u < 144 → g' (r + k) u = -1) ∧ ∀ p, p < 6 → g' (r + 2023) p = 0 := by
  have hR1 : RugS (tR h r 0 (some a)) r := hR.of rfl (fun _ _ _ => ⟨rfl, rfl⟩) (fun x k _ _ hn => kR_ne hn)
  obtain ⟨h1, eh1⟩ : ∃ x, x = tR h r 0 (some a) := ⟨_, rfl⟩
  rw [← eh1] at hR1 ⊢
  obtain ⟨ga, ega⟩ : ∃ x, x = u2 g r 1 0 := ⟨_, rfl⟩
  have key : okk (lX3_begin_12 N N (iS h1 ga) r (nI 0)) (fun x => ∃ g', x = iS h1 g' ∧ bgP ga g' r 144) := by
    refine okf (fun m (s : HS) i => lX3_begin_12 N m s r i) 144 (fun i s => ∃ g', s = iS h1 g' ∧ bgP ga g' r i) _ ?_ ?_ 0 (iS h1 ga) N (by omega) (by omega) ⟨ga, rfl, fun _ _ => rfl, fun _ _ _ _ _ hu => by omega, fun _ _ _ _ hu => by omega⟩
    · rintro t s m ht ⟨g1, rfl, q1, q2, q3⟩
      right
      obtain ⟨g2, c1, c2, c3, c4⟩ := co_clean (N := N) (g := g1) hN hR1 ht
      obtain ⟨g3, d1, d2, d3⟩ := co_bg26 (N := N) (g := g2) hN hR1 ht
      refine ⟨_, ⟨g3, rfl, fun x hx => ?_, fun c u p i hc hu hp hi => ?_, fun k u k1 k2 hu => ?_⟩, ?_⟩
      · rw [d2 x (by omega), c2 x (by omega) (by omega)]; exact q1 x hx
      · by_cases e : u = t
        · rw [e]
          rcases hc with rfl | rfl
          · unfold TC
            rw [d2 _ (by omega)]; exact c3 p i hp hi
          · exact d3 p i hp hi
        · have q := q2 c u p i hc (by omega) hp hi
          rcases hc with rfl | rfl
          · unfold TC at q ⊢
            rw [d2 _ (by omega), c2 _ (by omega) (by omega)]; exact q
          · unfold TC at q ⊢
            rw [d2 _ (by omega), c2 _ (by omega) (by omega)]; exact q
      · rw [d2 _ (by omega)]
        by_cases e : u = t
        · rw [e]; exact (c4 k k1 k2).1
        · rw [(c4 k k1 k2).2 u e]; exact q3 k u k1 k2 (by omega)
      · rw [lX3_begin_12]
        simp (disch := omega) only [pl_let, pl_lef, pl_ltt, pl_ltf, pl_eqf, pl_let1, pl_lef1, pl_ltt1, pl_ltf1, pl_eqf1, pl_let2, pl_lef2, pl_ltt2, pl_ltf2, pl_em1, if_true, if_false, ite_self, ru_g hR1]
        rw [c1, Option.bind_some, d1, Option.bind_some, nI_1]
    · rintro s m ⟨g1, rfl, hq⟩
      refine ⟨_, ?_, g1, rfl, hq⟩
      rw [lX3_begin_12]; rfl
  obtain ⟨x, e1, g1, rfl, q1, q2, q3⟩ := key
  have e1 : lX3_begin_12 N N (iS h1 ga) r 0 = some (iS h1 g1) := e1
  have T8 := hR1.2.2.2.1 2023 6 rfl
  refine ⟨flG g1 (r + 2023) 6 0, ?_, fun x hx => ?_, ?_, fun c u p i hc hu hp hi => ?_, fun k u k1 k2 hu => ?_, fun p hp => ?_⟩
  · unfold fX3_begin
    rw [pR_n (h := iS h g) (Nat.le_of_eq hR.1.symm) (Nat.le_of_eq hR.1) hR.2.1, Option.bind_some, tR_iS, ← eh1, ru_p hR1, Option.bind_some, ← ega, e1, Option.bind_some, ru_R8 hR1, Option.bind_some, co_fill hN T8.1 T8.2 (by decide) (by have := hR1.2.1; omega), Option.bind_some]
  · funext j
    unfold flG
    rw [if_neg (by omega), q1 x (by omega), ega, u2_nf (by omega)]
  · unfold flG
    rw [if_neg (by omega), q1 r (by omega), ega, u2_eq]
  · have := q2 c u p i hc hu hp hi
    unfold TC flG at *
    rw [if_neg (by rcases hc with rfl | rfl <;> omega)]; exact this
  · unfold flG
    rw [if_neg (by omega)]; exact q3 k u k1 k2 hu
  · unfold flG
    rw [if_pos ⟨rfl, hp⟩]
theorem RugR.nw (h6 : 1 ≤ F 6) (hf : ∀ i, 429 ≤ i → i < 10084 → f i = 0) (h1 : g r 1 = 0) (hT : ∀ c u p i, (c = 3 ∨ c = 1012) → u < 144 → p < 6 → i < 9 → TC g r c u p i = 0) (hK : ∀ k u, 2019 ≤ k → k ≤ 2022 → u < 144 → g (r + k) u = -1) (hW : ∀ p, p < 6 → g (r + 2023) p = 0) : RugR g r F f := by
  have tm : ∀ t p i, t < 144 → p < 6 → i < 9 → TM f t p i = 0 := fun t p i ht hp hi => hf _ (by omega) (by omega)
  refine ⟨⟨0, by decide, by rw [hf 429 (by omega) (by omega)]; rfl, by rw [h1]; rfl⟩, fun p hp => ?_, fun t p i ht hp hi => ?_, fun t p i ht _ hp hi => tm t p i ht hp hi, fun t i ht hi => ?_, fun t ht => Or.inl ⟨hf _ (by omega) (by omega), hK _ t (by decide) (by decide) ht, hK _ t (by decide) (by decide) ht, hK _ t (by decide) (by decide) ht, hK _ t (by decide) (by decide) ht, fun p i hp hi => tm t p i ht hp hi⟩⟩
  · rw [hW p hp, hf _ (by omega) (by omega)]
  · rw [hT 3 t p i (Or.inl rfl) ht hp hi, tm t p i ht hp hi]
  · unfold FM
    rw [hf _ (by omega) (by omega), sm_ext (f' := fun _ => 0) fun p hp => by rw [hT 1012 t p i (Or.inr rfl) ht hp hi, Int32.zero_mul]]
    decide
theorem mo_h34 (hN : 200000 ≤ N) : lX5_house_34 N N σ 0 = some (aS σ 7 (cpA (gA σ 7) 0 429 fun _ => 0)) := by
  have e := lp_fold (fun n (s : MS) i => lX5_house_34 N n s i) (fun i => aS σ 7 (cpA (gA σ 7) 0 i fun _ => 0)) 429 (aS σ 7 (cpA (gA σ 7) 0 429 fun _ => 0)) (fun n i hi => by
    rw [lX5_house_34]
    simp (disch := omega) only [pl_let, pl_lef, pl_ltt, pl_ltf, pl_eqf, pl_let1, pl_lef1, pl_ltt1, pl_ltf1, pl_eqf1, pl_let2, pl_lef2, pl_ltt2, pl_ltf2, pl_em1, if_true, if_false, ite_self, wA7, Option.bind_some]
    rw [nI_1]
    have := cpA_s σ 7 (gA σ 7) 0 i fun _ => 0
    rw [Nat.zero_add] at this
    rw [this]) (fun n => by
    rw [lX5_house_34]
    simp (disch := omega) only [pl_let, pl_lef, pl_ltt, pl_ltf, pl_eqf, pl_let1, pl_lef1, pl_ltt1, pl_ltf1, pl_eqf1, pl_let2, pl_lef2, pl_ltt2, pl_ltf2, pl_em1, if_true, if_false, ite_self]) 429 0 N rfl (by omega)
  rw [cpA_0, aS_id] at e
  exact e
theorem mo_h112 (hN : 200000 ≤ N) : lX5_house_112 N N σ 0 = some (aS σ 6 (cpA (gA σ 6) 0 10265 fun j => if j < 429 then gA σ 7 j else 0)) := by
  have e := lp_fold (fun n (s : MS) i => lX5_house_112 N n s i) (fun i => aS σ 6 (cpA (gA σ 6) 0 i fun j => if j < 429 then gA σ 7 j else 0)) 10265 (aS σ 6 (cpA (gA σ 6) 0 10265 fun j => if j < 429 then gA σ 7 j else 0)) (fun n i hi => by
    have c := cpA_s σ 6 (gA σ 6) 0 i fun j => if j < 429 then gA σ 7 j else 0
    rw [Nat.zero_add] at c
    rw [lX5_house_112, if_neg (show ¬ (10265 : Int32) ≤ nI i from nI_ge (b := 10265) hi (by decide))]
    by_cases d : i < 429
    · rw [if_neg (show ¬ (429 : Int32) ≤ nI i from nI_ge (b := 429) d (by decide)), rA7 d, Option.bind_some, Option.bind_some, wA6 hi, Option.bind_some, gA_o (by decide), nI_1]
      rw [if_pos d] at c
      rw [c]
    · rw [if_pos (show (429 : Int32) ≤ nI i from nI_le (a := 429) (by omega) (by omega)), Option.bind_some, wA6 hi, Option.bind_some, nI_1]
      rw [if_neg d] at c
      rw [c]) (fun n => by
    rw [lX5_house_112, if_pos (show (10265 : Int32) ≤ nI 10265 from nI_le (Nat.le_refl _) (by decide))]) 10265 0 N rfl (by omega)
  rw [cpA_0, aS_id] at e
  exact e
theorem mo_h150 (hN : 200000 ≤ N) : lX5_house_150 N N σ 0 = some (jS σ 9 (cpJ (gJ σ 9) 0 12 fun j => gJ σ 9 (12 + j))) := by
  have e := lp_fold (fun n (s : MS) i => lX5_house_150 N n s i) (fun i => jS σ 9 (cpJ (gJ σ 9) 0 i fun j => gJ σ 9 (12 + j))) 12 (jS σ 9 (cpJ (gJ σ 9) 0 12 fun j => gJ σ 9 (12 + j))) (fun n i hi => by
    have c := cpJ_s σ 9 (gJ σ 9) 0 i fun j => gJ σ 9 (12 + j)
    rw [Nat.zero_add] at c
    rw [lX5_house_150]
    simp (disch := omega) only [pl_let, pl_lef, pl_ltt, pl_ltf, pl_eqf, pl_let1, pl_lef1, pl_ltt1, pl_ltf1, pl_eqf1, pl_let2, pl_lef2, pl_ltt2, pl_ltf2, pl_em1, if_true, if_false, ite_self, pl_la, pl_al, pl_lm, pl_ml, nI_add, pk_mul, pl_sl, pl_m1, rJ9, wJ9, Option.bind_some]
    rw [gJ_e, cpJ_out (by omega), c]) (fun n => by
    rw [lX5_house_150]
    simp (disch := omega) only [pl_let, pl_lef, pl_ltt, pl_ltf, pl_eqf, pl_let1, pl_lef1, pl_ltt1, pl_ltf1, pl_eqf1, pl_let2, pl_lef2, pl_ltt2, pl_ltf2, pl_em1, if_true, if_false, ite_self]) 12 0 N rfl (by omega)
  rw [cpJ_0, jS_id] at e
  exact e
end PVS
