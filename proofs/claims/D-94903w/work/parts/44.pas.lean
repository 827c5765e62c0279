/-! a rug is copied -/
def cpG (g : Nat → Nat → Int32) (src dst n : Nat) : Nat → Nat → Int32 := fun x => if x = dst then va_cpy (g src) (g dst) 0 0 n else g x
theorem cpG_in {g : Nat → Nat → Int32} {src dst n j : Nat} (hj : j < n) : cpG g src dst n dst j = g src j := by
  unfold cpG
  rw [if_pos rfl, pk_cpy_in (by omega) (by omega)]; congr 1; omega
theorem cpG_ne {g : Nat → Nat → Int32} {src dst n x : Nat} (hx : x ≠ dst) : cpG g src dst n x = g x := by
  unfold cpG; rw [if_neg hx]
theorem co_copy {h : HS} {g : Nat → Nat → Int32} {src dst n N : Nat} (h1 : kT h src = 31) (h2 : kT h dst = 31) (h3 : kN h dst = n) (h4 : n ≤ kN h src) (h5 : n < 2147483648) (h6 : kG h 0 ≤ dst) : fX3_copy N (iS h g) src dst = some (iS h (cpG g src dst n)) := by
  unfold fX3_copy xC
  rw [aL_n (h := iS h g) (Nat.le_of_eq h2.symm) (Nat.le_of_eq h2), kN_iS, h3]
  simp only [Option.bind_some]
  rw [if_pos]
  · rw [nI_clamp h5]; rfl
  · unfold xOk
    rw [nI_clamp h5]
    simp only [kT_iS, kN_iS, kG_iS, h1, h2, h3]
    rw [decide_eq_true]
    · rfl
    · refine ⟨trivial, trivial, by decide, by decide, nI_pos h5, ?_, ?_, h6⟩
      · show (0 : Int32).toNatClampNeg + n ≤ _
        rw [show (0 : Int32).toNatClampNeg = 0 from rfl]; omega
      · show (0 : Int32).toNatClampNeg + n ≤ _
        rw [show (0 : Int32).toNatClampNeg = 0 from rfl]; omega
/-- the rug at r in g' is as the one at s in g -/
def cpR (g' : Nat → Nat → Int32) (r : Nat) (g : Nat → Nat → Int32) (s : Nat) : Prop := g' r 1 = g s 1 ∧ (∀ c t p i, (c = 3 ∨ c = 1012) → t < 144 → p < 6 → i < 9 → TC g' r c t p i = TC g s c t p i) ∧ (∀ k t, 2019 ≤ k → k ≤ 2022 → t < 144 → g' (r + k) t = g (s + k) t) ∧ ∀ p, p < 6 → g' (r + 2023) p = g (s + 2023) p
theorem RugR.cp {g g' : Nat → Nat → Int32} {r s : Nat} {F : Nat → Nat} {f f' : Nat → Int32} (hC : cpR g' r g s) (hR : RugR g s F f) (hf : ∀ i, 429 ≤ i → i < 10084 → f' i = f i) : RugR g' r F f' := by
  obtain ⟨⟨d, h1, h2, h3⟩, h4, h5, h6, h7, h8⟩ := hR
  obtain ⟨p1, p2, p3, p4⟩ := hC
  have eT : ∀ t p i, t < 144 → p < 6 → i < 9 → TM f' t p i = TM f t p i := fun t p i ht hp hi => hf _ (by omega) (by omega)
  refine ⟨⟨d, h1, by rw [hf 429 (by omega) (by omega)]; exact h2, by rw [p1]; exact h3⟩, fun p hp => ?_, fun t p i ht hp hi => ?_, fun t p i ht hp hp2 hi => ?_, fun t i ht hi => ?_, fun t ht => ?_⟩
  · rw [p4 p hp, hf _ (by omega) (by omega)]; exact h4 p hp
  · rw [p2 3 t p i (Or.inl rfl) ht hp hi, eT t p i ht hp hi]; exact h5 t p i ht hp hi
  · rw [eT t p i ht hp2 hi]; exact h6 t p i ht hp hp2 hi
  · unfold FM
    rw [hf _ (by omega) (by omega)]
    exact (h7 t i ht hi).trans (sm_ext fun p hp => by rw [p2 1012 t p i (Or.inr rfl) ht hp hi])
  · have e1 := p3 2019 t (by omega) (by omega) ht
    have e2 := p3 2020 t (by omega) (by omega) ht
    have e3 := p3 2021 t (by omega) (by omega) ht
    have e4 := p3 2022 t (by omega) (by omega) ht
    rcases h8 t ht with ⟨c1, c2, c3, c4, c5, c6⟩ | ⟨w, o, d, s, e, ⟨k1, k2, k3, k4, k5⟩, c1, c2, c3, c4, c5, c6, c7, c8, c9, c10⟩
    · refine Or.inl ⟨by rw [hf _ (by omega) (by omega)]; exact c1, by rw [e1]; exact c2, by rw [e2]; exact c3, by rw [e3]; exact c4, by rw [e4]; exact c5, fun p i hp hi => by rw [eT t p i ht hp hi]; exact c6 p i hp hi⟩
    · exact Or.inr ⟨w, o, d, s, e, ⟨k1, k2, k3, k4, k5⟩, by rw [hf _ (by omega) (by omega)]; exact c1, by rw [hf _ (by omega) (by omega)]; exact c2, by rw [hf _ (by omega) (by omega)]; exact c3, by rw [hf _ (by omega) (by omega)]; exact c4, by rw [hf _ (by omega) (by omega)]; exact c5, by rw [e1]; exact c6, by rw [e2]; exact c7, by rw [e3]; exact c8, by rw [e4]; exact c9, fun p i hp hi9 hi => by rw [eT t p i ht hp hi9]; exact c10 p i hp hi9 hi⟩
theorem tR_iS (h : HS) (g : Nat → Nat → Int32) (a k : Nat) (v : Option Nat) : tR (iS h g) a k v = iS (tR h a k v) g := rfl
theorem kR_ne {h : HS} {a k x j : Nat} {v : Option Nat} (e : ¬ (x = a ∧ j = k)) : kR (tR h a k v) x j = kR h x j := by rw [kR_tR, if_neg e]
section PAS
variable {h : HS} {g g0 : Nat → Nat → Int32} {r s N : Nat}
/-- rows below t, and of t those below p, are copied -/
def asP (g0 g : Nat → Nat → Int32) (r s t p : Nat) : Prop := (∀ x, (x < r + 3 ∨ r + 2019 ≤ x) → g x = g0 x) ∧ ∀ c u q i, (c = 3 ∨ c = 1012) → u < 144 → q < 6 → i < 9 → (u < t ∨ (u = t ∧ q < p)) → TC g r c u q i = TC g0 s c u q i
theorem co_as27 (hN : 200000 ≤ N) (hr : RugS h r) (hs : RugS h s) (hd : r + 2024 ≤ s ∨ s + 2024 ≤ r) {t : Nat} (ht : t < 144) (hp : asP g0 g r s t 0) : ∃ g', lX3_as_27 N N (iS h g) r s (nI t) 0 = some (iS h g') ∧ asP g0 g' r s (t + 1) 0 := by
  have A1 := hr.2.2.2.2.1
  have A2 := hr.2.2.2.2.2
  have B1 := hs.2.2.2.2.1
  have B2 := hs.2.2.2.2.2
  have hg := hr.2.1
  have key : okk (lX3_as_27 N N (iS h g) r s (nI t) (nI 0)) (fun x => ∃ g', x = iS h g' ∧ asP g0 g' r s t 6) := by
    refine okf (fun m (σ : HS) i => lX3_as_27 N m σ r s (nI t) i) 6 (fun i σ => ∃ g', σ = iS h g' ∧ asP g0 g' r s t i) _ ?_ ?_ 0 (iS h g) N (by omega) (by omega) ⟨g, rfl, hp⟩
    · rintro i σ m hi ⟨g1, rfl, q1, q2⟩
      right
      have a1 := a3_T A1 ht hi
      have a2 := a3_T A2 ht hi
      have b1 := a3_T B1 ht hi
      have b2 := a3_T B2 ht hi
      refine ⟨_, ⟨cpG (cpG g1 (s + 1 + 2 + 7 * t + i) (r + 1 + 2 + 7 * t + i) 9) (s + 1010 + 2 + 7 * t + i) (r + 1010 + 2 + 7 * t + i) 9, rfl, fun x hx => ?_, fun c u q j hc hu hq hj hl => ?_⟩, ?_⟩
      · rw [cpG_ne (by omega), cpG_ne (by omega)]; exact q1 x hx
      · unfold TC
        by_cases e : u = t ∧ q = i
        · obtain ⟨rfl, rfl⟩ := e
          rcases hc with rfl | rfl
          · rw [cpG_ne (by omega), show r + 3 + 7 * u + q = r + 1 + 2 + 7 * u + q by omega, cpG_in hj, show s + 1 + 2 + 7 * u + q = s + 3 + 7 * u + q by omega, q1 _ (by omega)]
          · rw [show r + 1012 + 7 * u + q = r + 1010 + 2 + 7 * u + q by omega, cpG_in hj, cpG_ne (by omega), show s + 1010 + 2 + 7 * u + q = s + 1012 + 7 * u + q by omega, q1 _ (by omega)]
        · rw [cpG_ne (by omega), cpG_ne (by omega)]
          exact q2 c u q j hc hu hq hj (by omega)
      · rw [lX3_as_27]
        simp (disch := omega) only [pl_let, pl_lef, pl_ltt, pl_ltf, pl_eqf, pl_let1, pl_lef1, pl_ltt1, pl_ltf1, pl_eqf1, pl_let2, pl_lef2, pl_ltt2, pl_ltf2, pl_em1, if_true, if_false, ite_self, pl_la, pl_al, pl_lm, pl_ml, nI_add, pk_mul, pl_sl, pl_m1, ru_R2 hr, ru_R3 hr, ru_R2 hs, ru_R3 hs, Option.bind_some, a3_1 A1, a3_1 A2, a3_1 B1, a3_1 B2, a3_2 A1, a3_2 A2, a3_2 B1, a3_2 B2]
        rw [co_copy b1.1 a1.1 a1.2 (by omega) (by decide) (by omega)]
        simp (disch := omega) only [ru_R2 hr, ru_R3 hr, ru_R2 hs, ru_R3 hs, Option.bind_some, a3_1 A1, a3_1 A2, a3_1 B1, a3_1 B2, a3_2 A1, a3_2 A2, a3_2 B1, a3_2 B2]
        rw [co_copy b2.1 a2.1 a2.2 (by omega) (by decide) (by omega)]
        rfl
    · rintro σ m ⟨g1, rfl, hq⟩
      refine ⟨_, ?_, g1, rfl, hq⟩
      rw [lX3_as_27]; rfl
  obtain ⟨x, e1, g', rfl, q1, q2⟩ := key
  exact ⟨g', e1, q1, fun c u q i hc hu hq hi hl => q2 c u q i hc hu hq hi (by omega)⟩
theorem co_as18 (hN : 200000 ≤ N) (hr : RugS h r) (hs : RugS h s) (hd : r + 2024 ≤ s ∨ s + 2024 ≤ r) : ∃ g', lX3_as_18 N N (iS h g) r s 0 = some (iS h g') ∧ asP g g' r s 144 0 := by
  have key : okk (lX3_as_18 N N (iS h g) r s (nI 0)) (fun x => ∃ g', x = iS h g' ∧ asP g g' r s 144 0) := by
    refine okf (fun m (σ : HS) i => lX3_as_18 N m σ r s i) 144 (fun i σ => ∃ g', σ = iS h g' ∧ asP g g' r s i 0) _ ?_ ?_ 0 (iS h g) N (by omega) (by omega) ⟨g, rfl, fun _ _ => rfl, fun _ _ _ _ _ _ _ _ hl => by omega⟩
    · rintro i σ m hi ⟨g1, rfl, hq⟩
      right
      obtain ⟨g', e1, e2⟩ := co_as27 hN hr hs hd hi hq
      refine ⟨_, ⟨g', rfl, e2⟩, ?_⟩
      rw [lX3_as_18, e1]
      simp (disch := omega) only [pl_let, pl_lef, pl_ltt, pl_ltf, pl_eqf, pl_let1, pl_lef1, pl_ltt1, pl_ltf1, pl_eqf1, pl_let2, pl_lef2, pl_ltt2, pl_ltf2, pl_em1, if_true, if_false, ite_self, pl_la, pl_al, pl_lm, pl_ml, nI_add, pk_mul, pl_sl, pl_m1, Option.bind_some]
    · rintro σ m ⟨g1, rfl, hq⟩
      refine ⟨_, ?_, g1, rfl, hq⟩
      rw [lX3_as_18]; rfl
  obtain ⟨x, e1, g', rfl, hq⟩ := key
  exact ⟨g', e1, hq⟩
theorem co_as (hN : 200000 ≤ N) (hr : RugS h r) (hs : RugS h s) (hd : r + 2024 ≤ s ∨ s + 2024 ≤ r) : ∃ g', fX3_as N (iS h g) r s = some (r, iS (tR h r 0 (kR h s 0)) g') ∧ cpR g' r g s ∧ ∀ x, (x < r ∨ r + 2024 ≤ x) → g' x = g x := by
  have hg := hr.2.1
  have hr' : RugS (tR h r 0 (kR h s 0)) r := hr.of rfl (fun _ _ _ => ⟨rfl, rfl⟩) fun x k _ _ hn => kR_ne hn
  have hs' : RugS (tR h r 0 (kR h s 0)) s := hs.of rfl (fun _ _ _ => ⟨rfl, rfl⟩) fun x k _ _ hn => kR_ne (by omega)
  obtain ⟨g1, e1, q1, q2⟩ := co_as18 (g := u2 g r 1 (g s 1)) hN hr' hs' hd
  have T := fun a n e => hr'.2.2.2.1 a n e
  have S := fun a n e => hs'.2.2.2.1 a n e
  refine ⟨cpG (cpG (cpG (cpG (cpG g1 (s + 2019) (r + 2019) 144) (s + 2020) (r + 2020) 144) (s + 2021) (r + 2021) 144) (s + 2022) (r + 2022) 144) (s + 2023) (r + 2023) 6, ?_, ⟨?_, fun c t p i hc ht hp hi => ?_, fun k t k1 k2 ht => ?_, fun p hp => ?_⟩, fun x hx => ?_⟩
  · unfold fX3_as
    rw [oR_n (h := iS h g) (Nat.le_of_eq hs.1.symm) (Nat.le_of_eq hs.1), kR_iS]
    simp only [Option.bind_some]
    rw [pR_n (h := iS h g) (Nat.le_of_eq hr.1.symm) (Nat.le_of_eq hr.1) hr.2.1, tR_iS]
    simp only [Option.bind_some, ru_i hs', ru_p hr', e1, ru_R4 hr', ru_R4 hs']
    rw [co_copy (S 2019 _ rfl).1 (T 2019 _ rfl).1 (T 2019 _ rfl).2 (by rw [(S 2019 _ rfl).2]; decide) (by decide) (by show kG h 0 ≤ _; omega)]
    simp only [Option.bind_some, ru_R5 hr', ru_R5 hs']
    rw [co_copy (S 2020 _ rfl).1 (T 2020 _ rfl).1 (T 2020 _ rfl).2 (by rw [(S 2020 _ rfl).2]; decide) (by decide) (by show kG h 0 ≤ _; omega)]
    simp only [Option.bind_some, ru_R6 hr', ru_R6 hs']
    rw [co_copy (S 2021 _ rfl).1 (T 2021 _ rfl).1 (T 2021 _ rfl).2 (by rw [(S 2021 _ rfl).2]; decide) (by decide) (by show kG h 0 ≤ _; omega)]
    simp only [Option.bind_some, ru_R7 hr', ru_R7 hs']
    rw [co_copy (S 2022 _ rfl).1 (T 2022 _ rfl).1 (T 2022 _ rfl).2 (by rw [(S 2022 _ rfl).2]; decide) (by decide) (by show kG h 0 ≤ _; omega)]
    simp only [Option.bind_some, ru_R8 hr', ru_R8 hs']
    rw [co_copy (S 2023 _ rfl).1 (T 2023 _ rfl).1 (T 2023 _ rfl).2 (by rw [(S 2023 _ rfl).2]; decide) (by decide) (by show kG h 0 ≤ _; omega)]
    rfl
  · rw [cpG_ne (by omega), cpG_ne (by omega), cpG_ne (by omega), cpG_ne (by omega), cpG_ne (by omega), q1 r (by omega), u2_eq]
  · unfold TC
    rw [cpG_ne (by omega), cpG_ne (by omega), cpG_ne (by omega), cpG_ne (by omega), cpG_ne (by omega)]
    refine (q2 c t p i hc ht hp hi (by omega)).trans ?_
    unfold TC
    rw [u2_nf (by omega)]
  · have hk : k = 2019 ∨ k = 2020 ∨ k = 2021 ∨ k = 2022 := by omega
    have e9 : ∀ x, s + 2019 ≤ x → x ≤ s + 2023 → g1 x = g x := fun x x1 x2 => by rw [q1 x (by omega), u2_nf (by omega)]
    rcases hk with rfl | rfl | rfl | rfl
    · rw [cpG_ne (by omega), cpG_ne (by omega), cpG_ne (by omega), cpG_ne (by omega), cpG_in ht, e9 _ (by omega) (by omega)]
    · rw [cpG_ne (by omega), cpG_ne (by omega), cpG_ne (by omega), cpG_in ht, cpG_ne (by omega), e9 _ (by omega) (by omega)]
    · rw [cpG_ne (by omega), cpG_ne (by omega), cpG_in ht, cpG_ne (by omega), cpG_ne (by omega), e9 _ (by omega) (by omega)]
    · rw [cpG_ne (by omega), cpG_in ht, cpG_ne (by omega), cpG_ne (by omega), cpG_ne (by omega), e9 _ (by omega) (by omega)]
  · rw [cpG_in hp, cpG_ne (by omega), cpG_ne (by omega), cpG_ne (by omega), cpG_ne (by omega), q1 _ (by omega), u2_nf (by omega)]
  · rw [cpG_ne (by omega), cpG_ne (by omega), cpG_ne (by omega), cpG_ne (by omega), cpG_ne (by omega), q1 x (by omega), u2_nf (by omega)]
end PAS
