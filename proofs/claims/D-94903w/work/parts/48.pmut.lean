/-! a tuft is cleaned, trodden: both sides -/
section PMU
variable {h : HS} {g : Nat → Nat → Int32} {σ : MS} {N r : Nat} {F : Nat → Nat}
theorem mo_clears (hN : 200000 ≤ N) {D n : Nat} (hD : D + n ≤ 10265) : fX5_clears N σ (nI D) (nI n) = some (aS σ 6 (cpA (gA σ 6) D n fun _ => 0)) := by
  unfold fX5_clears
  have e := lp_fold (fun m (s : MS) i => lX5_clears_2 N m s (nI D) (nI n) i) (fun i => aS σ 6 (cpA (gA σ 6) D i fun _ => 0)) n (aS σ 6 (cpA (gA σ 6) D n fun _ => 0)) (fun m i hi => by
    rw [lX5_clears_2]
    simp (disch := omega) only [pl_let, pl_lef, pl_ltt, pl_ltf, pl_eqf, pl_let1, pl_lef1, pl_ltt1, pl_ltf1, pl_eqf1, pl_let2, pl_lef2, pl_ltt2, pl_ltf2, pl_em1, if_true, if_false, ite_self, pl_la, pl_al, pl_lm, pl_ml, nI_add, pk_mul, pl_sl, pl_m1, wA6, Option.bind_some]
    rw [← cpA_s]) (fun m => by
    rw [lX5_clears_2]
    simp (disch := omega) only [pl_let, pl_lef, pl_ltt, pl_ltf, pl_eqf, pl_let1, pl_lef1, pl_ltt1, pl_ltf1, pl_eqf1, pl_let2, pl_lef2, pl_ltt2, pl_ltf2, pl_em1, if_true, if_false, ite_self]) n 0 N (by omega) (by omega)
  rw [cpA_0, aS_id] at e
  rw [show lX5_clears_2 N N σ (nI D) (nI n) 0 = some _ from e]; rfl
/-- the Model's numbers when a tuft is beaten -/
def clF (f : Nat → Int32) (t : Nat) : Nat → Int32 := cpA (cpA f (436 + 4 * t) 4 fun _ => 0) (2308 + 54 * t) 54 fun _ => 0
theorem mo_beats (hN : 200000 ≤ N) {t : Nat} (ht : t < 144) : fX5_beats N σ (nI t) = some (if gA σ 6 (436 + 4 * t) ≤ 0 then 0 else 1, aS σ 6 (clF (gA σ 6) t)) := by
  unfold fX5_beats
  have e1 := mo_clears (σ := σ) hN (D := 436 + 4 * t) (n := 4) (by omega)
  have e2 := mo_clears (σ := aS σ 6 (cpA (gA σ 6) (436 + 4 * t) 4 fun _ => 0)) hN (D := 2308 + 54 * t) (n := 54) (by omega)
  rw [gA_same, aS_aS] at e2
  have e3 : rA σ 6 (436 + 4 * nI t) = some (gA σ 6 (436 + 4 * t)) := by rw [pl_lm, pl_la]; exact rA6 (by show 436 + 4 * t < 10265; omega)
  have e4 : (436 : Int32) + 4 * nI t = nI (436 + 4 * t) := by rw [pl_lm, pl_la]
  have e5 : (2308 : Int32) + 54 * nI t = nI (2308 + 54 * t) := by rw [pl_lm, pl_la]
  rw [e3]
  simp only [Option.bind_some]
  rw [e4, e5, show (4 : Int32) = nI 4 from rfl, show (54 : Int32) = nI 54 from rfl, e1]
  simp only [Option.bind_some]
  rw [e2]
  by_cases c : gA σ 6 (436 + 4 * t) ≤ 0
  · rw [if_pos c, if_pos c]; rfl
  · rw [if_neg c, if_neg c]; rfl
def flG (g : Nat → Nat → Int32) (a i : Nat) (v : Int32) : Nat → Nat → Int32 := fun x j => if x = a ∧ j < i then v else g x j
theorem co_fill (hN : 200000 ≤ N) {a n : Nat} {v : Int32} (h1 : kT h a = 31) (h2 : kN h a = n) (h3 : n < 1000) (h4 : kG h 0 ≤ a) : fJ3_fill N (iS h g) a v = some (iS h (flG g a n v)) := by
  unfold fJ3_fill
  rw [aL_n (h := iS h g) (Nat.le_of_eq h1.symm) (Nat.le_of_eq h1), kN_iS, h2]
  simp only [Option.bind_some]
  have e := lp_fold (fun m (s : HS) i => lJ3_fill_5 N m s a v i (nI n)) (fun i => iS h (flG g a i v)) n (iS h (flG g a n v)) (fun m i hi => by
    rw [lJ3_fill_5]
    simp (disch := omega) only [pl_let, pl_lef, pl_ltt, pl_ltf, pl_eqf, pl_let1, pl_lef1, pl_ltt1, pl_ltf1, pl_eqf1, pl_let2, pl_lef2, pl_ltt2, pl_ltf2, pl_em1, if_true, if_false, ite_self]
    rw [wI_n (h := iS h (flG g a i v)) h1 (by rw [kN_iS, h2]; exact hi) (by rw [kN_iS, h2]; omega) h4, tI_iS, nI_1]
    simp only [Option.bind_some]
    congr 2
    funext x j
    unfold flG
    by_cases c1 : x = a
    · subst c1
      by_cases c2 : j = i
      · subst c2; rw [u2_eq, if_pos ⟨rfl, by omega⟩]
      · rw [u2_ne (Or.inr c2)]
        by_cases c3 : j < i
        · rw [if_pos ⟨rfl, c3⟩, if_pos ⟨rfl, by omega⟩]
        · rw [if_neg (fun q => c3 q.2), if_neg (by omega)]
    · rw [u2_nf c1, if_neg (fun q => c1 q.1), if_neg (fun q => c1 q.1)]) (fun m => by
    rw [lJ3_fill_5]
    simp (disch := omega) only [pl_let, pl_lef, pl_ltt, pl_ltf, pl_eqf, pl_let1, pl_lef1, pl_ltt1, pl_ltf1, pl_eqf1, pl_let2, pl_lef2, pl_ltt2, pl_ltf2, pl_em1, if_true, if_false, ite_self]) n 0 N (by omega) (by omega)
  have e0 : flG g a 0 v = g := by
    funext x j; unfold flG; rw [if_neg (by omega)]
  simp only [e0] at e
  rw [show lJ3_fill_5 N N (iS h g) a v 0 (nI n) = some _ from e]; rfl
/-- what cleaning a tuft does -/
def clP (g g' : Nat → Nat → Int32) (r t : Nat) : Prop := (∀ x, (x < r + 3 + 7 * t ∨ r + 9 + 7 * t ≤ x) → (x < r + 2019 ∨ r + 2022 < x) → g' x = g x) ∧ (∀ p i, p < 6 → i < 9 → TC g' r 3 t p i = 0) ∧ ∀ k, 2019 ≤ k → k ≤ 2022 → g' (r + k) t = -1 ∧ ∀ j, j ≠ t → g' (r + k) j = g (r + k) j
theorem co_clean (hN : 200000 ≤ N) (hR : RugS h r) {t : Nat} (ht : t < 144) : ∃ g', fX3_clean N (iS h g) r (nI t) = some (iS h g') ∧ clP g g' r t := by
  have A1 := hR.2.2.2.2.1
  have key : okk (lX3_clean_2 N N (iS h g) r (nI t) (nI 0)) (fun x => ∃ g', x = iS h g' ∧ (∀ x, (x < r + 3 + 7 * t ∨ r + 9 + 7 * t ≤ x) → g' x = g x) ∧ ∀ p i, p < 6 → i < 9 → TC g' r 3 t p i = 0) := by
    refine okf (fun m (s : HS) i => lX3_clean_2 N m s r (nI t) i) 6 (fun i s => ∃ g', s = iS h g' ∧ (∀ x, (x < r + 3 + 7 * t ∨ r + 9 + 7 * t ≤ x) → g' x = g x) ∧ ∀ p j, p < i → j < 9 → TC g' r 3 t p j = 0) _ ?_ ?_ 0 (iS h g) N (by omega) (by omega) ⟨g, rfl, fun _ _ => rfl, fun _ _ hp _ => by omega⟩
    · rintro i s m hi ⟨g1, rfl, q1, q2⟩
      right
      have aT := a3_T A1 ht hi
      refine ⟨_, ⟨flG g1 (r + 1 + 2 + 7 * t + i) 9 0, rfl, fun x hx => ?_, fun p j hp hj => ?_⟩, ?_⟩
      · funext k
        show (if x = r + 1 + 2 + 7 * t + i ∧ k < 9 then (0 : Int32) else g1 x k) = _
        rw [if_neg (by omega), q1 x hx]
      · unfold TC flG
        by_cases c : p = i
        · rw [if_pos ⟨by omega, hj⟩]
        · rw [if_neg (by omega)]; exact q2 p j (by omega) hj
      · rw [lX3_clean_2]
        simp (disch := omega) only [pl_let, pl_lef, pl_ltt, pl_ltf, pl_eqf, pl_let1, pl_lef1, pl_ltt1, pl_ltf1, pl_eqf1, pl_let2, pl_lef2, pl_ltt2, pl_ltf2, pl_em1, if_true, if_false, ite_self, pl_la, pl_al, pl_lm, pl_ml, nI_add, pk_mul, pl_sl, pl_m1, ru_R2 hR, Option.bind_some, a3_1 A1, a3_2 A1]
        rw [co_fill hN aT.1 aT.2 (by decide) (by have := hR.2.1; omega)]; rfl
    · rintro s m ⟨g1, rfl, hq⟩
      refine ⟨_, ?_, g1, rfl, hq⟩
      rw [lX3_clean_2]; rfl
  obtain ⟨x, e1, g1, rfl, q1, q2⟩ := key
  have e1 : lX3_clean_2 N N (iS h g) r (nI t) 0 = some (iS h g1) := e1
  refine ⟨u2 (u2 (u2 (u2 g1 (r + 2019) t (-1)) (r + 2020) t (-1)) (r + 2021) t (-1)) (r + 2022) t (-1), ?_, fun x x1 x2 => ?_, fun p i hp hi => ?_, fun k k1 k2 => ?_⟩
  · unfold fX3_clean
    rw [e1]
    simp (disch := omega) only [Option.bind_some, ru_R4 hR, ru_R5 hR, ru_R6 hR, ru_R7 hR, ru_W4 hR, ru_W5 hR, ru_W6 hR, ru_W7 hR]
  · rw [u2_nf (by omega), u2_nf (by omega), u2_nf (by omega), u2_nf (by omega)]; exact q1 x x1
  · unfold TC
    rw [u2_nf (by omega), u2_nf (by omega), u2_nf (by omega), u2_nf (by omega)]; exact q2 p i hp hi
  · have hk : k = 2019 ∨ k = 2020 ∨ k = 2021 ∨ k = 2022 := by omega
    rcases hk with rfl | rfl | rfl | rfl
    · exact ⟨by rw [u2_nf (by omega), u2_nf (by omega), u2_nf (by omega), u2_eq], fun j hj => by rw [u2_nf (by omega), u2_nf (by omega), u2_nf (by omega), u2_ne (Or.inr hj), q1 _ (by omega)]⟩
    · exact ⟨by rw [u2_nf (by omega), u2_nf (by omega), u2_eq], fun j hj => by rw [u2_nf (by omega), u2_nf (by omega), u2_ne (Or.inr hj), u2_nf (by omega), q1 _ (by omega)]⟩
    · exact ⟨by rw [u2_nf (by omega), u2_eq], fun j hj => by rw [u2_nf (by omega), u2_ne (Or.inr hj), u2_nf (by omega), u2_nf (by omega), q1 _ (by omega)]⟩
    · exact ⟨u2_eq _ _ _ _, fun j hj => by rw [u2_ne (Or.inr hj), u2_nf (by omega), u2_nf (by omega), u2_nf (by omega), q1 _ (by omega)]⟩
/-- a tuft's top stays, if its own numbers and the day stay -/
theorem TopR.of {g g' : Nat → Nat → Int32} {f f' : Nat → Int32} {u : Nat} (hu : u < 144) (hT : TopR g r F f u) (e0 : f' 429 = f 429) (ef : ∀ k, k < 4 → f' (436 + 4 * u + k) = f (436 + 4 * u + k)) (eg : ∀ k, 2019 ≤ k → k ≤ 2022 → g' (r + k) u = g (r + k) u) (eT : ∀ p i, p < 6 → i < 9 → TM f' u p i = TM f u p i) : TopR g' r F f' u := by
  rcases hT with ⟨c1, c2, c3, c4, c5, c6⟩ | ⟨w, o, d, s, e, k0, c1, c2, c3, c4, c5, c6, c7, c8, c9, c10⟩
  · exact Or.inl ⟨(ef 0 (by decide)).trans c1, by rw [eg 2019 (by decide) (by decide)]; exact c2, by rw [eg 2020 (by decide) (by decide)]; exact c3, by rw [eg 2021 (by decide) (by decide)]; exact c4, by rw [eg 2022 (by decide) (by decide)]; exact c5, fun p i hp hi => by rw [eT p i hp hi]; exact c6 p i hp hi⟩
  · exact Or.inr ⟨w, o, d, s, e, k0, e0.trans c1, (ef 0 (by decide)).trans c2, (ef 1 (by decide)).trans c3, (ef 2 (by decide)).trans c4, (ef 3 (by decide)).trans c5, by rw [eg 2019 (by decide) (by decide)]; exact c6, by rw [eg 2020 (by decide) (by decide)]; exact c7, by rw [eg 2021 (by decide) (by decide)]; exact c8, by rw [eg 2022 (by decide) (by decide)]; exact c9, fun p i hp hi9 hi => by rw [eT p i hp hi9]; exact c10 p i hp hi9 hi⟩
theorem clF_o {f : Nat → Int32} {t i : Nat} (h1 : i < 436 + 4 * t ∨ 440 + 4 * t ≤ i) (h2 : i < 2308 + 54 * t ∨ 2362 + 54 * t ≤ i) : clF f t i = f i := by
  unfold clF
  rw [cpA_out (by omega), cpA_out (by omega)]
theorem RugR.clean {g' : Nat → Nat → Int32} {f : Nat → Int32} {t : Nat} (ht : t < 144) (hR : RugR g r F f) (hC : clP g g' r t) : RugR g' r F (clF f t) := by
  obtain ⟨⟨d, h1, h2, h3⟩, h4, h5, h6, h7, h8⟩ := hR
  obtain ⟨p1, p2, p3⟩ := hC
  have tz : ∀ p i, p < 6 → i < 9 → TM (clF f t) t p i = 0 := fun p i hp hi => by
    unfold TM clF
    rw [cpA_in (by omega) (by omega)]
  have to_ : ∀ u p i, u < 144 → u ≠ t → p < 6 → i < 9 → TM (clF f t) u p i = TM f u p i := fun u p i hu hut hp hi => clF_o (by omega) (by omega)
  refine ⟨⟨d, h1, by rw [clF_o (by omega) (by omega)]; exact h2, by rw [p1 r (by omega) (by omega)]; exact h3⟩, fun p hp => by rw [p1 _ (by omega) (by omega), clF_o (by omega) (by omega)]; exact h4 p hp, fun u p i hu hp hi => ?_, fun u p i hu hp hp2 hi => ?_, fun u i hu hi => ?_, fun u hu => ?_⟩
  · by_cases c : u = t
    · subst c; rw [tz p i hp hi]; exact p2 p i hp hi
    · rw [to_ u p i hu c hp hi]
      refine Eq.trans ?_ (h5 u p i hu hp hi)
      unfold TC; rw [p1 _ (by omega) (by omega)]
  · by_cases c : u = t
    · subst c; exact tz p i hp2 hi
    · rw [to_ u p i hu c hp2 hi]; exact h6 u p i hu hp hp2 hi
  · unfold FM
    rw [clF_o (by omega) (by omega)]
    refine (h7 u i hu hi).trans (sm_ext fun p hp => ?_)
    unfold TC; rw [p1 _ (by omega) (by omega)]
  · by_cases c : u = t
    · subst c
      refine Or.inl ⟨?_, (p3 2019 (by decide) (by decide)).1, (p3 2020 (by decide) (by decide)).1, (p3 2021 (by decide) (by decide)).1, (p3 2022 (by decide) (by decide)).1, tz⟩
      unfold clF
      rw [cpA_out (by omega), cpA_in (by omega) (by omega)]
    · exact (h8 u hu).of hu (clF_o (by omega) (by omega)) (fun k hk => clF_o (by omega) (by omega)) (fun k k1 k2 => (p3 k k1 k2).2 u c) (fun p i hp hi => to_ u p i hu c hp hi)
end PMU
