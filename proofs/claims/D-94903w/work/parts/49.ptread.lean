/-! a tread: both sides; a walk -/
theorem sm_one {f f' : Nat → Int32} {p n : Nat} {c : Int32} (hp : p < n) (h1 : ∀ q, q < n → q ≠ p → f' q = f q) (h2 : f' p = f p + c) : sm f' n = sm f n + c := by
  induction n with
  | zero => omega
  | succ n ih =>
    show sm f' n + f' n = sm f n + f n + c
    by_cases e : p = n
    · subst e
      rw [h2, sm_ext (f := f') (f' := f) fun i hi => h1 i (by omega) (by omega)]
      ac_rfl
    · rw [ih (by omega) (fun q hq hqp => h1 q (by omega) hqp), h1 n (by omega) (by omega)]
      ac_rfl
section PTR
variable {h : HS} {g : Nat → Nat → Int32} {σ : MS} {N r b a : Nat} {F : Nat → Nat} {nm : Nat → Int64}
/-- what a tread does: the component's cells, the Model's numbers -/
def trP (g g' : Nat → Nat → Int32) (r p t : Nat) (s d : Int32) : Prop := (∀ x, x ≠ r + 3 + 7 * t + p → x ≠ r + 1012 + 7 * t + p → (x < r + 2019 ∨ r + 2022 < x) → g' x = g x) ∧ (∀ c, c = 3 ∨ c = 1012 → TC g' r c t p 0 = TC g r c t p 0 + 1 ∧ ∀ i, i ≠ 0 → TC g' r c t p i = TC g r c t p i) ∧ (∀ k j, 2019 ≤ k → k ≤ 2022 → j ≠ t → g' (r + k) j = g (r + k) j) ∧ g' (r + 2019) t = nI p ∧ g' (r + 2020) t = s ∧ g' (r + 2021) t = d ∧ g' (r + 2022) t = 0
def trQ (f f' : Nat → Int32) (p t : Nat) (s d c : Int32) : Prop := (∀ i, i ≠ 2308 + (6 * t + p) * 9 → i ≠ 1012 + 9 * t → (i < 436 + 4 * t ∨ 440 + 4 * t ≤ i) → f' i = f i) ∧ f' (2308 + (6 * t + p) * 9) = f (2308 + (6 * t + p) * 9) + 1 ∧ f' (1012 + 9 * t) = f (1012 + 9 * t) + c ∧ f' (436 + 4 * t) = nI (p + 1) ∧ f' (436 + 4 * t + 1) = s ∧ f' (436 + 4 * t + 2) = d ∧ f' (436 + 4 * t + 3) = f 429
theorem RugR.tread {g' : Nat → Nat → Int32} {f f' : Nat → Int32} {p t sl e : Nat} (hF : HOK F) (hp : p < F 2) (ht : t < 144) (hsl : sl ≤ 9) (he : e < 4) (hR : RugR g r F f) (hg : trP g g' r p t (nI sl) (nI e)) (hf : trQ f f' p t (nI sl) (nI e) (nI (F (7 + p)))) : RugR g' r F f' := by
  obtain ⟨⟨d, h1, h2, h3⟩, h4, h5, h6, h7, h8⟩ := hR
  obtain ⟨p1, p2, p3, p4, p5, p6, p7⟩ := hg
  obtain ⟨q1, q2, q3, q4, q5, q6, q7⟩ := hf
  have k2 : F 2 ≤ 6 := hF.1.2.2.1
  have k6 : 1 ≤ F 6 := hF.1.2.2.2.2.2.2.1
  have tm : ∀ u q i, u < 144 → q < 6 → i < 9 → ¬ (u = t ∧ q = p ∧ i = 0) → TM f' u q i = TM f u q i := fun u q i hu hq hi hn => q1 _ (by omega) (by omega) (by omega)
  have tc : ∀ c u q i, (c = 3 ∨ c = 1012) → u < 144 → q < 6 → ¬ (u = t ∧ q = p) → TC g' r c u q i = TC g r c u q i := fun c u q i hc hu hq hn => by unfold TC; rw [p1 _ (by omega) (by omega) (by omega)]
  refine ⟨⟨d, h1, by rw [q1 429 (by omega) (by omega) (by omega)]; exact h2, by rw [p1 r (by omega) (by omega) (by omega)]; exact h3⟩, fun q hq => by rw [p1 _ (by omega) (by omega) (by omega), q1 _ (by omega) (by omega) (by omega)]; exact h4 q hq, fun u q i hu hq hi => ?_, fun u q i hu hq hq2 hi => ?_, fun u i hu hi => ?_, fun u hu => ?_⟩
  · by_cases c : u = t ∧ q = p
    · obtain ⟨rfl, rfl⟩ := c
      by_cases ci : i = 0
      · subst ci
        rw [(p2 3 (Or.inl rfl)).1, h5 u q 0 hu hq (by decide)]
        exact q2.symm
      · rw [(p2 3 (Or.inl rfl)).2 i ci, tm u q i hu hq hi (by omega)]; exact h5 u q i hu hq hi
    · rw [tc 3 u q i (Or.inl rfl) hu hq c, tm u q i hu hq hi (by omega)]; exact h5 u q i hu hq hi
  · rw [tm u q i hu hq2 hi (by omega)]; exact h6 u q i hu hq hq2 hi
  · by_cases c : u = t ∧ i = 0
    · obtain ⟨rfl, rfl⟩ := c
      refine (show FM f' u 0 = FM f u 0 + nI (F (7 + p)) from q3).trans ?_
      rw [h7 u 0 hu (by decide)]
      refine (sm_one (show p < 6 by omega) (fun q hq6 hq => ?_) ?_).symm
      · rw [tc 1012 u q 0 (Or.inr rfl) hu hq6 (by omega)]
      · show TC g' r 1012 u p 0 * _ = TC g r 1012 u p 0 * _ + _
        rw [(p2 1012 (Or.inr rfl)).1, Int32.add_mul, Int32.one_mul]
    · refine (q1 (1012 + 9 * u + i) (by omega) (by omega) (by omega)).trans ((h7 u i hu hi).trans (sm_ext fun q hq => ?_))
      by_cases c2 : u = t ∧ q = p
      · obtain ⟨rfl, rfl⟩ := c2
        rw [(p2 1012 (Or.inr rfl)).2 i (by omega)]
      · rw [tc 1012 u q i (Or.inr rfl) hu hq c2]
  · by_cases c : u = t
    · subst c
      refine Or.inr ⟨p, 0, d, sl, e, ⟨by omega, by omega, by omega, hsl, he⟩, by rw [q1 429 (by omega) (by omega) (by omega)]; exact h2, q4, q5, q6, q7.trans h2, p4, p5, p6, p7, fun q i hq hi9 hi => by omega⟩
    · exact (h8 u hu).of hu (q1 429 (by omega) (by omega) (by omega)) (fun k hk => q1 _ (by omega) (by omega) (by omega)) (fun k k1 k2 => p3 k u k1 k2 c) (fun q i hq hi => tm u q i hu hq hi (by omega))
theorem co_tread (hR : RugS h r) {p t : Nat} (hp : p < 6) (ht : t < 144) (s d : Int32) : ∃ g', fX3_tread N (iS h g) r (nI p) (nI t) s d = some (iS h g') ∧ trP g g' r p t s d := by
  have A1 := hR.2.2.2.2.1
  have A2 := hR.2.2.2.2.2
  have hg := hR.2.1
  refine ⟨u2 (u2 (u2 (u2 (u2 (u2 g (r + 1 + 2 + 7 * t + p) 0 (g (r + 1 + 2 + 7 * t + p) 0 + 1)) (r + 1010 + 2 + 7 * t + p) 0 (u2 g (r + 1 + 2 + 7 * t + p) 0 (g (r + 1 + 2 + 7 * t + p) 0 + 1) (r + 1010 + 2 + 7 * t + p) 0 + 1)) (r + 2019) t (nI p)) (r + 2020) t s) (r + 2021) t d) (r + 2022) t 0, ?_, fun x x1 x2 x3 => ?_, fun c hc => ?_, fun k j k1 k2 hj => ?_, ?_, ?_, ?_, u2_eq _ _ _ _⟩
  · unfold fX3_tread
    have e1 : ∀ g, aI (iS h g) (r + 1 + 2 + 7 * t + p) 31 0 = some (g (r + 1 + 2 + 7 * t + p) 0) := fun g => a3_r (a := 0) A1 g ht hp (by decide)
    have e2 : ∀ g, aI (iS h g) (r + 1010 + 2 + 7 * t + p) 31 0 = some (g (r + 1010 + 2 + 7 * t + p) 0) := fun g => a3_r (a := 0) A2 g ht hp (by decide)
    have e3 : ∀ g v, wI (iS h g) (r + 1 + 2 + 7 * t + p) 31 0 v = some (iS h (u2 g (r + 1 + 2 + 7 * t + p) 0 v)) := fun g v => a3_w (a := 0) A1 g (by omega) ht hp (by decide)
    have e4 : ∀ g v, wI (iS h g) (r + 1010 + 2 + 7 * t + p) 31 0 v = some (iS h (u2 g (r + 1010 + 2 + 7 * t + p) 0 v)) := fun g v => a3_w (a := 0) A2 g (by omega) ht hp (by decide)
    simp (disch := omega) only [ru_R2 hR, ru_R3 hR, ru_R4 hR, ru_R5 hR, ru_R6 hR, ru_R7 hR, Option.bind_some, a3_1 A1, a3_1 A2, a3_2 A1, a3_2 A2, e1, e2, e3, e4, ru_W4 hR, ru_W5 hR, ru_W6 hR, ru_W7 hR]
  · rw [u2_nf (by omega), u2_nf (by omega), u2_nf (by omega), u2_nf (by omega), u2_nf (by omega), u2_nf (by omega)]
  · unfold TC
    rcases hc with rfl | rfl
    · rw [show r + 3 + 7 * t + p = r + 1 + 2 + 7 * t + p by omega]
      exact ⟨by rw [u2_nf (by omega), u2_nf (by omega), u2_nf (by omega), u2_nf (by omega), u2_nf (by omega), u2_eq], fun i hi => by rw [u2_nf (by omega), u2_nf (by omega), u2_nf (by omega), u2_nf (by omega), u2_nf (by omega), u2_ne (Or.inr hi)]⟩
    · rw [show r + 1012 + 7 * t + p = r + 1010 + 2 + 7 * t + p by omega]
      exact ⟨by rw [u2_nf (by omega), u2_nf (by omega), u2_nf (by omega), u2_nf (by omega), u2_eq, u2_nf (by omega)], fun i hi => by rw [u2_nf (by omega), u2_nf (by omega), u2_nf (by omega), u2_nf (by omega), u2_ne (Or.inr hi), u2_nf (by omega)]⟩
  · rw [u2_ne (by omega), u2_ne (by omega), u2_ne (by omega), u2_ne (by omega), u2_nf (by omega), u2_nf (by omega)]
  · rw [u2_nf (by omega), u2_nf (by omega), u2_nf (by omega), u2_eq]
  · rw [u2_nf (by omega), u2_nf (by omega), u2_eq]
  · rw [u2_nf (by omega), u2_eq]
/-- the direction in which a way goes on, in the Model's words -/
theorem dirB_eq {x y : Nat} (hx : x < 144) (hy : y < 144) : fX5_dirBetween (nI x) (nI y) = dirB x y := by
  have key : ∀ (k : Nat) (c : Int32), k < 144 → c.toInt = (y : Int) - x → (nI y - nI x = c) := by
    intro k c _ hc
    apply Int32.toInt_inj.mp
    rw [pk_sub_toInt (by omega) (by omega), hc]
  have inj : ∀ c : Int32, nI y - nI x = c → c.toInt = (y : Int) - x := fun c e => by
    rw [← e, pk_sub_toInt (by omega) (by omega)]
  have i12 : (-12 : Int32).toInt = -12 := by decide
  have i1 : (1 : Int32).toInt = 1 := by decide
  have i2 : (12 : Int32).toInt = 12 := by decide
  unfold fX5_dirBetween dirB
  by_cases c1 : y + 12 = x
  · rw [if_pos c1, if_pos (key 0 _ (by decide) (by omega))]
  · rw [if_neg c1, if_neg (fun e => by have := inj _ e; omega)]
    by_cases c2 : y = x + 1
    · rw [if_pos c2, if_pos (key 0 _ (by decide) (by omega))]
    · rw [if_neg c2, if_neg (fun e => by have := inj _ e; omega)]
      by_cases c3 : y = x + 12
      · rw [if_pos c3, if_pos (key 0 _ (by decide) (by omega))]
      · rw [if_neg c3, if_neg (fun e => by have := inj _ e; omega)]
theorem dirB_cs (x y : Nat) : ∃ e, e < 4 ∧ dirB x y = nI e := by
  unfold dirB
  split
  · exact ⟨0, by decide, rfl⟩
  · split
    · exact ⟨1, by decide, rfl⟩
    · split
      · exact ⟨2, by decide, rfl⟩
      · exact ⟨3, by decide, rfl⟩
theorem dirM_cs (F : Nat → Nat) (w i : Nat) : ∃ e, e < 4 ∧ dirM F w i = nI e := by
  unfold dirM
  split
  · exact ⟨0, by decide, rfl⟩
  · split
    · exact dirB_cs _ _
    · exact dirB_cs _ _
end PTR
