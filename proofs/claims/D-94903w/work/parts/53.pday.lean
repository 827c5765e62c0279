/-! a day, whole: both sides -/
section PDY
variable {h : HS} {g : Nat → Nat → Int32} {σ : MS} {N r b a : Nat} {F : Nat → Nat} {nm : Nat → Int64}
def dn1 (g g' : Nat → Nat → Int32) (r fd u : Nat) : Prop := (∀ p i, p < 6 → i < 9 → TC g' r 1012 u p i = shf fd (TC g r 1012 u p) i) ∧
  ((g (r + 2022) u = -1 ∧ (∀ k, 2019 ≤ k → k ≤ 2022 → g' (r + k) u = g (r + k) u) ∧ ∀ p i, p < 6 → i < 9 → TC g' r 3 u p i = shf fd (TC g r 3 u p) i) ∨
   (g (r + 2022) u ≠ -1 ∧ g (r + 2022) u + 1 = nI fd ∧ (∀ k, 2019 ≤ k → k ≤ 2022 → g' (r + k) u = -1) ∧ ∀ p i, p < 6 → i < 9 → TC g' r 3 u p i = 0) ∨
   (g (r + 2022) u ≠ -1 ∧ g (r + 2022) u + 1 ≠ nI fd ∧ (∀ k, 2019 ≤ k → k ≤ 2021 → g' (r + k) u = g (r + k) u) ∧ g' (r + 2022) u = g (r + 2022) u + 1 ∧ ∀ p i, p < 6 → i < 9 → TC g' r 3 u p i = shf fd (TC g r 3 u p) i))
def un1 (g g' : Nat → Nat → Int32) (r u : Nat) : Prop := (∀ c p i, (c = 3 ∨ c = 1012) → p < 6 → TC g' r c u p i = TC g r c u p i) ∧ ∀ k, 2019 ≤ k → k ≤ 2022 → g' (r + k) u = g (r + k) u
def dnI (g g' : Nat → Nat → Int32) (r fd t : Nat) : Prop := (∀ x, (x < r + 3 ∨ r + 2023 ≤ x) → g' x = g x) ∧ (∀ u, u < 144 → u < t → dn1 g g' r fd u) ∧ ∀ u, u < 144 → t ≤ u → un1 g g' r u
theorem shf_ext {fd i : Nat} {v v' : Nat → Int32} (h : i ≠ 0 → v (i - 1) = v' (i - 1)) : shf fd v i = shf fd v' i := by
  unfold shf
  by_cases c : i = 0 ∨ fd ≤ i
  · rw [if_pos c, if_pos c]
  · rw [if_neg c, if_neg c, h (by omega)]
theorem co_d21 (hN : 200000 ≤ N) (hR : RugS h r) (hk : kR h r 0 = some a) (hnow : r = b + 8) (hH : ∀ g', (∀ y, imm b (kZ h) y → g' y = g y) → HouR h g' b a F nm) {t : Nat} (ht : t < 144) {g1 : Nat → Nat → Int32} (hg1 : ∀ y, imm b (kZ h) y → g1 y = g y) : ∃ g', lX3_dawn_21 N N (iS h g1) r (nI t) 0 = some (iS h g') ∧ (∀ y, (y < r + 3 + 7 * t ∨ r + 9 + 7 * t ≤ y) → (y < r + 1012 + 7 * t ∨ r + 1018 + 7 * t ≤ y) → g' y = g1 y) ∧ ∀ c p i, (c = 3 ∨ c = 1012) → p < 6 → i < 9 → TC g' r c t p i = shf (F 6) (TC g1 r c t p) i := by
  have A1 := hR.2.2.2.2.1
  have A2 := hR.2.2.2.2.2
  have hgr := hR.2.1
  have key : okk (lX3_dawn_21 N N (iS h g1) r (nI t) (nI 0)) (fun x => ∃ g', x = iS h g' ∧ (∀ y, (y < r + 3 + 7 * t ∨ r + 9 + 7 * t ≤ y) → (y < r + 1012 + 7 * t ∨ r + 1018 + 7 * t ≤ y) → g' y = g1 y) ∧ ∀ c p i, (c = 3 ∨ c = 1012) → p < 6 → i < 9 → (p < 6 → TC g' r c t p i = shf (F 6) (TC g1 r c t p) i) ∧ (6 ≤ p → TC g' r c t p i = TC g1 r c t p i)) := by
    refine okf (fun m (s : HS) i => lX3_dawn_21 N m s r (nI t) i) 6 (fun q s => ∃ g', s = iS h g' ∧ (∀ y, (y < r + 3 + 7 * t ∨ r + 9 + 7 * t ≤ y) → (y < r + 1012 + 7 * t ∨ r + 1018 + 7 * t ≤ y) → g' y = g1 y) ∧ ∀ c p i, (c = 3 ∨ c = 1012) → p < 6 → i < 9 → (p < q → TC g' r c t p i = shf (F 6) (TC g1 r c t p) i) ∧ (q ≤ p → TC g' r c t p i = TC g1 r c t p i)) _ ?_ ?_ 0 (iS h g1) N (by omega) (by omega) ⟨g1, rfl, fun _ _ _ => rfl, fun _ _ _ _ _ _ => ⟨fun hp => by omega, fun _ => rfl⟩⟩
    · rintro q s m hq ⟨g2, rfl, q1, q2⟩
      right
      have a1 := a3_T A1 ht hq
      have a2 := a3_T A2 ht hq
      have hn1 : ∀ c, (c = 3 ∨ c = 1012) → ¬ imm b (kZ h) (r + c + 7 * t + q) := fun c hc hi => by obtain ⟨_, h9⟩ := hi; omega
      have hH2 : ∀ g', (∀ y, imm b (kZ h) y → g' y = g2 y) → HouR h g' b a F nm := fun g' hg' => hH g' fun y hy => by
        rw [hg' y hy, q1 y (by obtain ⟨_, h9⟩ := hy; omega) (by obtain ⟨_, h9⟩ := hy; omega), hg1 y hy]
      obtain ⟨g3, e3, f3, v3⟩ := co_older (g := g2) (r := r) hN hR hk hH2 (x := r + 1 + 2 + 7 * t + q) a1.1 a1.2 (by omega) (by rw [show r + 1 + 2 + 7 * t + q = r + 3 + 7 * t + q by omega]; exact hn1 3 (Or.inl rfl))
      have hH3 : ∀ g', (∀ y, imm b (kZ h) y → g' y = g3 y) → HouR h g' b a F nm := fun g' hg' => hH2 g' fun y hy => by
        rw [hg' y hy, f3 y (by obtain ⟨_, h9⟩ := hy; omega)]
      obtain ⟨g4, e4, f4, v4⟩ := co_older (g := g3) (r := r) hN hR hk hH3 (x := r + 1010 + 2 + 7 * t + q) a2.1 a2.2 (by omega) (by rw [show r + 1010 + 2 + 7 * t + q = r + 1012 + 7 * t + q by omega]; exact hn1 1012 (Or.inr rfl))
      refine ⟨iS h g4, ⟨g4, rfl, fun y y1 y2 => by rw [f4 y (by omega), f3 y (by omega)]; exact q1 y y1 y2, fun c p i hc hp hi => ⟨fun hpq => ?_, fun hpq => ?_⟩⟩, ?_⟩
      · by_cases e : p = q
        · subst e
          rcases hc with rfl | rfl
          · unfold TC
            rw [f4 _ (by omega), show r + 3 + 7 * t + p = r + 1 + 2 + 7 * t + p by omega, v3 i hi]
            refine shf_ext fun _ => ?_
            have := (q2 3 p (i - 1) (Or.inl rfl) hp (by omega)).2 (Nat.le_refl _)
            unfold TC at this
            rw [show r + 3 + 7 * t + p = r + 1 + 2 + 7 * t + p by omega] at this
            exact this
          · unfold TC
            rw [show r + 1012 + 7 * t + p = r + 1010 + 2 + 7 * t + p by omega, v4 i hi]
            refine shf_ext fun _ => ?_
            rw [f3 _ (by omega)]
            have := (q2 1012 p (i - 1) (Or.inr rfl) hp (by omega)).2 (Nat.le_refl _)
            unfold TC at this
            rw [show r + 1012 + 7 * t + p = r + 1010 + 2 + 7 * t + p by omega] at this
            exact this
        · refine Eq.trans ?_ ((q2 c p i hc hp hi).1 (by omega))
          unfold TC
          rw [f4 _ (by omega), f3 _ (by omega)]
      · refine Eq.trans ?_ ((q2 c p i hc hp hi).2 (by omega))
        unfold TC
        rw [f4 _ (by omega), f3 _ (by omega)]
      · rw [lX3_dawn_21]
        simp (disch := omega) only [pl_let, pl_lef, pl_ltt, pl_ltf, pl_eqf, pl_let1, pl_lef1, pl_ltt1, pl_ltf1, pl_eqf1, pl_let2, pl_lef2, pl_ltt2, pl_ltf2, pl_em1, if_true, if_false, ite_self, pl_la, pl_al, pl_lm, pl_ml, nI_add, pk_mul, pl_sl, pl_m1, ru_R2 hR, ru_R3 hR, ru_g hR, Option.bind_some, a3_1 A1, a3_2 A1, a3_1 A2, a3_2 A2, e3, e4]
    · rintro s m ⟨g2, rfl, hq⟩
      refine ⟨_, ?_, g2, rfl, hq⟩
      rw [lX3_dawn_21]; rfl
  obtain ⟨x, e1, g', rfl, q1, q2⟩ := key
  exact ⟨g', e1, q1, fun c p i hc hp hi => (q2 c p i hc hp hi).1 hp⟩
theorem co_dawn (hN : 200000 ≤ N) (hR : RugS h r) (hk : kR h r 0 = some a) (hnow : r = b + 8) (hH : ∀ g', (∀ y, imm b (kZ h) y → g' y = g y) → HouR h g' b a F nm) : ∃ g', fX3_dawn N (iS h g) r = some (iS h g') ∧ dnI (u2 g r 1 (g r 1 + 1)) g' r (F 6) 144 := by
  obtain ⟨g0, eg0⟩ : ∃ g0, g0 = u2 g r 1 (g r 1 + 1) := ⟨_, rfl⟩
  have hg0 : ∀ y, imm b (kZ h) y → g0 y = g y := fun y hy => by rw [eg0, u2_nf (by obtain ⟨_, h9⟩ := hy; omega)]
  have key : okk (lX3_dawn_12 N N (iS h g0) r (nI 0)) (fun x => ∃ g', x = iS h g' ∧ dnI g0 g' r (F 6) 144) := by
    refine okf (fun m (s : HS) i => lX3_dawn_12 N m s r i) 144 (fun t s => ∃ g', s = iS h g' ∧ dnI g0 g' r (F 6) t) _ ?_ ?_ 0 (iS h g0) N (by omega) (by omega) ⟨g0, rfl, fun _ _ => rfl, fun u _ hu => by omega, fun u _ _ => ⟨fun _ _ _ _ _ => rfl, fun _ _ _ => rfl⟩⟩
    · rintro t s m ht ⟨g1, rfl, q1, q2, q3⟩
      right
      have hg1 : ∀ y, imm b (kZ h) y → g1 y = g y := fun y hy => by rw [q1 y (by obtain ⟨_, h9⟩ := hy; omega), hg0 y hy]
      obtain ⟨g2, e2, f2, v2⟩ := co_d21 (N := N) hN hR hk hnow hH ht hg1
      have hH2 : HouR h g2 b a F nm := hH g2 fun y hy => by rw [f2 y (by obtain ⟨_, h9⟩ := hy; omega) (by obtain ⟨_, h9⟩ := hy; omega), hg1 y hy]
      obtain ⟨u1, u2'⟩ := q3 t ht (Nat.le_refl _)
      have I7 := ru_I7 hR g2 ht
      have o2 : ∀ k, 2019 ≤ k → k ≤ 2022 → g2 (r + k) = g1 (r + k) := fun k k1 k2 => f2 _ (by omega) (by omega)
      have sv : ∀ c p i, (c = 3 ∨ c = 1012) → p < 6 → i < 9 → TC g2 r c t p i = shf (F 6) (TC g0 r c t p) i := fun c p i hc hp hi => (v2 c p i hc hp hi).trans (shf_ext fun _ => u1 c p (i - 1) hc hp)
      have ou : ∀ u, u < 144 → u ≠ t → ∀ c p i, (c = 3 ∨ c = 1012) → p < 6 → TC g2 r c u p i = TC g1 r c u p i := fun u hu hut c p i hc hp => by unfold TC; rw [f2 _ (by omega) (by omega)]
      -- keep what is said of other tufts
      have keepO : ∀ g3 : Nat → Nat → Int32, (∀ u, u < 144 → u ≠ t → (∀ c p i, (c = 3 ∨ c = 1012) → p < 6 → TC g3 r c u p i = TC g1 r c u p i) ∧ ∀ k, 2019 ≤ k → k ≤ 2022 → g3 (r + k) u = g1 (r + k) u) → (∀ x, (x < r + 3 ∨ r + 2023 ≤ x) → g3 x = g0 x) → dn1 g0 g3 r (F 6) t → dnI g0 g3 r (F 6) (t + 1) := by
        intro g3 ho hx hd
        refine ⟨hx, fun u hu hut => ?_, fun u hu hut => ?_⟩
        · by_cases e : u = t
          · subst e; exact hd
          · obtain ⟨o1, o2⟩ := ho u hu e
            obtain ⟨d1, d2⟩ := q2 u hu (by omega)
            refine ⟨fun p i hp hi => by rw [o1 1012 p i (Or.inr rfl) hp]; exact d1 p i hp hi, ?_⟩
            rcases d2 with ⟨c1, c2, c3⟩ | ⟨c1, c2, c3, c4⟩ | ⟨c1, c2, c3, c4, c5⟩
            · exact Or.inl ⟨c1, fun k k1 k2 => by rw [o2 k k1 k2]; exact c2 k k1 k2, fun p i hp hi => by rw [o1 3 p i (Or.inl rfl) hp]; exact c3 p i hp hi⟩
            · exact Or.inr (Or.inl ⟨c1, c2, fun k k1 k2 => by rw [o2 k k1 k2]; exact c3 k k1 k2, fun p i hp hi => by rw [o1 3 p i (Or.inl rfl) hp]; exact c4 p i hp hi⟩)
            · exact Or.inr (Or.inr ⟨c1, c2, fun k k1 k2 => by rw [o2 k k1 (by omega)]; exact c3 k k1 k2, by rw [o2 2022 (by omega) (by omega)]; exact c4, fun p i hp hi => by rw [o1 3 p i (Or.inl rfl) hp]; exact c5 p i hp hi⟩)
        · obtain ⟨o1, o2⟩ := ho u hu (by omega)
          obtain ⟨d1, d2⟩ := q3 u hu (by omega)
          exact ⟨fun c p i hc hp => (o1 c p i hc hp).trans (d1 c p i hc hp), fun k k1 k2 => (o2 k k1 k2).trans (d2 k k1 k2)⟩
      have e7 : g2 (r + 2022) t = g0 (r + 2022) t := by rw [o2 2022 (by omega) (by omega)]; exact u2' 2022 (by omega) (by omega)
      have fr2 : ∀ x, (x < r + 3 ∨ r + 2023 ≤ x) → g2 x = g0 x := fun x hx => by rw [f2 x (by omega) (by omega)]; exact q1 x hx
      by_cases c1 : g0 (r + 2022) t = -1
      · refine ⟨iS h g2, ⟨g2, rfl, keepO g2 (fun u hu hut => ⟨ou u hu hut, fun k k1 k2 => by rw [o2 k k1 k2]⟩) fr2 ⟨fun p i hp hi => sv 1012 p i (Or.inr rfl) hp hi, Or.inl ⟨c1, fun k k1 k2 => by rw [o2 k k1 k2]; exact u2' k k1 k2, fun p i hp hi => sv 3 p i (Or.inl rfl) hp hi⟩⟩⟩, ?_⟩
        rw [lX3_dawn_12, e2]
        simp (disch := omega) only [pl_let, pl_lef, pl_ltt, pl_ltf, pl_eqf, pl_let1, pl_lef1, pl_ltt1, pl_ltf1, pl_eqf1, pl_let2, pl_lef2, pl_ltt2, pl_ltf2, pl_em1, if_true, if_false, ite_self, pl_la, pl_al, pl_lm, pl_ml, nI_add, pk_mul, pl_sl, pl_m1, ru_R7 hR, Option.bind_some, I7, e7, c1, eq_self, if_true]
      · have I7' := ru_I7 hR (u2 g2 (r + 2022) t (g0 (r + 2022) t + 1)) ht
        have hH3 : HouR h (u2 g2 (r + 2022) t (g0 (r + 2022) t + 1)) b a F nm := hH _ fun y hy => by
          rw [u2_nf (by obtain ⟨_, h9⟩ := hy; omega), f2 y (by obtain ⟨_, h9⟩ := hy; omega) (by obtain ⟨_, h9⟩ := hy; omega), hg1 y hy]
        by_cases c2 : g0 (r + 2022) t + 1 = nI (F 6)
        · obtain ⟨g4, e4, p1, p2, p3⟩ := co_clean (g := u2 g2 (r + 2022) t (g0 (r + 2022) t + 1)) hN hR ht
          refine ⟨iS h g4, ⟨g4, rfl, keepO g4 (fun u hu hut => ⟨fun c p i hc hp => ?_, fun k k1 k2 => ?_⟩) (fun x hx => ?_) ⟨fun p i hp hi => ?_, Or.inr (Or.inl ⟨c1, c2, fun k k1 k2 => (p3 k k1 k2).1, fun p i hp hi => p2 p i hp hi⟩)⟩⟩, ?_⟩
          · refine Eq.trans ?_ (ou u hu hut c p i hc hp)
            unfold TC
            rw [p1 _ (by omega) (by omega), u2_nf (by omega)]
          · rw [(p3 k k1 k2).2 u hut, u2_ne (Or.inr hut), o2 k k1 k2]
          · rw [p1 x (by omega) (by omega), u2_nf (by omega)]; exact fr2 x hx
          · refine Eq.trans ?_ (sv 1012 p i (Or.inr rfl) hp hi)
            unfold TC
            rw [p1 _ (by omega) (by omega), u2_nf (by omega)]
          · rw [lX3_dawn_12, e2]
            simp (disch := omega) only [pl_let, pl_lef, pl_ltt, pl_ltf, pl_eqf, pl_let1, pl_lef1, pl_ltt1, pl_ltf1, pl_eqf1, pl_let2, pl_lef2, pl_ltt2, pl_ltf2, pl_em1, if_true, if_false, ite_self, pl_la, pl_al, pl_lm, pl_ml, nI_add, pk_mul, pl_sl, pl_m1, ru_R7 hR, Option.bind_some, I7, e7, c1, if_false, ru_W7 hR, I7', u2_eq, ru_f hR, hk, ho_2 hH3]
            rw [if_pos c2, ru_g hR, e4]; rfl
        · refine ⟨iS h (u2 g2 (r + 2022) t (g0 (r + 2022) t + 1)), ⟨_, rfl, keepO _ (fun u hu hut => ⟨fun c p i hc hp => ?_, fun k k1 k2 => ?_⟩) (fun x hx => ?_) ⟨fun p i hp hi => ?_, Or.inr (Or.inr ⟨c1, c2, fun k k1 k2 => ?_, u2_eq _ _ _ _, fun p i hp hi => ?_⟩)⟩⟩, ?_⟩
          · refine Eq.trans ?_ (ou u hu hut c p i hc hp)
            unfold TC
            rw [u2_nf (by omega)]
          · rw [u2_ne (Or.inr hut), o2 k k1 k2]
          · rw [u2_nf (by omega)]; exact fr2 x hx
          · refine Eq.trans ?_ (sv 1012 p i (Or.inr rfl) hp hi)
            unfold TC
            rw [u2_nf (by omega)]
          · rw [u2_nf (by omega), o2 k k1 (by omega)]; exact u2' k k1 (by omega)
          · refine Eq.trans ?_ (sv 3 p i (Or.inl rfl) hp hi)
            unfold TC
            rw [u2_nf (by omega)]
          · rw [lX3_dawn_12, e2]
            simp (disch := omega) only [pl_let, pl_lef, pl_ltt, pl_ltf, pl_eqf, pl_let1, pl_lef1, pl_ltt1, pl_ltf1, pl_eqf1, pl_let2, pl_lef2, pl_ltt2, pl_ltf2, pl_em1, if_true, if_false, ite_self, pl_la, pl_al, pl_lm, pl_ml, nI_add, pk_mul, pl_sl, pl_m1, ru_R7 hR, Option.bind_some, I7, e7, c1, if_false, ru_W7 hR, I7', u2_eq, ru_f hR, hk, ho_2 hH3]
            rw [if_neg c2]
    · rintro s m ⟨g1, rfl, hq⟩
      refine ⟨_, ?_, g1, rfl, hq⟩
      rw [lX3_dawn_12]; rfl
  obtain ⟨x, e1, g', rfl, hq⟩ := key
  refine ⟨g', ?_, by rw [← eg0]; exact hq⟩
  unfold fX3_dawn
  simp only [ru_i hR, Option.bind_some, ru_p hR]
  rw [← eg0, show lX3_dawn_12 N N (iS h g0) r 0 = some (iS h g') from e1]; rfl
end PDY
