/-! sentences: and() -/
/-- and() after some ones: the tree c, its codes L, what waits -/
def AndI (N : Nat) (h0 : HS) (b rd sz Z W a : Nat) (F : Nat → Nat) (σ0 : MS) (t O : Nat) (S : List Nat) (C : List CD3) (h : HS) (σ : MS) (c : Nat) (L : List CD3) : Prop :=
  ∃ Sx Cx σ2 σ3, SX h0 b rd sz Z W a σ0 t O Sx Cx true h σ ∧ AndP N σ0 S C O σ L σ2 σ3 ∧ kI h rd 11 = nI (cn2 S) ∧ CondR h (kI h) b F L.length c L ∧ (C ++ L).length + S.length + 1 ≤ 2 * O
/-- a fault, from a whole state -/
def SFw (N : Nat) (h0 : HS) (Z W : Nat) (σ0 : MS) (O : Nat) (r : Option ((Nat ⊕ Nat) × HS)) (σ : MS) : Prop := ∃ fa h' σ' k, r = some (.inl fa, h') ∧ k ≤ 3 * (20 - O) + 3 ∧ (∀ n, lX5_sentence_48 N (n + k) σ 1 = some (.inr (-1 - gI σ' 16, σ'))) ∧ FLT h0 (Z + 41) (W + 328) h' fa σ' ∧ SMe σ0 σ'
section PUO
variable {h0 h h' h2 : HS} {σ0 σ σ' σ1 : MS} {N b rd sz Z W a O t n c : Nat} {F : Nat → Nat} {S : List Nat} {C L : List CD3} {rec : HS → Nat → Option ((Nat ⊕ Nat) × HS)}
theorem SFa.sw {r r' : Option ((Nat ⊕ Nat) × HS)} (H : SFa N h0 Z W σ0 O r σ1) (hr : ∀ fa h', r = some (.inl fa, h') → r' = some (.inl fa, h')) (st : ∀ n, lX5_sentence_48 N (n + 1) σ 1 = lX5_sentence_48 N n σ1 1) : SFw N h0 Z W σ0 O r' σ := by
  obtain ⟨fa, h', σ', k', e1, e2, e3, e4, e5⟩ := H
  refine ⟨fa, h', σ', k' + 1, hr _ _ e1, by omega, fun n => ?_, e4, e5⟩
  rw [← Nat.add_assoc, st, e3]
theorem SFw.sw {O' k : Nat} {r r' : Option ((Nat ⊕ Nat) × HS)} (H : SFw N h0 Z W σ0 O' r σ1) (hr : ∀ fa h', r = some (.inl fa, h') → r' = some (.inl fa, h')) (hk : k ≤ 3 * (O' - O)) (h1 : O ≤ O') (h2 : O' ≤ 20) (st : ∀ n, lX5_sentence_48 N (n + k) σ 1 = lX5_sentence_48 N n σ1 1) : SFw N h0 Z W σ0 O r' σ := by
  obtain ⟨fa, h', σ', k', e1, e2, e3, e4, e5⟩ := H
  refine ⟨fa, h', σ', k' + k, hr _ _ e1, by omega, fun n => ?_, e4, e5⟩
  rw [← Nat.add_assoc, st, e3]
theorem SFw.sa {O' k : Nat} {r r' : Option ((Nat ⊕ Nat) × HS)} (H : SFw N h0 Z W σ0 O' r σ1) (hr : ∀ fa h', r = some (.inl fa, h') → r' = some (.inl fa, h')) (hk : k + 1 ≤ 3 * (O' - O)) (h1 : O ≤ O') (h2 : O' ≤ 20) (st : ∀ n, lX5_sentence_48 N (n + k) σ 1 = lX5_sentence_48 N n σ1 1) : SFa N h0 Z W σ0 O r' σ := by
  obtain ⟨fa, h', σ', k', e1, e2, e3, e4, e5⟩ := H
  refine ⟨fa, h', σ', k' + k, hr _ _ e1, by omega, fun n => ?_, e4, e5⟩
  rw [← Nat.add_assoc, st, e3]
/-- a Two is set: its left and right trees -/
theorem two_set {q c2 D1 D2 : Nat} {v : Bool} {L1 L2 : List CD3} (T : kT h q = 14) (Nn : kR h q 0 = none) (gz : kG h 0 ≤ q) (zq : q < kZ h) (bq : b + 18420 ≤ q) (H1 : CondR h (kI h) b F D1 c L1) (H2 : CondR h (kI h) b F D2 c2 L2) : ∃ h', fX18_init N h q c c2 (bI v) = some h' ∧ ond (fun y => y = q) h h' ∧ kT h' q = 14 ∧ kZ h' = kZ h ∧ kW h' = kW h ∧ CondR h' (kI h') b F (D1 + D2 + 1) q (L1 ++ L2 ++ [(if v = true then 11 else 12, 0, 0)]) := by
  obtain ⟨h', e⟩ : ∃ x, x = tI (tR (tR h q 0 (some c)) q 1 (some c2)) q 2 (bI v) := ⟨_, rfl⟩
  have od : ond (fun y => y = q) h h' := by rw [e]; exact (ond.tR.trans ond.tR).trans ond.tI
  have s1 : ∀ {d x M}, CondR h (kI h) b F d x M → CondR h' (kI h') b F d x M := fun H => H.ond od (fun y _ z => by have z : y = q := z; rw [z]; exact Or.inr ⟨Or.inr T, Nn⟩) _ _ _
  have r0 : kR h' q 0 = some c := by
    rw [e]
    show kR (tR (tR h q 0 (some c)) q 1 (some c2)) q 0 = _
    rw [kR_tR, if_neg (by omega), kR_tR, if_pos ⟨rfl, rfl⟩]
  have r1 : kR h' q 1 = some c2 := by
    rw [e]
    show kR (tR (tR h q 0 (some c)) q 1 (some c2)) q 1 = _
    rw [kR_tR, if_pos ⟨rfl, rfl⟩]
  refine ⟨h', ?_, od, by rw [e]; exact T, by rw [e]; rfl, by rw [e]; rfl, ⟨by rw [e]; exact ⟨zq, Or.inr (Or.inl bq)⟩, Or.inr (Or.inl ⟨by rw [e]; exact T, by unfold isr rf; rw [r0]; rfl, by unfold isr rf; rw [r1]; rfl, L1, L2, if v = true then 11 else 12, ?_, ?_, ?_, rfl⟩)⟩⟩
  · unfold fX18_init
    rw [pR_n (h := h) (by rw [T]; exact Nat.le_refl _) (by rw [T]; exact Nat.le_refl _) gz, Option.bind_some, pR_n (h := tR h q 0 (some c)) (by rw [show kT (tR h q 0 (some c)) q = 14 from T]; exact Nat.le_refl _) (by rw [show kT (tR h q 0 (some c)) q = 14 from T]; exact Nat.le_refl _) gz, Option.bind_some]
    have g1 : ∀ {α : Type} (x : Option α), gB (bI v) x = x := fun x => by cases v <;> rfl
    rw [g1, pI_n (h := tR (tR h q 0 (some c)) q 1 (some c2)) (by rw [show kT (tR (tR h q 0 (some c)) q 1 (some c2)) q = 14 from T]; exact Nat.le_refl _) (by rw [show kT (tR (tR h q 0 (some c)) q 1 (some c2)) q = 14 from T]; exact Nat.le_refl _) gz, Option.bind_some, e]
  · rw [show rf h' q 0 = c by unfold rf; rw [r0]; rfl]; exact (s1 H1).up _ _ _ _ (by omega)
  · rw [show rf h' q 1 = c2 by unfold rf; rw [r1]; rfl]; exact (s1 H2).up _ _ _ _ (by omega)
  · rw [e, kI_tI, if_pos ⟨rfl, rfl⟩]
    cases v
    · exact Or.inr ⟨rfl, rfl⟩
    · exact Or.inl ⟨rfl, rfl⟩
end PUO
