/-! sentences: the reader and its trees -/
/-- what the reader of a sentence keeps -/
def sK (rd : Nat) (h h' : HS) : Prop := ond (fun q => q = rd) h h' ∧ kT h' rd = kT h rd ∧ (∀ k, k ≠ 8 → kR h' rd k = kR h rd k) ∧ ∀ k, (k < 3 ∨ 11 < k) → kI h' rd k = kI h rd k
section PUD
variable {h0 h h' h2 : HS} {σ σ' : MS} {N b rd sz lim P Zm Wm t : Nat} {sp : Bool} {F : Nat → Nat} {S : Nat → Prop} {g : Nat → Nat → Int32}
theorem sK.refl : sK rd h h := ⟨ond.refl, rfl, fun _ _ => rfl, fun _ _ => rfl⟩
theorem sK.trans (k1 : sK rd h h') (k2 : sK rd h' h2) : sK rd h h2 := ⟨k1.1.trans k2.1, k2.2.1.trans k1.2.1, fun k hk => (k2.2.2.1 k hk).trans (k1.2.2.1 k hk), fun k hk => (k2.2.2.2 k hk).trans (k1.2.2.2 k hk)⟩
theorem cK.sk (k : cK rd h h') : sK rd h h' := ⟨k.1, k.2.1, k.2.2.1, fun j hj => k.2.2.2 j (by omega)⟩
theorem CondR.ond (K : ond S h h') (hS : ∀ q, q < kZ h → S q → (5 ≤ kT h q ∧ kT h q ≤ 7) ∨ ((kT h q = 11 ∨ kT h q = 14) ∧ kR h q 0 = none)) : ∀ d c L, CondR h (kI h) b F d c L → CondR h' (kI h') b F d c L
  | 0, _, _, hc => hc
  | d + 1, c, L, hc => by
    obtain ⟨h1, h2⟩ := hc
    have nS : ¬ S c := fun z => by
      rcases hS c h1.1 z with y | ⟨y, y0⟩
      · rcases h2 with ⟨a1, -⟩ | ⟨a1, -⟩ | ⟨a1, -⟩ | ⟨a1, -⟩ <;> omega
      · rcases h2 with ⟨a1, a2, -⟩ | ⟨a1, a2, -⟩ | ⟨a1, -⟩ | ⟨a1, -⟩
        · unfold isr at a2; rw [y0] at a2; cases a2
        · unfold isr at a2; rw [y0] at a2; cases a2
        · omega
        · omega
    obtain ⟨p1, p2, p3, p4⟩ := K.2.2 c h1.1 nS
    have er : ∀ k, rf h' c k = rf h c k := fun k => by unfold rf; rw [p4]
    have ei : ∀ k, isr h c k → isr h' c k := fun k z => by unfold isr at z ⊢; rw [er, p4]; exact z
    refine ⟨h1.up K.1, ?_⟩
    rw [p1, p3, er, er]
    rcases h2 with ⟨a1, a2, L1, a3, a4⟩ | ⟨a1, a2, a3, L1, L2, k, a4, a5, a6, a7⟩ | h2 | h2
    · exact Or.inl ⟨a1, ei _ a2, L1, CondR.ond K hS d _ _ a3, a4⟩
    · exact Or.inr (Or.inl ⟨a1, ei _ a2, ei _ a3, L1, L2, k, CondR.ond K hS d _ _ a4, CondR.ond K hS d _ _ a5, a6, a7⟩)
    · exact Or.inr (Or.inr (Or.inl h2))
    · exact Or.inr (Or.inr (Or.inr h2))
theorem CondR.up : ∀ d e c L, CondR h g b F d c L → d ≤ e → CondR h g b F e c L
  | 0, _, _, _, hc, _ => hc.elim
  | d + 1, e, c, L, hc, he => by
    obtain ⟨e, rfl⟩ : ∃ x, e = x + 1 := ⟨e - 1, by omega⟩
    obtain ⟨h1, h2⟩ := hc
    refine ⟨h1, ?_⟩
    rcases h2 with ⟨a1, a2, L1, a3, a4⟩ | ⟨a1, a2, a3, L1, L2, k, a4, a5, a6, a7⟩ | h2 | h2
    · exact Or.inl ⟨a1, a2, L1, CondR.up d e _ _ a3 (by omega), a4⟩
    · exact Or.inr (Or.inl ⟨a1, a2, a3, L1, L2, k, CondR.up d e _ _ a4 (by omega), CondR.up d e _ _ a5 (by omega), a6, a7⟩)
    · exact Or.inr (Or.inr (Or.inl h2))
    · exact Or.inr (Or.inr (Or.inr h2))
theorem CondR.pos : ∀ d c L, CondR h g b F d c L → 1 ≤ L.length
  | 0, _, _, hc => hc.elim
  | d + 1, c, L, hc => by
    rcases hc.2 with ⟨a1, a2, L1, a3, a4⟩ | ⟨a1, a2, a3, L1, L2, k, a4, a5, a6, a7⟩ | ⟨a1, w, a2, a3, a4⟩ | ⟨a1, x, s, n, a2, a3, a4, a5, a6, a7, a8⟩
    · rw [a4, List.length_append]; exact Nat.le_add_left _ _
    · rw [a7, List.length_append]; exact Nat.le_add_left _ _
    · rw [a4]; exact Nat.le_refl _
    · rw [a8]; exact Nat.le_refl _
/-- an object of a tree is made or written -/
theorem PRS.obj (R : PRS h0 b rd sz lim Zm Wm sp P h σ) (K : ond S h h') (hS : ∀ q, q < kZ h → S q → kZ h0 ≤ q ∧ 11 ≤ kT h q ∧ kT h q ≤ 14) (hz : kZ h' ≤ kZ h + t) (hw : kW h' ≤ kW h + 8 * t) (r1 : Zm + t + 10 ≤ kG h 1) (r2 : Wm + 8 * t + 100 ≤ kG h 2) : PRS h0 b rd sz lim (Zm + t) (Wm + 8 * t) sp P h' σ := by
  obtain ⟨⟨RB0, ⟨g1, g2, g3, g4⟩, rj, ⟨z1, z2, z3⟩, z4, z5⟩, ⟨a, ha, a1, a2⟩, T, spr⟩ := R
  obtain ⟨b1, ⟨b2, b3, b4, b5⟩, b6, b7, b8⟩ := RB0
  obtain ⟨p1, p2, p3, p4⟩ := K.2.2 rd b1.2.2.2.2 fun z => by have := hS rd b1.2.2.2.2 z; omega
  obtain ⟨q1, q2, q3, q4⟩ := K.2.2 (b + 1) (by have := b1.2.2.2; omega) fun z => by have := hS (b + 1) (by have := b1.2.2.2; omega) z; omega
  have gr : grow h0 h' := ⟨Nat.le_trans g1.1 K.1, K.2.1.trans g1.2.1, fun q hq => by
    obtain ⟨c1, c2, c3, c4⟩ := g1.2.2 q hq
    obtain ⟨d1, d2, d3, d4⟩ := K.2.2 q (by have := g1.1; omega) fun z => by have := hS q (by have := g1.1; omega) z; omega
    exact ⟨d1.trans c1, d2.trans c2, d3.trans c3, d4.trans c4⟩⟩
  have kz := K.1
  refine ⟨⟨⟨by rw [p1, K.2.1]; exact ⟨b1.1, b1.2.1, b1.2.2.1, b1.2.2.2.1, Nat.lt_of_lt_of_le b1.2.2.2.2 kz⟩, ⟨by rw [p4]; exact b2, by rw [q1]; exact b3, by rw [q2]; exact b4, fun i hi => by rw [q3]; exact b5 i hi⟩, b6, by rw [p3]; exact b7, b8⟩, ⟨gr, g2, g3, g4⟩, rj, by rw [K.2.1]; exact ⟨by omega, r1, r2⟩, by omega, by omega⟩, ⟨a, ha, by rw [p3]; exact a1, a2⟩, ?_, fun w1 w2 => ?_⟩
  · unfold TKR at T ⊢
    rw [p3, p4]
    rcases T with T | T | ⟨t1, t2, q, l, t3, t4, t5, t6⟩ | T | T | T
    · exact Or.inl T
    · exact Or.inr (Or.inl T)
    · refine Or.inr (Or.inr (Or.inl ⟨t1, t2, q, l, t3, t4, t5.ond K (fun z => ?_) (fun z => ?_), t6⟩))
      · have k1 := t5.2.1
        have := hS _ t5.1.1 z
        omega
      · have k1 := t5.2.2.2.2.1
        have := hS _ t5.2.2.2.1.1 z
        omega
    · exact Or.inr (Or.inr (Or.inr (Or.inl T)))
    · exact Or.inr (Or.inr (Or.inr (Or.inr (Or.inl T))))
    · exact Or.inr (Or.inr (Or.inr (Or.inr (Or.inr T))))
  · rw [p3] at w2
    have := spr w1 w2
    omega
theorem PRS.mono {Zn Wn : Nat} (R : PRS h0 b rd sz lim Zm Wm sp P h σ) (l1 : Zm ≤ Zn) (l2 : Wm ≤ Wn) (r1 : Zn + 10 ≤ kG h 1) (r2 : Wn + 100 ≤ kG h 2) : PRS h0 b rd sz lim Zn Wn sp P h σ := by
  obtain ⟨⟨RB0, g, rj, ⟨z1, z2, z3⟩, z4, z5⟩, a, T, spr⟩ := R
  exact ⟨⟨RB0, g, rj, ⟨z1, r1, r2⟩, by omega, by omega⟩, a, T, fun w1 w2 => by have := spr w1 w2; omega⟩
theorem FLT.mono {Zn Wn fa : Nat} (R : FLT h0 Zm Wm h' fa σ') (l1 : Zm ≤ Zn) (l2 : Wm ≤ Wn) : FLT h0 Zn Wn h' fa σ' := ⟨R.1, R.2.1, R.2.2.1, R.2.2.2.1, by have := R.2.2.2.2.1; omega, by have := R.2.2.2.2.2; omega⟩
/-- a new one -/
theorem PRS.nw {k n : Nat} (R : PRS h0 b rd sz lim Zm Wm sp P h σ) (hn : n ≤ 8) (r1 : Zm + 1 + 10 ≤ kG h 1) (r2 : Wm + 8 + 100 ≤ kG h 2) : nO h k n = some (kZ h, tA h k 0 n) ∧ PRS h0 b rd sz lim (Zm + 1) (Wm + 8) sp P (tA h k 0 n) σ := by
  have z := R.1.2.2.2
  refine ⟨by unfold nO; rw [if_pos ⟨by omega, by omega⟩], PRS.obj (t := 1) R (ond.tA (t := k) (n := 0) (sl := n)) (fun _ _ z => z.elim) (Nat.le_refl _) ?_ r1 r2⟩
  show kW h + n ≤ _
  omega
end PUD
