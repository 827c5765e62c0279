/-! houses: a way is put in -/
section PVO
variable {S : Nat → Prop} {h0 h h' h2 hb : HS} {σ0 σ σ' : MS} {N b rd sz lim P Zm Wm Z W a l n q p w wx k s : Nat} {sp : Bool} {F F' E : Nat → Nat} {nm nm' : Nat → Int64}
theorem HOK.wy (H : HOK F) (f3 : F 3 < 6) (e : ∀ i, i ≠ 3 → i ≠ 177 + F 3 → (i < 183 + 41 * F 3 ∨ 183 + 41 * F 3 + 41 ≤ i) → F' i = F i) (e3 : F' 3 = F 3 + 1) (e7 : 1 ≤ F' (177 + F 3) ∧ F' (177 + F 3) ≤ 41) (et : ∀ i, i < F' (177 + F 3) → tuf F (F' (183 + 41 * F 3 + i))) : HOK F' := by
  obtain ⟨⟨a0, a1, a2, a3, a4, a5, a6⟩, c1, c2, c3, c4, c5⟩ := H
  have e0 := e 0 (by decide) (by omega) (by omega)
  have e1 := e 1 (by decide) (by omega) (by omega)
  unfold HOK tuf
  unfold tuf at et c4 c5
  rw [e0, e1, e 2 (by decide) (by omega) (by omega), e 4 (by decide) (by omega) (by omega), e 5 (by decide) (by omega) (by omega), e 6 (by decide) (by omega) (by omega), e3]
  refine ⟨⟨a0, a1, a2, by omega, a4, a5, a6⟩, fun p hp => ?_, fun p h1 h2 => ?_, fun x hx => ?_, fun k hk => ?_, fun w hw => ?_⟩
  · rw [e _ (by omega) (by omega) (by omega), e _ (by omega) (by omega) (by omega), e _ (by omega) (by omega) (by omega)]; exact c1 p hp
  · rw [e _ (by omega) (by omega) (by omega)]; exact c2 p h1 h2
  · rw [e _ (by omega) (by omega) (by omega)]; exact c3 x hx
  · rw [e _ (by omega) (by omega) (by omega)]; exact c4 k hk
  · by_cases c : w = F 3
    · rw [c]; exact ⟨e7.1, e7.2, et⟩
    · rw [e (177 + w) (by omega) (by omega) (by omega)]
      obtain ⟨d1, d2, d3⟩ := c5 w (by omega)
      refine ⟨d1, d2, fun i hi => ?_⟩
      rw [e _ (by omega) (by omega) (by omega)]; exact d3 i hi
theorem way_h {x : Nat} (H : HBc b rd h F nm) (f3 : F 3 < 6) (e : ∀ i, i ≠ 3 → i ≠ 177 + F 3 → (i < 183 + 41 * F 3 ∨ 183 + 41 * F 3 + 41 ≤ i) → F' i = F i) (e3 : F' 3 = F 3 + 1) (e7 : 1 ≤ F' (177 + F 3) ∧ F' (177 + F 3) ≤ 41) (et : ∀ i, i < F' (177 + F 3) → tuf F (F' (183 + 41 * F 3 + i))) (hp : wayR h (kI h) b F' nm' x (F 3)) (ix : imm b (kZ h) x) (en1 : ∀ p, p < F 2 → nm' p = nm p) (en2 : ∀ w, w < F 3 → nm' (6 + w) = nm (6 + w)) (hz : kZ h + 1 ≤ kG h 1) (hw : kW h + 10 ≤ kG h 2) (gr : kG h 0 ≤ rd) (bz : b + 18420 ≤ rd) (e12 : kN h (kG h 12) = 0) :
    ∃ h7 S, fJ2_add N h (rd + 3) x = some (1, h7) ∧ ond S h h7 ∧ (∀ q, q < kZ h → S q → rd < q ∧ (kT h q = 15 ∨ kT h q = 39)) ∧ kZ h7 ≤ kZ h + 1 ∧ kW h7 ≤ kW h + 10 ∧ HBc b rd h7 F' nm' := by
  have zz := hb_z H
  have Hw := H.wk
  have t2 : kT h (rd + 1) = 2 := H.1.2.2.1
  have e8 : rf h (rd + 1) 8 = rd + 5 := H.2.1 8 (by decide) (by decide)
  have e9 : rf h (rd + 1) 9 = rd + 6 := H.2.1 9 (by decide) (by decide)
  have w8 : wlR h (kI h) b F (rd + 5) := by rw [← e8]; exact H.1.2.2.2.2.2.2.2.2.2.2.2.1
  have d9 : drR h (kI h) b F (rd + 6) := by rw [← e9]; exact H.1.2.2.2.2.2.2.2.2.2.2.2.2
  obtain ⟨h7, S, b1, b2, b3, b4, b5, b6, b7, b8⟩ := hb_add (N := N) Hw (x := x) 3 (by decide) (by decide) gr e12 (show F 3 < 10 by omega) ix (by unfold wOk; simp only [hp.1]; decide) hz hw bz
  have fn : ∀ j, 2 ≤ j → j ≤ 4 → F' (fN j) = if j = 3 then F (fN j) + 1 else F (fN j) := fun j j1 j2 => by
    rcases (show j = 2 ∨ j = 3 ∨ j = 4 by omega) with rfl | rfl | rfl
    · exact e 2 (by decide) (by omega) (by omega)
    · exact e3
    · exact e 5 (by decide) (by omega) (by omega)
  have hE : nEl S h := fun q hq z => by have := (b3 q hq z).2; omega
  have n1 : ¬ S (rd + 1) := fun z => by have := (b3 (rd + 1) (by omega) z).2; omega
  have n5 : ¬ S (rd + 5) := fun z => by have := (b3 (rd + 5) (by omega) z).2; rw [w8.2.1] at this; omega
  have n6 : ¬ S (rd + 6) := fun z => by have := (b3 (rd + 6) (by omega) z).2; rw [d9.2.1] at this; omega
  have c1 := b2.2.2 (rd + 1) (by omega) n1
  have x1 := H.2.1 5 (by decide) (by decide)
  have x2 := H.2.1 6 (by decide) (by decide)
  have x3 := H.2.1 7 (by decide) (by decide)
  have hi := H.1.2.2.2.2.1
  have f2 : F 2 ≤ 6 := H.1.1.1.2.2.1
  have f5 : F 5 ≤ 8 := H.1.1.1.2.2.2.2.2.1
  refine ⟨h7, S, b1, b2, b3, b4, b5, b8 F' nm' fn (hou_mk b2 hE H.1 (H.1.1.wy f3 e e3 e7 et) (c1.1.trans t2) (fun k _ _ => by rw [c1.2.2.2]) ⟨by rw [c1.2.2.1, e 0 (by decide) (by omega) (by omega)]; exact hi.1, by rw [c1.2.2.1, e 1 (by decide) (by omega) (by omega)]; exact hi.2.1, by rw [c1.2.2.1, e 6 (by decide) (by omega) (by omega)]; exact hi.2.2.1, by rw [c1.2.2.1, e 4 (by decide) (by omega) (by omega)]; exact hi.2.2.2⟩ ?_ ?_ ?_ (fun p hp' => Or.inl ?_) (fun w hw => ?_) (fun k hk => Or.inl ?_) ?_ ?_)⟩
  · rw [x1, e 2 (by decide) (by omega) (by omega)]; exact (b6 2 (by decide) (by decide)).1
  · rw [x2, e3]; exact (b6 3 (by decide) (by decide)).1
  · rw [x3, e 5 (by decide) (by omega) (by omega)]; exact (b6 4 (by decide) (by decide)).1
  · rw [x1]
    rw [e 2 (by decide) (by omega) (by omega)] at hp'
    exact ⟨hp', (b6 2 (by decide) (by decide)).2 p hp', e _ (by omega) (by omega) (by omega), e _ (by omega) (by omega) (by omega), e _ (by omega) (by omega) (by omega), en1 p hp'⟩
  · rw [x2]
    by_cases c : w = F 3
    · right
      rw [c, show le h7 (rd + 6 - 3) (F 3) = x from b7]
      exact hp.ond b2 hE ix.1
    · left
      have hw2 : w < F 3 := by omega
      have d2 := (H.1.1.2.2.2.2.2 w hw2).2.1
      exact ⟨hw2, (b6 3 (by decide) (by decide)).2 w hw2, e _ (by omega) (by omega) (by omega), fun i hi => e _ (by omega) (by omega) (by omega), en2 w hw2⟩
  · rw [x3]
    rw [e 5 (by decide) (by omega) (by omega)] at hk
    exact ⟨hk, (b6 4 (by decide) (by decide)).2 k hk, e _ (by omega) (by omega) (by omega)⟩
  · rw [e8]
    have := w8.ond b2 n5
    refine ⟨this.1, this.2.1, this.2.2.1, fun x hx => ?_⟩
    rw [e _ (by omega) (by omega) (by omega)]; exact this.2.2.2 x hx
  · rw [e9]
    have := d9.ond b2 n6
    refine ⟨this.1, this.2.1, this.2.2.1, fun t ht => ?_⟩
    rw [e 5 (by decide) (by omega) (by omega)]
    rcases this.2.2.2 t ht with ⟨x1, k, x2, x3⟩ | ⟨x1, x2⟩
    · exact Or.inl ⟨x1, k, x2, by rw [e _ (by omega) (by omega) (by omega)]; exact x3⟩
    · exact Or.inr ⟨x1, fun k hk => by rw [e _ (by omega) (by omega) (by omega)]; exact x2 k hk⟩
/-- the way that was read, as the house has it -/
theorem WyS.wr (X : WyS wx q k F E s h σ) (hk : k < 6) {l : List Nat} (sq : StrR h (kI h) b q l) (ok : okW l) (hz : wx + 3 ≤ kZ h) (bz : b + 18420 ≤ wx) (e7 : F' (177 + k) = s + 1) (eE : ∀ i, i ≤ s → F' (183 + 41 * k + i) = E (183 + 41 * k + i)) (en : nm' (6 + k) = enc l) : wayR h (kI h) b F' nm' wx k := by
  obtain ⟨⟨T, I3, R0, R1, R2, ⟨T1, N1⟩, T2, N2⟩, hs, tu, di, d0, ds, -⟩ := X
  have f0 : rf h wx 0 = q := by unfold rf; rw [R0]; rfl
  have f1 : rf h wx 1 = wx + 1 := by unfold rf; rw [R1]; rfl
  have f2 : rf h wx 2 = wx + 2 := by unfold rf; rw [R2]; rfl
  unfold wayR
  rw [f0, f1, f2, e7]
  refine ⟨T, by rw [I3]; rfl, by unfold isr; rw [f1]; exact R1, by unfold isr; rw [f2]; exact R2, ⟨⟨by omega, Or.inr (Or.inl (by omega))⟩, T1, N1⟩, ⟨⟨by omega, Or.inr (Or.inl (by omega))⟩, T2, N2⟩, fun i hi => ?_, by unfold isr; rw [f0]; exact R0, l, ok, sq, en⟩
  rw [eE i (by omega)]
  refine ⟨(tu i (by omega)).1, ?_⟩
  unfold dirM
  rw [e7]
  by_cases c : s + 1 = 1
  · rw [if_pos c]
    obtain rfl : i = 0 := by omega
    exact d0 (by omega)
  · rw [if_neg c]
    by_cases c2 : i + 1 < s + 1
    · rw [if_pos c2, eE i (by omega), show 183 + 41 * k + i + 1 = 183 + 41 * k + (i + 1) from rfl, eE (i + 1) (by omega)]; exact di i (by omega)
    · obtain rfl : i = s := by omega
      rw [if_neg c2, eE i (Nat.le_refl _), show 183 + 41 * k + i - 1 = 183 + 41 * k + (i - 1) by omega, eE (i - 1) (by omega)]; exact ds (by omega)
end PVO
