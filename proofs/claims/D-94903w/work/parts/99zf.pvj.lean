/-! houses: line person -/
def mPers (N : Nat) (σ : MS) : Option (Int32 × MS) := ((rA σ 7 2).bind fun v59 => (if v59 = 6 then some (0, (fX5_bad σ 4).2) else ((fX5_next N σ).bind fun r61 => ((fX5_fresh N r61 (12 + v59)).bind fun r62 => (if r62.1 = 0 then (some (0, r62.2)) else ((fX5_takes N r62.2 1 9).bind fun r64 => (if r64.1 = 0 then (some (0, r64.2)) else ((wA r64.2 7 (7 + v59) (gI r64.2 18)).bind fun σ66 => ((fX5_takes N σ66 0 9).bind fun r67 => (if r67.1 = 0 then (some (0, r67.2)) else ((wA r67.2 7 (13 + v59) (gI r67.2 18)).bind fun σ69 => ((fX5_takes N σ69 1 9).bind fun r70 => (if r70.1 = 0 then (some (0, r70.2)) else ((wA r70.2 7 (19 + v59) (gI r70.2 18)).bind fun σ72 => ((rA σ72 7 2).bind fun v73 => ((wA σ72 7 2 (v73 + 1)).bind fun σ74 => some (1, σ74)))))))))))))))))
section PVJ
variable {S : Nat → Prop} {h0 h h' h2 : HS} {σ0 σ σ' : MS} {N b rd sz lim P Zm Wm Z W a l n q p w : Nat} {sp : Bool} {F F' : Nat → Nat} {nm nm' : Nat → Int64}
theorem rK.o (K : rK rd h h') (K2 : ond S h' h2) (hs : ∀ q, q < kZ h → ¬ S q) (hr : rd < kZ h) : rK rd h h2 := by
  obtain ⟨p1, p2, p3, p4⟩ := K2.2.2 rd (Nat.lt_of_lt_of_le hr K.1.1) (hs rd hr)
  exact ⟨K.1.tr K2 fun q hq z => absurd z (hs q hq), p1.trans K.2.1, by rw [p4]; exact K.2.2⟩
theorem HOK.pe (H : HOK F) (f2 : F 2 < 6) (e : ∀ i, i ≠ 2 → i ≠ 7 + F 2 → i ≠ 13 + F 2 → i ≠ 19 + F 2 → F' i = F i) (e2 : F' 2 = F 2 + 1) (e7 : 1 ≤ F' (7 + F 2) ∧ F' (7 + F 2) ≤ 9) (e13 : F' (13 + F 2) ≤ 9) (e19 : 1 ≤ F' (19 + F 2) ∧ F' (19 + F 2) ≤ 9) : HOK F' := by
  obtain ⟨⟨a0, a1, a2, a3, a4, a5, a6⟩, c1, c2, c3, c4, c5⟩ := H
  unfold HOK tuf
  rw [e 0 (by decide) (by omega) (by omega) (by omega), e 1 (by decide) (by omega) (by omega) (by omega), e 3 (by decide) (by omega) (by omega) (by omega), e 4 (by decide) (by omega) (by omega) (by omega), e 5 (by decide) (by omega) (by omega) (by omega), e 6 (by decide) (by omega) (by omega) (by omega), e2]
  refine ⟨⟨a0, a1, by omega, a3, a4, a5, a6⟩, fun p hp => ?_, fun p h1 h2 => ?_, fun x hx => ?_, fun k hk => ?_, fun w hw => ?_⟩
  · by_cases c : p = F 2
    · rw [c]; exact ⟨e7.1, e7.2, e13, e19.1, e19.2⟩
    · rw [e _ (by omega) (by omega) (by omega) (by omega), e _ (by omega) (by omega) (by omega) (by omega), e _ (by omega) (by omega) (by omega) (by omega)]; exact c1 p (by omega)
  · rw [e _ (by omega) (by omega) (by omega) (by omega)]; exact c2 p (by omega) h2
  · rw [e _ (by omega) (by omega) (by omega) (by omega)]; exact c3 x hx
  · rw [e _ (by omega) (by omega) (by omega) (by omega)]; exact c4 k hk
  · rw [e _ (by omega) (by omega) (by omega) (by omega)]
    refine ⟨(c5 w hw).1, (c5 w hw).2.1, fun i hi => ?_⟩
    rw [e _ (by omega) (by omega) (by omega) (by omega)]; exact (c5 w hw).2.2 i hi
/-- a person is put in -/
theorem pers_h {x : Nat} (H : HBc b rd h F nm) (f2 : F 2 < 6) (e : ∀ i, i ≠ 2 → i ≠ 7 + F 2 → i ≠ 13 + F 2 → i ≠ 19 + F 2 → F' i = F i) (e2 : F' 2 = F 2 + 1) (e7 : 1 ≤ F' (7 + F 2) ∧ F' (7 + F 2) ≤ 9) (e13 : F' (13 + F 2) ≤ 9) (e19 : 1 ≤ F' (19 + F 2) ∧ F' (19 + F 2) ≤ 9) (hp : perR h (kI h) b F' nm' x (F 2)) (ix : imm b (kZ h) x) (en1 : ∀ p, p < F 2 → nm' p = nm p) (en2 : ∀ w, w < F 3 → nm' (6 + w) = nm (6 + w)) (hz : kZ h + 1 ≤ kG h 1) (hw : kW h + 10 ≤ kG h 2) (gr : kG h 0 ≤ rd) (bz : b + 18420 ≤ rd) (e12 : kN h (kG h 12) = 0) :
    ∃ h7 S, fJ2_add N h (rd + 2) x = some (1, h7) ∧ ond S h h7 ∧ (∀ q, q < kZ h → S q → rd < q ∧ (kT h q = 15 ∨ kT h q = 39)) ∧ kZ h7 ≤ kZ h + 1 ∧ kW h7 ≤ kW h + 10 ∧ HBc b rd h7 F' nm' := by
  have zz := hb_z H
  have Hw := H.wk
  have t2 : kT h (rd + 1) = 2 := H.1.2.2.1
  have e8 : rf h (rd + 1) 8 = rd + 5 := H.2.1 8 (by decide) (by decide)
  have e9 : rf h (rd + 1) 9 = rd + 6 := H.2.1 9 (by decide) (by decide)
  have w8 : wlR h (kI h) b F (rd + 5) := by rw [← e8]; exact H.1.2.2.2.2.2.2.2.2.2.2.2.1
  have d9 : drR h (kI h) b F (rd + 6) := by rw [← e9]; exact H.1.2.2.2.2.2.2.2.2.2.2.2.2
  obtain ⟨h7, S, b1, b2, b3, b4, b5, b6, b7, b8⟩ := hb_add (N := N) Hw (x := x) 2 (by decide) (by decide) gr e12 (show F 2 < 10 by omega) ix (by unfold wOk; simp only [hp.1]; decide) hz hw bz
  have fn : ∀ j, 2 ≤ j → j ≤ 4 → F' (fN j) = if j = 2 then F (fN j) + 1 else F (fN j) := fun j j1 j2 => by
    rcases (show j = 2 ∨ j = 3 ∨ j = 4 by omega) with rfl | rfl | rfl
    · exact e2
    · exact e 3 (by decide) (by omega) (by omega) (by omega)
    · exact e 5 (by decide) (by omega) (by omega) (by omega)
  have hE : nEl S h := fun q hq z => by have := (b3 q hq z).2; omega
  have n1 : ¬ S (rd + 1) := fun z => by have := (b3 (rd + 1) (by omega) z).2; omega
  have n5 : ¬ S (rd + 5) := fun z => by have := (b3 (rd + 5) (by omega) z).2; rw [w8.2.1] at this; omega
  have n6 : ¬ S (rd + 6) := fun z => by have := (b3 (rd + 6) (by omega) z).2; rw [d9.2.1] at this; omega
  have c1 := b2.2.2 (rd + 1) (by omega) n1
  have x1 := H.2.1 5 (by decide) (by decide)
  have x2 := H.2.1 6 (by decide) (by decide)
  have x3 := H.2.1 7 (by decide) (by decide)
  have hi := H.1.2.2.2.2.1
  have f3 : F 3 ≤ 6 := H.1.1.1.2.2.2.1
  have f5 : F 5 ≤ 8 := H.1.1.1.2.2.2.2.2.1
  refine ⟨h7, S, b1, b2, b3, b4, b5, b8 F' nm' fn (hou_mk b2 hE H.1 (H.1.1.pe f2 e e2 e7 e13 e19) (c1.1.trans t2) (fun k _ _ => by rw [c1.2.2.2]) ⟨by rw [c1.2.2.1, e 0 (by decide) (by omega) (by omega) (by omega)]; exact hi.1, by rw [c1.2.2.1, e 1 (by decide) (by omega) (by omega) (by omega)]; exact hi.2.1, by rw [c1.2.2.1, e 6 (by decide) (by omega) (by omega) (by omega)]; exact hi.2.2.1, by rw [c1.2.2.1, e 4 (by decide) (by omega) (by omega) (by omega)]; exact hi.2.2.2⟩ ?_ ?_ ?_ (fun p hp' => ?_) (fun w hw => Or.inl ?_) (fun k hk => Or.inl ?_) ?_ ?_)⟩
  · rw [x1, e2]; exact (b6 2 (by decide) (by decide)).1
  · rw [x2, e 3 (by decide) (by omega) (by omega) (by omega)]; exact (b6 3 (by decide) (by decide)).1
  · rw [x3, e 5 (by decide) (by omega) (by omega) (by omega)]; exact (b6 4 (by decide) (by decide)).1
  · rw [x1]
    by_cases c : p = F 2
    · right
      rw [c, show le h7 (rd + 5 - 3) (F 2) = x from b7]
      exact hp.ond b2 hE ix.1
    · left
      have hp2 : p < F 2 := by omega
      exact ⟨hp2, (b6 2 (by decide) (by decide)).2 p hp2, e _ (by omega) (by omega) (by omega) (by omega), e _ (by omega) (by omega) (by omega) (by omega), e _ (by omega) (by omega) (by omega) (by omega), en1 p hp2⟩
  · rw [x2]
    rw [e 3 (by decide) (by omega) (by omega) (by omega)] at hw
    exact ⟨hw, (b6 3 (by decide) (by decide)).2 w hw, e _ (by omega) (by omega) (by omega) (by omega), fun i _ => e _ (by omega) (by omega) (by omega) (by omega), en2 w hw⟩
  · rw [x3]
    rw [e 5 (by decide) (by omega) (by omega) (by omega)] at hk
    exact ⟨hk, (b6 4 (by decide) (by decide)).2 k hk, e _ (by omega) (by omega) (by omega) (by omega)⟩
  · rw [e8]
    have := w8.ond b2 n5
    refine ⟨this.1, this.2.1, this.2.2.1, fun x hx => ?_⟩
    rw [e _ (by omega) (by omega) (by omega) (by omega)]; exact this.2.2.2 x hx
  · rw [e9]
    have := d9.ond b2 n6
    refine ⟨this.1, this.2.1, this.2.2.1, fun t ht => ?_⟩
    rw [e 5 (by decide) (by omega) (by omega) (by omega)]
    rcases this.2.2.2 t ht with ⟨x1, k, x2, x3⟩ | ⟨x1, x2⟩
    · exact Or.inl ⟨x1, k, x2, by rw [e _ (by omega) (by omega) (by omega) (by omega)]; exact x3⟩
    · exact Or.inr ⟨x1, fun k hk => by rw [e _ (by omega) (by omega) (by omega) (by omega)]; exact x2 k hk⟩
end PVJ
