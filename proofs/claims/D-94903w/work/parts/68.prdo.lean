/-! readings: the told tufts are looked at -/
section PRO
variable {h : HS} {g : Nat → Nat → Int32} {σ : MS} {N b a n K : Nat} {F : Nat → Nat} {nm : Nat → Int64}
/-- steps of way w on the tuft told at q -/
def ovw (σ : MS) (F : Nat → Nat) (q w : Nat) : Nat := cnt F w (12 * ocN σ (4 * q + 1) + ocN σ (4 * q)) (F (177 + w))
theorem ocN_o {f : Nat → Int32} {i : Nat} : ocN (aS σ 24 f) i = ocN σ i := by unfold ocN; rw [gA_o (by decide)]
theorem mo_r114 (hN : 200000 ≤ N) (hM : MH (gA σ 6) F) {q : Nat} {y1 : Int32} (hq : q < 8) (f : Nat → Int32) : ∃ f', lX5_readings_114 N N (aS σ 24 f) y1 (nI (4 * q)) 0 = some (aS σ 24 f') ∧ (∀ w, w < F 3 → f' (6 * q + w) = nI (ovw σ F q w)) ∧ ∀ i, (i < 6 * q ∨ 6 * q + 6 ≤ i) → f' i = f i := by
  have k3 : F 3 ≤ 6 := hM.1.1.2.2.2.1
  have key : okk (lX5_readings_114 N N (aS σ 24 f) y1 (nI (4 * q)) (nI 0)) (fun x => ∃ f', x = aS σ 24 f' ∧ (∀ w, w < 6 → w < F 3 → f' (6 * q + w) = nI (ovw σ F q w)) ∧ ∀ i, (i < 6 * q ∨ 6 * q + 6 ≤ i) → f' i = f i) := by
    refine okf (fun m (s : MS) i => lX5_readings_114 N m s y1 (nI (4 * q)) i) 6 (fun i s => ∃ f', s = aS σ 24 f' ∧ (∀ w, w < i → w < F 3 → f' (6 * q + w) = nI (ovw σ F q w)) ∧ ∀ i, (i < 6 * q ∨ 6 * q + 6 ≤ i) → f' i = f i) _ ?_ ?_ 0 (aS σ 24 f) N (by omega) (by omega) ⟨f, rfl, fun w hw => by omega, fun _ _ => rfl⟩
    · rintro i s m hi ⟨f', rfl, q1, q2⟩
      right
      have hMa : MH (gA (aS σ 24 f') 6) F := by rw [gA_o (by decide)]; exact hM
      obtain ⟨v, e1, e2⟩ := mo_r126 (N := N) (y1 := y1) hN hMa hq hi
      simp only [ocN_o] at e2
      have d : nI (4 * q) / 4 = nI q := by rw [show nI (4 * q) / 4 = nI (4 * q / 4) from pl_div (n := 4) (by omega) (by decide) (by decide), Nat.mul_div_cancel_left _ (by decide)]
      have ix : 6 * (nI (4 * q) / 4) + nI i = nI (6 * q + i) := by rw [d, pl_lm, nI_add]
      have wr : wA (aS σ 24 f') 24 (nI (6 * q + i)) v = some (aS σ 24 (upd f' (6 * q + i) v)) := (wA24 (by omega)).trans (by rw [sA_aS, gA_same, aS_aS])
      have l1 : ¬ (6 : Int32) ≤ nI i := nI_ge (b := 6) (by omega) (by omega)
      refine ⟨aS σ 24 (upd f' (6 * q + i) v), ⟨_, rfl, fun w hw hw3 => ?_, fun j hj => by rw [pk_un (by omega)]; exact q2 j hj⟩, ?_⟩
      · by_cases e : w = i
        · subst e; rw [pk_us]; exact e2 hw3
        · rw [pk_un (by omega)]; exact q1 w (by omega) hw3
      · rw [lX5_readings_114, if_neg l1, e1]
        simp only [Option.bind_some, ix, wr, show nI i + 1 = nI (i + 1) from nI_add _ 1]
    · rintro s m ⟨f', rfl, q1, q2⟩
      exact ⟨_, by rw [lX5_readings_114, if_pos (by decide)], f', rfl, q1, q2⟩
  obtain ⟨x, e1, f', rfl, q1, q2⟩ := key
  exact ⟨f', e1, fun w hw => q1 w (by omega) hw, q2⟩
def tgd (σ : MS) (F : Nat → Nat) (q : Nat) : Bool := decide ((ocN σ (4 * q) < F 0 ∧ ocN σ (4 * q + 1) < F 1) ∧ (ocN σ (4 * q + 3) ≤ 9 ∨ ocN σ (4 * q + 3) = 255))
theorem tl_c (hN : 200000 ≤ N) (hF : FX h b) (hH : HouR h g b a F nm) (h3 : kR h b 3 = some a) (hT : ∀ i, i < 940 → g (b + 1) i = gA σ 1 i) {q m : Nat} (hq : q < K) (hK : K ≤ 8) : lX1_takeTold_27 N (iS h g) (m + 1) b (nI (4 * K)) (4 * nI q) = if tgd σ F q = true then lX1_takeTold_27 N (iS h g) m b (nI (4 * K)) (4 * nI (q + 1)) else some (.inr (0, iS h g)) := by
  have R3 : fR (iS h g) b 1 1 3 = some a := (fx_f hF g).trans h3
  have k0 := hH.1.1.1
  have k1 := hH.1.1.2.1
  have oc : ∀ i, i < 940 → fX1_onTape N (iS h g) b (nI i) = some (nI (ocN σ i)) := fun i hi => (co_tape hF g hi).trans (congrArg some (by rw [hT i hi]; exact (oc_n i).1))
  have n0 : (4 : Int32) * nI q = nI (4 * q) := pl_lm 4 q
  have n4 : nI (4 * q) + 4 = 4 * nI (q + 1) := by rw [show (4 : Int32) * nI (q + 1) = nI (4 * (q + 1)) from pl_lm 4 _]; exact nI_add _ 4
  have o0 := oc (4 * q) (by omega)
  have o1 : fX1_onTape N (iS h g) b (nI (4 * q) + 1) = some (nI (ocN σ (4 * q + 1))) := by rw [show nI (4 * q) + 1 = nI (4 * q + 1) from nI_add _ 1]; exact oc _ (by omega)
  have o3 : fX1_onTape N (iS h g) b (nI (4 * q) + 3) = some (nI (ocN σ (4 * q + 3))) := by rw [show nI (4 * q) + 3 = nI (4 * q + 3) from nI_add _ 3]; exact oc _ (by omega)
  have b0 := (oc_n (σ := σ) (4 * q)).2
  have b1 := (oc_n (σ := σ) (4 * q + 1)).2
  have b3 := (oc_n (σ := σ) (4 * q + 3)).2
  have l1 : ¬ nI (4 * K) ≤ nI (4 * q) := nI_ge (by omega) (by omega)
  have cell : fX2_isCell N (iS h g) a (nI (ocN σ (4 * q))) (nI (ocN σ (4 * q + 1))) = some (if ocN σ (4 * q) < F 0 ∧ ocN σ (4 * q + 1) < F 1 then 1 else 0) := by
    unfold fX2_isCell
    rw [ho_0 hH]
    simp only [Option.bind_some, ho_1 hH]
    rcases isIn_cs (nI (ocN σ (4 * q))) (n := F 0) (by omega) with ⟨p1, p2⟩ | ⟨p1, i, p2, p3⟩
    · rw [p1, if_pos rfl, if_neg (fun e => p2 _ e.1 rfl)]
    · have e0 : ocN σ (4 * q) = i := (nI_eq (by omega) (by omega)).mp p3
      rw [p1, if_neg (by decide)]
      rcases isIn_cs (nI (ocN σ (4 * q + 1))) (n := F 1) (by omega) with ⟨p1, p2'⟩ | ⟨p1, j, p2', p3'⟩
      · rw [p1, if_pos rfl, if_neg (fun e => p2' _ e.2 rfl)]
      · have e1 : ocN σ (4 * q + 1) = j := (nI_eq (by omega) (by omega)).mp p3'
        rw [p1, if_neg (by decide), if_pos ⟨by omega, by omega⟩]
  rw [n0, lX1_takeTold_27, if_neg l1, R3]
  simp only [Option.bind_some, fx_g hF g, o0, o1, ho_g hH, cell, o3, n4]
  by_cases c1 : ocN σ (4 * q) < F 0 ∧ ocN σ (4 * q + 1) < F 1
  · simp only [if_pos c1, one0, if_false]
    by_cases c2 : ocN σ (4 * q + 3) ≤ 9
    · have t : tgd σ F q = true := decide_eq_true ⟨c1, Or.inl c2⟩
      rw [if_pos (show nI (ocN σ (4 * q + 3)) ≤ 9 from nI_le (b := 9) c2 (by decide)), if_pos t]
    · rw [if_neg (show ¬ nI (ocN σ (4 * q + 3)) ≤ 9 from nI_ge (a := 9) (by omega) (by omega))]
      by_cases c3 : ocN σ (4 * q + 3) = 255
      · have t : tgd σ F q = true := decide_eq_true ⟨c1, Or.inr c3⟩
        rw [if_pos (show nI (ocN σ (4 * q + 3)) = 255 from by rw [c3]; rfl), if_pos t]
      · have t : ¬ tgd σ F q = true := fun e => (of_decide_eq_true e).2.elim c2 c3
        rw [if_neg (show ¬ nI (ocN σ (4 * q + 3)) = 255 from fun e => c3 ((nI_eq (b := 255) (by omega) (by decide)).mp e)), if_neg t]
  · have t : ¬ tgd σ F q = true := fun e => c1 (of_decide_eq_true e).1
    simp only [if_neg c1, eq_self, if_true, if_neg t]
end PRO
