/-! the heap grows: what was stays -/
/-- the references that may change -/
def mR (b q k : Nat) : Prop := (q = b ∧ (k = 3 ∨ k = 5)) ∨ q = b + 2032 ∨ (k = 0 ∧ (q = b + 8 ∨ q = b + 2201 ∨ q = b + 4226 ∨ (b + 6250 ≤ q ∧ q < b + 18394 ∧ (q - (b + 6250)) % 2024 = 0))) ∨ (k < 2 ∧ (q = b + 2200 ∨ q = b + 4225))
section PGR
variable {b n r q : Nat} {h h' : HS} {σ : MS}
theorem Arr3.of (hA : Arr3 h q) (hT : ∀ x, q ≤ x → x < q + 1009 → kT h' x = kT h x ∧ kN h' x = kN h x ∧ kR h' x = kR h x) : Arr3 h' q := by
  obtain ⟨h1, h2, h3⟩ := hA
  have e0 := hT q (by omega) (by omega)
  refine ⟨by rw [e0.1]; exact h1, by rw [e0.2.1]; exact h2, fun t ht => ?_⟩
  obtain ⟨h4, h5, h6, h7⟩ := h3 t ht
  have e1 := hT (q + 1 + 7 * t) (by omega) (by omega)
  rw [e0.2.2, e1.1, e1.2.1, e1.2.2]
  refine ⟨h4, h5, h6, fun p hp => ?_⟩
  have e2 := hT (q + 2 + 7 * t + p) (by omega) (by omega)
  rw [e2.1, e2.2.1]
  exact h7 p hp
theorem RugS.of (hR : RugS h r) (hG : kG h' 0 = kG h 0) (hT : ∀ x, r ≤ x → x < r + 2024 → kT h' x = kT h x ∧ kN h' x = kN h x) (hK : ∀ x k, r ≤ x → x < r + 2024 → ¬ (x = r ∧ k = 0) → kR h' x k = kR h x k) : RugS h' r := by
  obtain ⟨h1, h2, h3, h4, h5, h6⟩ := hR
  refine ⟨by rw [(hT r (by omega) (by omega)).1]; exact h1, by rw [hG]; exact h2, fun k a e => ?_, fun a n e => ?_, h5.of fun x x1 x2 => ⟨(hT x (by omega) (by omega)).1, (hT x (by omega) (by omega)).2, funext fun k => hK x k (by omega) (by omega) (by omega)⟩, h6.of fun x x1 x2 => ⟨(hT x (by omega) (by omega)).1, (hT x (by omega) (by omega)).2, funext fun k => hK x k (by omega) (by omega) (by omega)⟩⟩
  · rw [hK r k (by omega) (by omega) (fun q => by obtain ⟨-, rfl⟩ := q; cases e)]
    exact h3 k a e
  · have ha : a < 2024 := by
      unfold ruA at e
      split at e <;> first | omega | cases e
    rw [(hT (r + a) (by omega) (by omega)).1, (hT (r + a) (by omega) (by omega)).2]
    exact h4 a n e
theorem FX.of (hF : FX h b) (hz : kZ h ≤ kZ h') (hG : kG h' 0 = kG h 0) (hT : ∀ x, b ≤ x → x < b + 18394 → kT h' x = kT h x ∧ kN h' x = kN h x) (hK : ∀ x k, b ≤ x → x < b + 18394 → ¬ mR b x k → kR h' x k = kR h x k) : FX h' b := by
  obtain ⟨h1, h2, h3, h4, h5, h6, h7, h8, h9, h10⟩ := hF
  refine ⟨by rw [(hT b (by omega) (by omega)).1]; exact h1, by rw [hG]; exact h2, by omega, fun k a e => ?_, fun a t n e => ?_, fun w hw => ?_, fun t ht => ?_, fun k hk => ?_, ?_, fun k hk => ?_⟩
  · rw [hK b k (by omega) (by omega) (fun q => by
      have h35 : k = 3 ∨ k = 5 := by unfold mR at q; omega
      rcases h35 with rfl | rfl <;> cases e)]
    exact h4 k a e
  · have ha : a < 18394 := by
      unfold fxA at e
      split at e <;> first | omega | cases e
    rw [(hT (b + a) (by omega) (by omega)).1, (hT (b + a) (by omega) (by omega)).2]
    exact h5 a t n e
  · rw [hK _ _ (by omega) (by omega) (fun q => by unfold mR at q; omega), (hT (b + 2040 + w) (by omega) (by omega)).1, (hT (b + 2040 + w) (by omega) (by omega)).2]
    exact h6 w hw
  · rw [hK _ _ (by omega) (by omega) (fun q => by unfold mR at q; omega), (hT (b + 2052 + t) (by omega) (by omega)).1, (hT (b + 2052 + t) (by omega) (by omega)).2]
    exact h7 t ht
  · obtain ⟨c1, c2, c3, c4⟩ := h8 k hk
    rw [hK (b + 2199) k (by omega) (by omega) (fun q => by unfold mR at q; omega), (hT (b + 2200 + 2025 * k) (by omega) (by omega)).1, hK (b + 2200 + 2025 * k) 2 (by omega) (by omega) (fun q => by unfold mR at q; omega)]
    exact ⟨c1, c2, c3, c4.of hG (fun x x1 x2 => hT x (by omega) (by omega)) fun x j x1 x2 hn => hK x j (by omega) (by omega) (fun q => by unfold mR at q; omega)⟩
  · exact h9.of hG (fun x x1 x2 => hT x (by omega) (by omega)) fun x j x1 x2 hn => hK x j (by omega) (by omega) (fun q => by unfold mR at q; omega)
  · exact (h10 k hk).of hG (fun x x1 x2 => hT x (by omega) (by omega)) fun x j x1 x2 hn => hK x j (by omega) (by omega) (fun q => by unfold mR at q; omega)
def grow (h h' : HS) : Prop := kZ h ≤ kZ h' ∧ kG h' = kG h ∧ ∀ q, q < kZ h → kT h' q = kT h q ∧ kN h' q = kN h q ∧ kI h' q = kI h q ∧ kR h' q = kR h q
theorem grow.kept (H : grow h h') : kept b h h' (kI h) (kI h') := ⟨H.1, fun q hq => by
  obtain ⟨a1, a2, a3, a4⟩ := H.2.2 q hq.1
  exact ⟨a1, a2, a4, a3⟩⟩
theorem LR.grow (hL : LR b n h σ) (H : grow h h') (r1 : kZ h' + 8000 * n ≤ kG h 1) (r2 : kW h' + 100000 * n ≤ kG h 2) : LR b n h' σ := by
  obtain ⟨⟨hF, ⟨o1, o2, o3⟩, hz⟩, hC, hT, ⟨F, a, hH, hU⟩, hK, hR, hM⟩ := hL
  have e : ∀ q, q < b + 18420 → kT h' q = kT h q ∧ kN h' q = kN h q ∧ kI h' q = kI h q ∧ kR h' q = kR h q := fun q hq => H.2.2 q (by omega)
  have K : kept b h h' (kI h) (kI h') := H.kept
  have e0 := e b (by omega)
  refine ⟨⟨hF.of H.1 (by rw [H.2.1]) (fun x x1 x2 => ⟨(e x (by omega)).1, (e x (by omega)).2.1⟩) (fun x k x1 x2 _ => by rw [(e x (by omega)).2.2.2]), ⟨by have := H.1; omega, by rw [(e _ (by omega)).1]; exact o2, by rw [(e _ (by omega)).2.1]; exact o3⟩, by rw [H.2.1]; exact ⟨r1, r2⟩⟩, hC.keep K H.2.1, hT.of (by rw [e0.2.2.1]) (by rw [e0.2.2.1]) (e _ (by omega)).2.2.1 rfl rfl rfl, ⟨F, a, ?_, hU.of (by rw [e0.2.2.1]) (e _ (by omega)).2.2.2 (fun q q1 q2 => ⟨(e q (by omega)).2.2.1, (e q (by omega)).2.2.2⟩) rfl rfl⟩, hK.of K (fun q q1 q2 => ⟨(e q (by omega)).2.2.1, (e q (by omega)).2.2.2⟩) rfl rfl rfl, hR.of (by rw [e0.2.2.1]) (by rw [e0.2.2.1]) (by rw [e0.2.2.1]) ⟨(e _ (by omega)).2.2.1, (e _ (by omega)).2.2.1, (e _ (by omega)).2.2.1, (e _ (by omega)).2.2.1⟩ ⟨rfl, rfl, rfl, rfl⟩ ⟨rfl, rfl, rfl, rfl⟩, hM⟩
  rw [e0.2.2.2]
  exact hH.keep K (by rw [(e (b + 8) (by omega)).2.2.2]) (fun q q1 q2 => (e q (by omega)).2.2.1) fun _ _ => rfl
/-- the law's own array is written -/
theorem LR.gone (hL : LR b n h σ) {g' : Nat → Nat → Int32} (hg : ∀ q, q ≠ b + 18419 → g' q = kI h q) : LR b n (iS h g') σ := by
  obtain ⟨⟨hF, hO, hz⟩, hC, hT, ⟨F, a, hH, hU⟩, hK, hR, hM⟩ := hL
  have K : kept b h (iS h g') (kI h) g' := ⟨Nat.le_refl _, fun q hq => ⟨rfl, rfl, rfl, hg q (by obtain ⟨_, h9⟩ := hq; omega)⟩⟩
  have e0 := hg b (by omega)
  exact ⟨⟨hF, hO, hz⟩, hC.keep K rfl, hT.of (by rw [kI_iS, e0]) (by rw [kI_iS, e0]) (hg (b + 1) (by omega)) rfl rfl rfl, ⟨F, a, hH.keep K rfl (fun q q1 q2 => hg q (by omega)) (fun _ _ => rfl), hU.of (by rw [kI_iS, e0]) rfl (fun q q1 q2 => ⟨hg q (by omega), rfl⟩) rfl rfl⟩, hK.of K (fun q q1 q2 => ⟨hg q (by omega), rfl⟩) rfl rfl rfl, hR.of (by rw [kI_iS, e0]) (by rw [kI_iS, e0]) (by rw [kI_iS, e0]) ⟨hg (b + 2037) (by omega), hg (b + 2038) (by omega), hg (b + 2048) (by omega), hg (b + 2198) (by omega)⟩ ⟨rfl, rfl, rfl, rfl⟩ ⟨rfl, rfl, rfl, rfl⟩, hM⟩
theorem LR.out (hL : LR b n h σ) (v : Int32) : LR b n (iS h (u2 (kI h) (b + 18419) 0 v)) σ := hL.gone fun q hq => u2_nf hq
end PGR
