/-! operations: undo, image, restore -/
def jS (σ : MS) (k : Nat) (f : Nat → Int64) : MS := (σ.1, σ.2.1, σ.2.2.1, fun j => if j = k then f else σ.2.2.2 j)
def cpJ (f : Nat → Int64) (D i : Nat) (V : Nat → Int64) : Nat → Int64 := fun j => if D ≤ j ∧ j < D + i then V (j - D) else f j
section JSL
variable (σ : MS) (k j i : Nat) (f g : Nat → Int64) (v : Int64)
theorem sJ_jS : sJ σ k i v = jS σ k (vp_updL (gJ σ k) i v) := rfl
theorem gJ_jS : gJ (jS σ k f) j = if j = k then f else gJ σ j := by
  unfold gJ jS; by_cases h : j = k <;> simp [h]
theorem jS_jS : jS (jS σ k f) k g = jS σ k g := by
  unfold jS
  simp only [Prod.mk.injEq, true_and]
  funext j
  by_cases h : j = k <;> simp [h]
theorem jS_id : jS σ k (gJ σ k) = σ := by
  obtain ⟨a, b, c, d⟩ := σ
  unfold jS gJ
  simp only [Prod.mk.injEq, true_and]
  funext j
  by_cases h : j = k <;> simp [h]
theorem gA_jS : gA (jS σ k f) = gA σ := rfl
theorem gI_jS : gI (jS σ k f) j = gI σ j := rfl
end JSL
theorem gJ_o {σ : MS} {k j : Nat} {f : Nat → Int64} (h : j ≠ k) : gJ (jS σ k f) j = gJ σ j := by rw [gJ_jS, if_neg h]
theorem gJ_e {σ : MS} {k : Nat} {f : Nat → Int64} : gJ (jS σ k f) k = f := by rw [gJ_jS, if_pos rfl]
theorem cpJ_0 (f : Nat → Int64) (D : Nat) (V : Nat → Int64) : cpJ f D 0 V = f := by
  funext j; unfold cpJ; rw [if_neg (by omega)]
theorem cpJ_in {f : Nat → Int64} {D i j : Nat} {V : Nat → Int64} (h1 : D ≤ j) (h2 : j < D + i) : cpJ f D i V j = V (j - D) := if_pos ⟨h1, h2⟩
theorem cpJ_out {f : Nat → Int64} {D i j : Nat} {V : Nat → Int64} (h : j < D ∨ D + i ≤ j) : cpJ f D i V j = f j := if_neg (by omega)
theorem cpJ_s (σ : MS) (k : Nat) (f : Nat → Int64) (D i : Nat) (V : Nat → Int64) : sJ (jS σ k (cpJ f D i V)) k (D + i) (V i) = jS σ k (cpJ f D (i + 1) V) := by
  rw [sJ_jS, gJ_e, jS_jS]
  congr 1
  funext j
  unfold vp_updL cpJ
  by_cases h1 : j = D + i
  · subst h1; rw [if_pos rfl, if_pos (by omega)]; congr 1; omega
  · rw [if_neg h1]
    by_cases h2 : D ≤ j ∧ j < D + i
    · rw [if_pos h2, if_pos (by omega)]
    · rw [if_neg h2, if_neg (by omega)]
section PIM
variable {σ : MS} {N k : Nat}
theorem mo_i18 (hN : 200000 ≤ N) (hk : k < 2) : lX5_image_18 N N σ (nI k) 0 = some (aS σ 52 (cpA (gA σ 52) (10265 * k) 10265 (gA σ 6))) := by
  have e := lp_fold (fun n (s : MS) i => lX5_image_18 N n s (nI k) i) (fun i => aS σ 52 (cpA (gA σ 52) (10265 * k) i (gA σ 6))) 10265 (aS σ 52 (cpA (gA σ 52) (10265 * k) 10265 (gA σ 6))) (fun n i hi => by
    rw [lX5_image_18]
    simp (disch := omega) only [pl_let, pl_lef, pl_ltt, pl_ltf, pl_eqf, pl_let1, pl_lef1, pl_ltt1, pl_ltf1, pl_eqf1, pl_let2, pl_lef2, pl_ltt2, pl_ltf2, pl_em1, if_true, if_false, ite_self, pl_la, pl_al, pl_lm, pl_ml, nI_add, pk_mul, pl_sl, pl_m1, rA6, wA52, Option.bind_some]
    rw [gA_o (by decide), ← cpA_s]) (fun n => by
    rw [lX5_image_18]
    simp (disch := omega) only [pl_let, pl_lef, pl_ltt, pl_ltf, pl_eqf, pl_let1, pl_lef1, pl_ltt1, pl_ltf1, pl_eqf1, pl_let2, pl_lef2, pl_ltt2, pl_ltf2, pl_em1, if_true, if_false, ite_self]) 10265 0 N rfl (by omega)
  rw [cpA_0, aS_id] at e
  exact e
theorem mo_i51 (hN : 200000 ≤ N) (hk : k < 2) : lX5_image_51 N N σ (nI k) 0 = some (jS σ 53 (cpJ (gJ σ 53) (12 * k) 12 (gJ σ 9))) := by
  have e := lp_fold (fun n (s : MS) i => lX5_image_51 N n s (nI k) i) (fun i => jS σ 53 (cpJ (gJ σ 53) (12 * k) i (gJ σ 9))) 12 (jS σ 53 (cpJ (gJ σ 53) (12 * k) 12 (gJ σ 9))) (fun n i hi => by
    rw [lX5_image_51]
    simp (disch := omega) only [pl_let, pl_lef, pl_ltt, pl_ltf, pl_eqf, pl_let1, pl_lef1, pl_ltt1, pl_ltf1, pl_eqf1, pl_let2, pl_lef2, pl_ltt2, pl_ltf2, pl_em1, if_true, if_false, ite_self, pl_la, pl_al, pl_lm, pl_ml, nI_add, pk_mul, pl_sl, pl_m1, rJ9, wJ53, Option.bind_some]
    rw [gJ_o (by decide), ← cpJ_s]) (fun n => by
    rw [lX5_image_51]
    simp (disch := omega) only [pl_let, pl_lef, pl_ltt, pl_ltf, pl_eqf, pl_let1, pl_lef1, pl_ltt1, pl_ltf1, pl_eqf1, pl_let2, pl_lef2, pl_ltt2, pl_ltf2, pl_em1, if_true, if_false, ite_self]) 12 0 N rfl (by omega)
  rw [cpJ_0, jS_id] at e
  exact e
theorem mo_r27 (hN : 200000 ≤ N) (hk : k < 2) : lX5_restore_27 N N σ (nI k) 0 = some (aS σ 6 (cpA (gA σ 6) 0 10265 (fun j => gA σ 52 (10265 * k + j)))) := by
  have e := lp_fold (fun n (s : MS) i => lX5_restore_27 N n s (nI k) i) (fun i => aS σ 6 (cpA (gA σ 6) 0 i (fun j => gA σ 52 (10265 * k + j)))) 10265 (aS σ 6 (cpA (gA σ 6) 0 10265 (fun j => gA σ 52 (10265 * k + j)))) (fun n i hi => by
    rw [lX5_restore_27]
    simp (disch := omega) only [pl_let, pl_lef, pl_ltt, pl_ltf, pl_eqf, pl_let1, pl_lef1, pl_ltt1, pl_ltf1, pl_eqf1, pl_let2, pl_lef2, pl_ltt2, pl_ltf2, pl_em1, if_true, if_false, ite_self, pl_la, pl_al, pl_lm, pl_ml, nI_add, pk_mul, pl_sl, pl_m1, rA52, wA6, Option.bind_some]
    rw [gA_o (by decide), ← cpA_s, Nat.zero_add]) (fun n => by
    rw [lX5_restore_27]
    simp (disch := omega) only [pl_let, pl_lef, pl_ltt, pl_ltf, pl_eqf, pl_let1, pl_lef1, pl_ltt1, pl_ltf1, pl_eqf1, pl_let2, pl_lef2, pl_ltt2, pl_ltf2, pl_em1, if_true, if_false, ite_self]) 10265 0 N rfl (by omega)
  rw [cpA_0, aS_id] at e
  exact e
theorem mo_r60 (hN : 200000 ≤ N) (hk : k < 2) : lX5_restore_60 N N σ (nI k) 0 = some (jS σ 9 (cpJ (gJ σ 9) 0 12 (fun j => gJ σ 53 (12 * k + j)))) := by
  have e := lp_fold (fun n (s : MS) i => lX5_restore_60 N n s (nI k) i) (fun i => jS σ 9 (cpJ (gJ σ 9) 0 i (fun j => gJ σ 53 (12 * k + j)))) 12 (jS σ 9 (cpJ (gJ σ 9) 0 12 (fun j => gJ σ 53 (12 * k + j)))) (fun n i hi => by
    rw [lX5_restore_60]
    simp (disch := omega) only [pl_let, pl_lef, pl_ltt, pl_ltf, pl_eqf, pl_let1, pl_lef1, pl_ltt1, pl_ltf1, pl_eqf1, pl_let2, pl_lef2, pl_ltt2, pl_ltf2, pl_em1, if_true, if_false, ite_self, pl_la, pl_al, pl_lm, pl_ml, nI_add, pk_mul, pl_sl, pl_m1, rJ53, wJ9, Option.bind_some]
    rw [gJ_o (by decide), ← cpJ_s, Nat.zero_add]) (fun n => by
    rw [lX5_restore_60]
    simp (disch := omega) only [pl_let, pl_lef, pl_ltt, pl_ltf, pl_eqf, pl_let1, pl_lef1, pl_ltt1, pl_ltf1, pl_eqf1, pl_let2, pl_lef2, pl_ltt2, pl_ltf2, pl_em1, if_true, if_false, ite_self]) 12 0 N rfl (by omega)
  rw [cpJ_0, jS_id] at e
  exact e
end PIM
section PIO
variable {b n N a : Nat} {h h' : HS} {g g' : Nat → Nat → Int32} {σ : MS} {F : Nat → Nat}
theorem HouR.nm {nm nm' : Nat → Int64} (hH : HouR h g b a F nm) (e : ∀ i, i < 12 → nm' i = nm i) : HouR h g b a F nm' := by
  obtain ⟨h0, h1, h2, h3, h4, h5, h6, h7, h8, h9, h10⟩ := hH
  have k2 := h0.1.2.2.1
  have k3 := h0.1.2.2.2.1
  exact ⟨h0, h1, h2, h3, h4, h5, h6, h7, fun p hp => by rw [e p (by omega)]; exact h8 p hp, fun w hw => by rw [e (6 + w) (by omega)]; exact h9 w hw, h10⟩
theorem HRS.mv (K : kept b h h' g g') {ha sn ha' sn' : Option Nat} {nm nm' : Nat → Int64} {f f' : Nat → Int32} {r r' : Nat} (hH : HRS h g b r ha sn nm f F a) (e1 : ha' = ha) (e2 : sn' = sn) (hr : kR h' r' 0 = some a) (hc : cpR g' r' g r) (hf : ∀ i, i < 10265 → f' i = f i) (hn : ∀ i, i < 12 → nm' i = nm i) : HRS h' g' b r' ha' sn' nm' f' F a := by
  obtain ⟨h1, h2, h3, h4, h5, h6⟩ := hH
  exact ⟨e1.trans h1, (h2.keep K).nm hn, fun i hi => by rw [hf i (by omega)]; exact h3 i hi, hr, h5.cp hc fun i _ hi => hf i (by omega), by rw [e2]; exact h6.keep K fun i hi => hf _ (by omega)⟩
theorem op_undo (hN : 200000 ≤ N) : LO_undo N b (LR b) := by
  intro n h σ hL
  obtain ⟨F, a, hf⟩ := hL.less.f
  obtain ⟨⟨hF, hO, hz⟩, hC, hT, ⟨hH, ⟨m, m1, m2, m3, π, p1, p2, p3⟩⟩, hK, hR, hM⟩ := id hf
  have I7 := fx_b hF (kI h) (k := 7)
  rw [iS_k] at I7
  unfold fX1_undo fX5_undo
  simp only [lt_, I7, m2, Option.bind_some, show gI (sI σ 0 0) 23 = nI m from m3]
  by_cases c : m = 0
  · subst c
    rw [if_pos (show nI 0 = 0 from rfl), if_pos (show nI 0 = 0 from rfl)]
    exact ⟨-1, h, _, rfl, rfl, hL.less.thrown 0⟩
  · rw [if_neg (show ¬ nI m = 0 from nI_ne0 (by omega) (by omega)), if_neg (show ¬ nI m = 0 from nI_ne0 (by omega) (by omega)), pl_s1 (by omega)]
    obtain ⟨tA, tN⟩ := hF.2.2.2.2.1 2032 _ _ rfl
    have hm : m - 1 < 6 := by omega
    have hB := hF.2.2.2.2.2.2.2.2.2 _ (p1 (m - 1) hm).1
    have hnow := hF.2.2.2.2.2.2.2.2.1
    have hπ := (p1 (m - 1) hm).1
    obtain ⟨q1, q2⟩ := p3 (m - 1) (by omega)
    obtain ⟨B, eB⟩ : ∃ B, B = b + 6250 + 2024 * π (m - 1) := ⟨_, rfl⟩
    rw [← eB] at q1 q2 hB
    obtain ⟨g1, e1, c1, f1⟩ := co_as (h := h) (g := u2 (kI h) b 7 (nI (m - 1))) (r := b + 8) (s := B) hN hnow hB (by omega)
    have P7 := fx_p hF (kI h) (k := 7) (v := nI (m - 1))
    rw [iS_k] at P7
    simp only [P7, Option.bind_some, fx_R4 hF, fx_R6 hF, fx_b hF, u2_eq]
    rw [fA_n (h := iS h (u2 (kI h) b 7 (nI (m - 1)))) tA (by rw [kN_iS, tN]; exact hm) (by rw [kN_iS, tN]; decide), kR_iS, (p1 (m - 1) hm).2, ← eB]
    simp only [Option.bind_some, ru_g hnow, e1]
    have hF1 : FX (tR h (b + 8) 0 (kR h B 0)) b := hF.of (Nat.le_refl _) rfl (fun _ _ _ => ⟨rfl, rfl⟩) fun x k x1 x2 hn => kR_ne (fun q => hn (by unfold mR; omega))
    have kRo : ∀ q, q ≠ b + 8 → kR (tR h (b + 8) 0 (kR h B 0)) q = kR h q := fun q hq => funext fun k => kR_ne (by omega)
    have hg : ∀ q, q ≠ b → (q < b + 8 ∨ b + 2032 ≤ q) → g1 q = kI h q := fun q q1 q2 => by rw [f1 q (by omega), u2_nf q1]
    have hb : ∀ k, k ≠ 7 → g1 b k = kI h b k := fun k hk => by rw [f1 b (by omega), u2_ne (Or.inr hk)]
    have h7 : g1 b 7 = nI (m - 1) := by rw [f1 b (by omega), u2_eq]
    have K : kept b h (iS (tR h (b + 8) 0 (kR h B 0)) g1) (kI h) g1 := ⟨Nat.le_refl _, fun q hq => ⟨rfl, rfl, kRo q (by obtain ⟨_, h9⟩ := hq; omega), hg q (by obtain ⟨_, h9⟩ := hq; omega) (by obtain ⟨_, h9⟩ := hq; omega)⟩⟩
    rw [mo_u26 (σ := sI (sI σ 0 0) 23 (nI (m - 1))) hN hm rfl]
    simp only [Option.bind_some, fx_b hF1, h7, gI_aS]
    refine ⟨nI (m - 1), iS (tR h (b + 8) 0 (kR h B 0)) g1, aS (sI (sI σ 0 0) 23 (nI (m - 1))) 6 (cpA (gA σ 6) 429 9655 fun j => gA σ 22 (9655 * (m - 1) + j)), rfl, rfl, LRF.lr (F := F) (a := a) ⟨⟨hF1, hO, hz⟩, hC.keep K rfl, hT.of (hb 1 (by decide)) (hb 2 (by decide)) (hg (b + 1) (by omega) (by omega)) rfl rfl (gA_o (by decide)), ⟨?_, ?_⟩, hK.of K (fun q q1 q2 => ⟨hg q (by omega) (by omega), kRo q (by omega)⟩) (gA_o (by decide)) (gA_o (by decide)) rfl, hR.of (hb 16 (by decide)) (hb 17 (by decide)) (hb 29 (by decide)) ⟨hg (b + 2037) (by omega) (by omega), hg (b + 2038) (by omega) (by omega), hg (b + 2048) (by omega) (by omega), hg (b + 2198) (by omega) (by omega)⟩ ⟨rfl, rfl, rfl, rfl⟩ ⟨gA_o (by decide), gA_o (by decide), gA_o (by decide), gA_o (by decide)⟩, hM⟩⟩
    · rw [kR_iS, kR_iS, kRo b (by omega), gA_same]
      obtain ⟨z1, z2, z3, z4, z5, z6⟩ := hH
      refine ⟨z1, z2.keep K, fun i hi => by rw [cpA_out (by omega)]; exact z3 i hi, by rw [kR_iS, kR_tR, if_pos ⟨rfl, rfl⟩]; exact q1, ?_, z6.keep K fun i hi => cpA_out (by omega)⟩
      have c2 : cpR g1 (b + 8) (kI h) B := ⟨by rw [c1.1, u2_nf (by omega)], fun c t p i hc ht hp hi => (c1.2.1 c t p i hc ht hp hi).trans (by unfold TC; rw [u2_nf (by omega)]), fun k t k1 k2 ht => (c1.2.2.1 k t k1 k2 ht).trans (by rw [u2_nf (by omega)]), fun p hp => (c1.2.2.2 p hp).trans (by rw [u2_nf (by omega)])⟩
      exact q2.cp c2 fun i i1 i2 => by rw [cpA_in i1 (by omega)]
    · refine ⟨m - 1, by omega, h7, rfl, π, fun k hk => by rw [kR_iS, kRo (b + 2032) (by omega)]; exact p1 k hk, p2, fun k hk => ?_⟩
      have := (p1 k (by omega)).1
      rw [kR_iS, kRo _ (by omega), gA_o (by decide)]
      exact ⟨(p3 k (by omega)).1, (p3 k (by omega)).2.of (fun q q1 q2 => hg q (by omega) (by omega)) fun _ _ _ => rfl⟩
end PIO
