/-! what is kept: snap and keep, undo -/
def cpA (f : Nat → Int32) (D i : Nat) (V : Nat → Int32) : Nat → Int32 := fun j => if D ≤ j ∧ j < D + i then V (j - D) else f j
theorem cpA_0 (f : Nat → Int32) (D : Nat) (V : Nat → Int32) : cpA f D 0 V = f := by
  funext j; unfold cpA; rw [if_neg (by omega)]
theorem cpA_in {f : Nat → Int32} {D i j : Nat} {V : Nat → Int32} (h1 : D ≤ j) (h2 : j < D + i) : cpA f D i V j = V (j - D) := if_pos ⟨h1, h2⟩
theorem cpA_out {f : Nat → Int32} {D i j : Nat} {V : Nat → Int32} (h : j < D ∨ D + i ≤ j) : cpA f D i V j = f j := if_neg (by omega)
theorem cpA_s (σ : MS) (k : Nat) (f : Nat → Int32) (D i : Nat) (V : Nat → Int32) : sA (aS σ k (cpA f D i V)) k (D + i) (V i) = aS σ k (cpA f D (i + 1) V) := by
  rw [sA_aS, gA_same, aS_aS]
  congr 1
  funext j
  unfold upd cpA
  by_cases h1 : j = D + i
  · subst h1; rw [if_pos rfl, if_pos (by omega)]; congr 1; omega
  · rw [if_neg h1]
    by_cases h2 : D ≤ j ∧ j < D + i
    · rw [if_pos h2, if_pos (by omega)]
    · rw [if_neg h2, if_neg (by omega)]
theorem gA_o {σ : MS} {k j : Nat} {f : Nat → Int32} (h : j ≠ k) : gA (aS σ k f) j = gA σ j := by rw [gA_aS, if_neg h]
section PSM
variable {σ : MS} {N m : Nat}
theorem mo_k11 (hN : 200000 ≤ N) : lX5_keep_11 N N σ 0 = some (aS σ 22 (cpA (gA σ 22) 0 48275 fun j => gA σ 22 (j + 9655))) := by
  have e := lp_fold (fun n (s : MS) i => lX5_keep_11 N n s i) (fun i => aS σ 22 (cpA (gA σ 22) 0 i fun j => gA σ 22 (j + 9655))) 48275 (aS σ 22 (cpA (gA σ 22) 0 48275 fun j => gA σ 22 (j + 9655))) (fun n i hi => by
    rw [lX5_keep_11]
    simp (disch := omega) only [pl_let, pl_lef, pl_ltt, pl_ltf, pl_eqf, pl_let1, pl_lef1, pl_ltt1, pl_ltf1, pl_eqf1, pl_let2, pl_lef2, pl_ltt2, pl_ltf2, pl_em1, if_true, if_false, ite_self, pl_la, pl_al, pl_lm, pl_ml, nI_add, pk_mul, pl_sl, pl_m1, rA22, wA22, Option.bind_some]
    rw [gA_same, cpA_out (by omega), ← cpA_s, Nat.zero_add]) (fun n => by
    rw [lX5_keep_11]
    simp (disch := omega) only [pl_let, pl_lef, pl_ltt, pl_ltf, pl_eqf, pl_let1, pl_lef1, pl_ltt1, pl_ltf1, pl_eqf1, pl_let2, pl_lef2, pl_ltt2, pl_ltf2, pl_em1, if_true, if_false, ite_self]) 48275 0 N rfl (by omega)
  rw [cpA_0, aS_id] at e
  exact e
theorem mo_k47 (hN : 200000 ≤ N) (hm : m < 6) (h23 : gI σ 23 = nI m) : lX5_keep_47 N N σ 0 = some (aS σ 22 (cpA (gA σ 22) (9655 * m) 9655 fun j => gA σ 6 (429 + j))) := by
  have e := lp_fold (fun n (s : MS) i => lX5_keep_47 N n s i) (fun i => aS σ 22 (cpA (gA σ 22) (9655 * m) i fun j => gA σ 6 (429 + j))) 9655 (aS σ 22 (cpA (gA σ 22) (9655 * m) 9655 fun j => gA σ 6 (429 + j))) (fun n i hi => by
    rw [lX5_keep_47, gI_aS, h23]
    simp (disch := omega) only [pl_let, pl_lef, pl_ltt, pl_ltf, pl_eqf, pl_let1, pl_lef1, pl_ltt1, pl_ltf1, pl_eqf1, pl_let2, pl_lef2, pl_ltt2, pl_ltf2, pl_em1, if_true, if_false, ite_self, pl_la, pl_al, pl_lm, pl_ml, nI_add, pk_mul, pl_sl, pl_m1, rA6, wA22, Option.bind_some]
    rw [gA_o (by decide), ← cpA_s]) (fun n => by
    rw [lX5_keep_47]
    simp (disch := omega) only [pl_let, pl_lef, pl_ltt, pl_ltf, pl_eqf, pl_let1, pl_lef1, pl_ltt1, pl_ltf1, pl_eqf1, pl_let2, pl_lef2, pl_ltt2, pl_ltf2, pl_em1, if_true, if_false, ite_self]) 9655 0 N rfl (by omega)
  rw [cpA_0, aS_id] at e
  exact e
theorem mo_u26 (hN : 200000 ≤ N) (hm : m < 6) (h23 : gI σ 23 = nI m) : lX5_undo_26 N N σ 0 = some (aS σ 6 (cpA (gA σ 6) 429 9655 fun j => gA σ 22 (9655 * m + j))) := by
  have e := lp_fold (fun n (s : MS) i => lX5_undo_26 N n s i) (fun i => aS σ 6 (cpA (gA σ 6) 429 i fun j => gA σ 22 (9655 * m + j))) 9655 (aS σ 6 (cpA (gA σ 6) 429 9655 fun j => gA σ 22 (9655 * m + j))) (fun n i hi => by
    rw [lX5_undo_26, gI_aS, h23]
    simp (disch := omega) only [pl_let, pl_lef, pl_ltt, pl_ltf, pl_eqf, pl_let1, pl_lef1, pl_ltt1, pl_ltf1, pl_eqf1, pl_let2, pl_lef2, pl_ltt2, pl_ltf2, pl_em1, if_true, if_false, ite_self, pl_la, pl_al, pl_lm, pl_ml, nI_add, pk_mul, pl_sl, pl_m1, rA22, wA6, Option.bind_some]
    rw [gA_o (by decide), ← cpA_s]) (fun n => by
    rw [lX5_undo_26]
    simp (disch := omega) only [pl_let, pl_lef, pl_ltt, pl_ltf, pl_eqf, pl_let1, pl_lef1, pl_ltt1, pl_ltf1, pl_eqf1, pl_let2, pl_lef2, pl_ltt2, pl_ltf2, pl_em1, if_true, if_false, ite_self]) 9655 0 N rfl (by omega)
  rw [cpA_0, aS_id] at e
  exact e
end PSM
theorem pl_s1 {a : Nat} (h : 1 ≤ a) : nI a - 1 = nI (a - 1) := pk_sub h
theorem lp_from {α β : Type} (l : Nat → α → Int32 → Option β) (st : Nat → α) (i0 n : Nat) (r : β) (hs : ∀ m i, i0 ≤ i → i < n → l (m + 1) (st i) (nI i) = l m (st (i + 1)) (nI (i + 1))) (he : ∀ m, l (m + 1) (st n) (nI n) = some r) : ∀ k i fuel, i0 ≤ i → i + k = n → k < fuel → l fuel (st i) (nI i) = some r := by
  intro k
  induction k with
  | zero =>
    intro i fuel _ hi hf
    obtain ⟨m, rfl⟩ : ∃ m, fuel = m + 1 := ⟨fuel - 1, by omega⟩
    rw [show i = n by omega]
    exact he m
  | succ k ih =>
    intro i fuel h0 hi hf
    obtain ⟨m, rfl⟩ : ∃ m, fuel = m + 1 := ⟨fuel - 1, by omega⟩
    rw [hs m i h0 (by omega)]
    exact ih (i + 1) m (by omega) (by omega) (by omega)
/-- the relation with its house named -/
def LRF (b n : Nat) (h : HS) (σ : MS) (F : Nat → Nat) (a : Nat) : Prop := LRo b n h ∧ CS h (kI h) b ∧ LRt b (kI h) σ ∧ (HRS h (kI h) b (b + 8) (kR h b 3) (kR h b 5) (gJ σ 9) (gA σ 6) F a ∧ LRu h (kI h) b F a σ) ∧ LRk h (kI h) b σ ∧ LRr b (kI h) σ ∧ ∀ k, k < 20 → gJ σ 10 k = resw k
section PSN
variable {b n N a : Nat} {h : HS} {σ : MS} {F : Nat → Nat}
theorem LR.f (hL : LR b n h σ) : ∃ F a, LRF b n h σ F a := by
  obtain ⟨h1, h2, h3, ⟨F, a, h4⟩, h5⟩ := hL
  exact ⟨F, a, h1, h2, h3, h4, h5⟩
theorem LRF.lr (hL : LRF b n h σ F a) : LR b n h σ := by
  obtain ⟨h1, h2, h3, h4, h5⟩ := hL
  exact ⟨h1, h2, h3, ⟨F, a, h4⟩, h5⟩
theorem LRF.th (hL : LRF b n h σ F a) (v : Int32) : LRF b n h (sI σ 0 v) F a := hL
theorem LRF.less (hL : LRF b (n + 1) h σ F a) : LRF b n h σ F a := by
  obtain ⟨⟨h1, h2, h3, h4⟩, h5⟩ := hL
  exact ⟨⟨h1, h2, by omega, by omega⟩, h5⟩
theorem LRF.nw (hL : LRF b n h σ F a) : NW h (kI h) b σ F a := by
  obtain ⟨⟨hF, -⟩, hC, -, ⟨⟨h1, h2, h3, h4, h5, -⟩, -⟩, -⟩ := hL
  exact ⟨hF, hC, hF.2.2.2.2.2.2.2.2.1, h1, h4, h2, ⟨h2.1, h3⟩, h5⟩
def rS (h : HS) (a : Nat) (f : Nat → Option Nat) : HS := (h.1, h.2.1, h.2.2.1, fun x => if x = a then f else h.2.2.2.1 x, h.2.2.2.2)
theorem kR_rS (h : HS) (a x : Nat) (f : Nat → Option Nat) : kR (rS h a f) x = if x = a then f else kR h x := by
  funext j
  unfold kR rS
  by_cases e : x = a <;> simp [e]
theorem rS_id (h : HS) (a : Nat) : rS h a (kR h a) = h := by
  obtain ⟨p, q, r, s, t⟩ := h
  unfold rS kR
  simp only [Prod.mk.injEq, true_and, and_true]
  funext x
  by_cases e : x = a <;> simp [e]
theorem tR_rS (h : HS) (a k : Nat) (f : Nat → Option Nat) (v : Option Nat) : tR (rS h a f) a k v = rS h a (va_up f k v) := by
  unfold tR rS
  simp only [Prod.mk.injEq, true_and, and_true]
  funext x
  by_cases e : x = a <;> simp [e]
theorem rS_fA {A i : Nat} {f : Nat → Option Nat} (h1 : kT h A = 36) (h2 : kN h A = 6) (hi : i < 6) : fA (rS h A f) A 36 (nI i) = f i := by
  rw [fA_n (h := rS h A f) h1 (by show i < kN h A; rw [h2]; exact hi) (by show kN h A < _; rw [h2]; decide), kR_rS, if_pos rfl]
theorem rS_wR {A i y : Nat} {f : Nat → Option Nat} (h1 : kT h A = 36) (h2 : kN h A = 6) (h3 : kG h 0 ≤ A) (hi : i < 6) (hy : kT h y = 3) : wR (rS h A f) A 36 (nI i) (some y) = some (rS h A (va_up f i (some y))) := by
  rw [wR_n (h := rS h A f) h1 (by show i < kN h A; rw [h2]; exact hi) (by show kN h A < _; rw [h2]; decide) h3 (by
    unfold wOk
    simp [show kT (rS h A f) y = 3 from hy]), tR_rS]
/-- what snap does behind the turning -/
def snT (N : Nat) (h0 : HS) (x0 : Nat) : Option HS := ((fR h0 x0 1 1 6).bind fun a3 => ((oI h0 x0 1 1 7).bind fun v4 => ((fA h0 a3 36 v4).bind fun a5 => ((fR h0 x0 1 1 4).bind fun a6 => gT h0 a5 3 3 (((fX3_as N h0 a5 a6).bind fun r7 => ((oI r7.2 x0 1 1 7).bind fun v8 => ((pI r7.2 x0 1 1 7 (v8 + 1)).bind fun σ9 => some σ9))))))))
def kpT (N : Nat) (σ : MS) : Option MS := ((lX5_keep_47 N N σ 0).bind fun q5 => (lt_ (sI q5 23 ((gI q5 23) + 1)) fun σ6 => some σ6))
theorem snap_push (hN : 200000 ≤ N) (hL : LRF b n h σ F a) {m : Nat} (hm : m < 6) (h7 : kI h b 7 = nI m) : ∃ h' σ', snT N h b = some h' ∧ kpT N σ = some σ' ∧ LRF b n h' σ' F a ∧ gA σ' 6 = gA σ 6 ∧ ∀ j, j ≠ 23 → gI σ' j = gI σ j := by
  obtain ⟨⟨hF, hO, hz⟩, hC, hT, ⟨hH, ⟨m', m1, m2, m3, π, p1, p2, p3⟩⟩, hK, hR, hM⟩ := hL
  obtain rfl : m' = m := (nI_eq (by omega) (by omega)).mp (m2.symm.trans h7)
  obtain ⟨tA, tN⟩ := hF.2.2.2.2.1 2032 _ _ rfl
  have hπ := (p1 m' hm).1
  have hB := hF.2.2.2.2.2.2.2.2.2 _ hπ
  have hnow := hF.2.2.2.2.2.2.2.2.1
  obtain ⟨g1, e1, c1, f1⟩ := co_as (h := h) (g := kI h) (r := b + 6250 + 2024 * π m') (s := b + 8) hN hB hnow (by omega)
  obtain ⟨B, eB⟩ : ∃ B, B = b + 6250 + 2024 * π m' := ⟨_, rfl⟩
  rw [← eB] at e1 c1 f1 hB
  rw [iS_k] at e1
  have hF1 : FX (tR h B 0 (kR h (b + 8) 0)) b := hF.of (Nat.le_refl _) rfl (fun _ _ _ => ⟨rfl, rfl⟩) fun x k x1 x2 hn => kR_ne (fun q => hn (by unfold mR; omega))
  have kRo : ∀ q, q ≠ B → kR (tR h B 0 (kR h (b + 8) 0)) q = kR h q := fun q hq => funext fun k => kR_ne (by omega)
  have hg : ∀ q, q ≠ b → (q < B ∨ B + 2024 ≤ q) → u2 g1 b 7 (nI (m' + 1)) q = kI h q := fun q q1 q2 => by rw [u2_nf q1]; exact f1 q q2
  have hb : ∀ k, k ≠ 7 → u2 g1 b 7 (nI (m' + 1)) b k = kI h b k := fun k hk => by rw [u2_ne (Or.inr hk), f1 b (by omega)]
  have K : kept b h (iS (tR h B 0 (kR h (b + 8) 0)) (u2 g1 b 7 (nI (m' + 1)))) (kI h) (u2 g1 b 7 (nI (m' + 1))) := ⟨Nat.le_refl _, fun q hq => ⟨rfl, rfl, kRo q (by obtain ⟨_, h9⟩ := hq; omega), hg q (by obtain ⟨_, h9⟩ := hq; omega) (by obtain ⟨_, h9⟩ := hq; omega)⟩⟩
  refine ⟨iS (tR h B 0 (kR h (b + 8) 0)) (u2 g1 b 7 (nI (m' + 1))), sI (aS σ 22 (cpA (gA σ 22) (9655 * m') 9655 fun j => gA σ 6 (429 + j))) 23 (nI (m' + 1)), ?_, ?_, ⟨⟨hF1, hO, hz⟩, hC.keep K rfl, hT.of (hb 1 (by decide)) (hb 2 (by decide)) (hg (b + 1) (by omega) (by omega)) rfl rfl (gA_o (by decide)), ⟨?_, m' + 1, by omega, u2_eq _ _ _ _, rfl, π, fun k hk => by rw [kR_iS, kRo (b + 2032) (by omega)]; exact p1 k hk, p2, fun k hk => ?_⟩, hK.of K (fun q q1 q2 => ⟨hg q (by omega) (by omega), kRo q (by omega)⟩) (gA_o (by decide)) (gA_o (by decide)) rfl, hR.of (hb 16 (by decide)) (hb 17 (by decide)) (hb 29 (by decide)) ⟨hg (b + 2037) (by omega) (by omega), hg (b + 2038) (by omega) (by omega), hg (b + 2048) (by omega) (by omega), hg (b + 2198) (by omega) (by omega)⟩ ⟨rfl, rfl, rfl, rfl⟩ ⟨gA_o (by decide), gA_o (by decide), gA_o (by decide), gA_o (by decide)⟩, hM⟩, gA_o (by decide), fun j hj => by rw [gI_sI, if_neg hj]; rfl⟩
  · unfold snT
    have R6 := fx_R6 hF (kI h)
    have R4 := fx_R4 hF (kI h)
    have I7 := fx_b hF (kI h) (k := 7)
    rw [iS_k] at R6 R4 I7
    simp only [R6, R4, I7, Option.bind_some, h7]
    rw [fA_n tA (by rw [tN]; exact hm) (by rw [tN]; decide), (p1 m' hm).2, ← eB]
    simp only [Option.bind_some]
    rw [gT_n (by rw [hB.1]; decide) (by rw [hB.1]; decide), e1]
    simp only [Option.bind_some, fx_b hF1, fx_p hF1]
    rw [f1 b (by omega), h7, nI_1]
  · unfold kpT
    rw [mo_k47 hN hm m3]
    simp only [Option.bind_some, lt_]
    rw [gI_aS, m3, nI_1]
  · rw [kR_iS, kR_iS, kRo b (by omega), show gA (sI (aS σ 22 (cpA (gA σ 22) (9655 * m') 9655 fun j => gA σ 6 (429 + j))) 23 (nI (m' + 1))) 6 = gA σ 6 from gA_o (by decide)]
    exact hH.keep K (by rw [kR_iS, kRo (b + 8) (by omega)]) (fun q q1 q2 => hg q (by omega) (by omega)) fun _ _ => rfl
  · rw [show gA (sI (aS σ 22 (cpA (gA σ 22) (9655 * m') 9655 fun j => gA σ 6 (429 + j))) 23 (nI (m' + 1))) 22 = cpA (gA σ 22) (9655 * m') 9655 fun j => gA σ 6 (429 + j) from gA_same _ _ _]
    by_cases ek : k = m'
    · subst ek
      rw [← eB, kR_iS, kR_tR, if_pos ⟨rfl, rfl⟩]
      refine ⟨hH.2.2.2.1, (hH.2.2.2.2.1.cp (f' := fun i => cpA (gA σ 22) (9655 * k) 9655 (fun j => gA σ 6 (429 + j)) (9655 * k + (i - 429))) c1 fun i i1 i2 => ?_).of (fun q q1 q2 => u2_nf (by omega)) fun _ _ _ => rfl⟩
      rw [cpA_in (by omega) (by omega)]; congr 1; omega
    · have hk6 := (p1 k (by omega)).1
      have hne : π k ≠ π m' := fun e => ek (p2 k m' (by omega) hm e)
      rw [kR_iS, kRo _ (by omega)]
      refine ⟨(p3 k (by omega)).1, (p3 k (by omega)).2.of (fun q q1 q2 => hg q (by omega) (by omega)) fun i i1 i2 => ?_⟩
      rw [cpA_out (by omega)]
/-- the oldest goes: six are kept -/
theorem snap_rot (hN : 200000 ≤ N) (hL : LRF b n h σ F a) (h7 : kI h b 7 = nI 6) : ∃ h2 σ2, LRF b n h2 σ2 F a ∧ kI h2 b 7 = nI 5 ∧ gA σ2 6 = gA σ 6 ∧ (∀ j, j ≠ 23 → gI σ2 j = gI σ j) ∧ fX1_snap N h b = snT N h2 b ∧ fX5_keep N σ = kpT N σ2 := by
  obtain ⟨⟨hF, hO, hz⟩, hC, hT, ⟨hH, ⟨m, m1, m2, m3, π, p1, p2, p3⟩⟩, hK, hR, hM⟩ := hL
  obtain rfl : m = 6 := (nI_eq (by omega) (by decide)).mp (m2.symm.trans h7)
  obtain ⟨tA, tN⟩ := hF.2.2.2.2.1 2032 _ _ rfl
  have hgA : kG h 0 ≤ b + 2032 := by have := hF.2.1; omega
  have B : ∀ k, k < 6 → kR h (b + 2032) k = some (b + 6250 + 2024 * π k) := fun k hk => (p1 k hk).2
  have rug : ∀ k, k < 6 → kT h (b + 6250 + 2024 * π k) = 3 := fun k hk => (hF.2.2.2.2.2.2.2.2.2 _ (p1 k hk).1).1
  have FXr : ∀ f, FX (rS h (b + 2032) f) b := fun f => hF.of (Nat.le_refl _) rfl (fun _ _ _ => ⟨rfl, rfl⟩) fun x k x1 x2 hn => by rw [kR_rS, if_neg (fun q => hn (by unfold mR; omega))]
  have R6 : ∀ f, fR (rS h (b + 2032) f) b 1 1 6 = some (b + 2032) := fun f => fx_R6 (FXr f) (kI h)
  have e18 := lp_from (fun n (s : HS) i => lX1_snap_18 N n s b (b + 6250 + 2024 * π 0) i) (fun i => rS h (b + 2032) (fun j => if j + 1 < i then kR h (b + 2032) (j + 1) else kR h (b + 2032) j)) 1 6 (rS h (b + 2032) (fun j => if j + 1 < 6 then kR h (b + 2032) (j + 1) else kR h (b + 2032) j)) (fun n i hi0 hi => by
    rw [lX1_snap_18, R6, if_neg (show ¬ (6 : Int32) ≤ nI i from nI_ge (b := 6) hi (by decide))]
    simp only [Option.bind_some]
    rw [rS_fA tA tN hi, if_neg (by omega), B i hi]
    simp only [Option.bind_some]
    rw [pl_s1 hi0, rS_wR tA tN hgA (show i - 1 < 6 by omega) (rug i hi), nI_1]
    simp only [Option.bind_some]
    congr 2
    funext j
    unfold va_up
    by_cases e : j = i - 1
    · rw [if_pos e, if_pos (by omega), ← B i hi]; congr 1; omega
    · rw [if_neg e]
      show (if j + 1 < i then _ else _) = _
      by_cases e2 : j + 1 < i
      · rw [if_pos e2, if_pos (by omega)]
      · rw [if_neg e2, if_neg (by omega)]) (fun n => by
    rw [lX1_snap_18]; rfl) 5 1 N (by omega) rfl (by omega)
  have e0 : rS h (b + 2032) (fun j => if j + 1 < 1 then kR h (b + 2032) (j + 1) else kR h (b + 2032) j) = h := by
    rw [show (fun j => if j + 1 < 1 then kR h (b + 2032) (j + 1) else kR h (b + 2032) j) = kR h (b + 2032) from funext fun j => if_neg (by omega), rS_id]
  simp only [e0] at e18
  obtain ⟨f5, hf5⟩ : ∃ f5 : Nat → Option Nat, f5 = va_up (fun j => if j + 1 < 6 then kR h (b + 2032) (j + 1) else kR h (b + 2032) j) 5 (some (b + 6250 + 2024 * π 0)) := ⟨_, rfl⟩
  have v5 : ∀ k, k < 6 → f5 k = some (b + 6250 + 2024 * π (if k = 5 then 0 else k + 1)) := fun k hk => by
    rw [hf5]
    unfold va_up
    by_cases e : k = 5
    · rw [if_pos e, if_pos e]
    · rw [if_neg e, if_neg e]
      show (if k + 1 < 6 then _ else _) = _
      rw [if_pos (by omega), B (k + 1) (by omega)]
  have kRo : ∀ q, q ≠ b + 2032 → kR (rS h (b + 2032) f5) q = kR h q := fun q hq => by rw [kR_rS, if_neg hq]
  have hg : ∀ q, q ≠ b → u2 (kI h) b 7 (nI 5) q = kI h q := fun q q1 => u2_nf q1
  have hb : ∀ k, k ≠ 7 → u2 (kI h) b 7 (nI 5) b k = kI h b k := fun k hk => u2_ne (Or.inr hk)
  have K : kept b h (iS (rS h (b + 2032) f5) (u2 (kI h) b 7 (nI 5))) (kI h) (u2 (kI h) b 7 (nI 5)) := ⟨Nat.le_refl _, fun q hq => ⟨rfl, rfl, kRo q (by obtain ⟨_, h9⟩ := hq; omega), hg q (by obtain ⟨_, h9⟩ := hq; omega)⟩⟩
  refine ⟨iS (rS h (b + 2032) f5) (u2 (kI h) b 7 (nI 5)), sI (aS σ 22 (cpA (gA σ 22) 0 48275 fun j => gA σ 22 (j + 9655))) 23 5, ⟨⟨FXr f5, hO, hz⟩, hC.keep K rfl, hT.of (hb 1 (by decide)) (hb 2 (by decide)) (hg (b + 1) (by omega)) rfl rfl (gA_o (by decide)), ⟨?_, 5, by decide, u2_eq _ _ _ _, rfl, fun k => π (if k = 5 then 0 else k + 1), fun k hk => ?_, fun j k hj hk e => ?_, fun k hk => ?_⟩, hK.of K (fun q q1 q2 => ⟨hg q (by omega), kRo q (by omega)⟩) (gA_o (by decide)) (gA_o (by decide)) rfl, hR.of (hb 16 (by decide)) (hb 17 (by decide)) (hb 29 (by decide)) ⟨hg (b + 2037) (by omega), hg (b + 2038) (by omega), hg (b + 2048) (by omega), hg (b + 2198) (by omega)⟩ ⟨rfl, rfl, rfl, rfl⟩ ⟨gA_o (by decide), gA_o (by decide), gA_o (by decide), gA_o (by decide)⟩, hM⟩, u2_eq _ _ _ _, gA_o (by decide), fun j hj => by rw [gI_sI, if_neg hj]; rfl, ?_, ?_⟩
  · rw [kR_iS, kR_iS, kRo b (by omega), show gA (sI (aS σ 22 (cpA (gA σ 22) 0 48275 fun j => gA σ 22 (j + 9655))) 23 5) 6 = gA σ 6 from gA_o (by decide)]
    exact hH.keep K (by rw [kR_iS, kRo (b + 8) (by omega)]) (fun q q1 q2 => hg q (by omega)) fun _ _ => rfl
  · rw [kR_iS, kR_rS, if_pos rfl, v5 k hk]
    exact ⟨(p1 _ (by split <;> omega)).1, rfl⟩
  · have := p2 (if j = 5 then 0 else j + 1) (if k = 5 then 0 else k + 1) (by split <;> omega) (by split <;> omega) e
    split at this <;> split at this <;> omega
  · simp only
    rw [if_neg (by omega), kR_iS, show gA (sI (aS σ 22 (cpA (gA σ 22) 0 48275 fun j => gA σ 22 (j + 9655))) 23 5) 22 = cpA (gA σ 22) 0 48275 fun j => gA σ 22 (j + 9655) from gA_same _ _ _]
    have := (p1 (k + 1) (by omega)).1
    rw [kRo _ (by omega)]
    refine ⟨(p3 (k + 1) (by omega)).1, (p3 (k + 1) (by omega)).2.of (fun q q1 q2 => hg q (by omega)) fun i i1 i2 => ?_⟩
    rw [cpA_in (by omega) (by omega)]; exact congrArg (gA σ 22) (by omega)
  · unfold fX1_snap
    have R6h := fx_R6 hF (kI h)
    have I7 := fx_b hF (kI h) (k := 7)
    have I7r := fx_b (FXr f5) (kI h) (k := 7)
    have P7 := fx_p (FXr f5) (kI h) (k := 7) (v := nI 6 - 1)
    rw [iS_k] at R6h I7
    rw [show iS (rS h (b + 2032) f5) (kI h) = rS h (b + 2032) f5 from rfl] at I7r P7
    rw [I7, h7]
    simp only [Option.bind_some]
    rw [if_pos (show nI 6 = 6 from rfl), R6h]
    simp only [Option.bind_some]
    rw [show fA h (b + 2032) 36 0 = some (b + 6250 + 2024 * π 0) from (fA_n (n := 0) tA (by rw [tN]; decide) (by rw [tN]; decide)).trans (B 0 (by decide))]
    simp only [Option.bind_some]
    rw [show lX1_snap_18 N N h b (b + 6250 + 2024 * π 0) 1 = some _ from e18]
    simp only [Option.bind_some, R6]
    rw [show wR (rS h (b + 2032) (fun j => if j + 1 < 6 then kR h (b + 2032) (j + 1) else kR h (b + 2032) j)) (b + 2032) 36 5 (some (b + 6250 + 2024 * π 0)) = some (rS h (b + 2032) f5) by rw [hf5]; exact rS_wR (i := 5) tA tN hgA (by decide) (rug 0 (by decide))]
    simp only [Option.bind_some, I7r, h7, P7]
    rfl
  · unfold fX5_keep
    rw [m3, if_pos (show nI 6 = 6 from rfl), mo_k11 hN]; rfl
theorem snap (hN : 200000 ≤ N) (hL : LRF b n h σ F a) : ∃ h' σ', fX1_snap N h b = some h' ∧ fX5_keep N σ = some σ' ∧ LRF b n h' σ' F a ∧ gA σ' 6 = gA σ 6 ∧ ∀ j, j ≠ 23 → gI σ' j = gI σ j := by
  obtain ⟨⟨hF, -⟩, -, -, ⟨-, ⟨m, m1, m2, m3, -⟩⟩, -⟩ := id hL
  by_cases c : m = 6
  · subst c
    obtain ⟨h2, σ2, q1, q2, q3, q4, q5, q6⟩ := snap_rot hN hL m2
    obtain ⟨h', σ', r1, r2, r3, r4, r5⟩ := snap_push hN q1 (by decide) q2
    exact ⟨h', σ', q5.trans r1, q6.trans r2, r3, r4.trans q3, fun j hj => (r5 j hj).trans (q4 j hj)⟩
  · obtain ⟨h', σ', r1, r2, r3, r4, r5⟩ := snap_push hN hL (show m < 6 by omega) m2
    refine ⟨h', σ', ?_, ?_, r3, r4, r5⟩
    · rw [← r1]
      have I7 := fx_b hF (kI h) (k := 7)
      rw [iS_k] at I7
      unfold fX1_snap snT
      simp only [I7, m2, Option.bind_some]
      rw [if_neg (show ¬ nI m = 6 from fun e => c ((nI_eq (b := 6) (by omega) (by decide)).mp e))]
    · rw [← r2]
      unfold fX5_keep
      rw [m3, if_neg (show ¬ nI m = 6 from fun e => c ((nI_eq (b := 6) (by omega) (by decide)).mp e))]; rfl
end PSN
