/-! operation: goes -/
theorem sA_6 (σ : MS) (k i : Nat) (f : Nat → Int32) (v : Int32) : sA (aS σ k f) k i v = aS σ k (upd f i v) := by rw [sA_aS, gA_same, aS_aS]
section PGO
variable {h : HS} {g : Nat → Nat → Int32} {σ : MS} {N b a n : Nat} {F : Nat → Nat} {nm : Nat → Int64}
/-- the rug of now changes, all else stays -/
def RPw (h : HS) (g : Nat → Nat → Int32) (σ : MS) (b : Nat) (F : Nat → Nat) (s : HS) (s' : MS) : Prop := ∃ g' f', s = iS h g' ∧ s' = aS σ 6 f' ∧ RugR g' (b + 8) F f' ∧ (∀ j, (j < 429 ∨ 10084 ≤ j) → f' j = gA σ 6 j) ∧ ∀ x, (x < b + 8 ∨ b + 2032 ≤ x) → g' x = g x
def RP (h : HS) (g : Nat → Nat → Int32) (σ : MS) (b : Nat) (F : Nat → Nat) (s : HS) (s' : MS) : Prop := ∃ g' f', s = iS h g' ∧ s' = aS σ 6 f' ∧ RugR g' (b + 8) F f' ∧ (∀ j, (j < 430 ∨ 10084 ≤ j) → f' j = gA σ 6 j) ∧ ∀ x, (x < b + 8 ∨ b + 2032 ≤ x) → g' x = g x
theorem RP.w {h : HS} {g : Nat → Nat → Int32} {σ : MS} {b : Nat} {F : Nat → Nat} {s : HS} {s' : MS} (hP : RP h g σ b F s s') : RPw h g σ b F s s' := by
  obtain ⟨g', f', h1, h2, h3, h4, h5⟩ := hP
  exact ⟨g', f', h1, h2, h3, fun j hj => h4 j (by omega), h5⟩
theorem LRF.rug {σ' : MS} {h' : HS} (hL : LRF b n h σ F a) (hP : RPw h (kI h) σ b F h' σ') : LRF b n h' σ' F a := by
  obtain ⟨⟨hF, hO, hz⟩, hC, hT, ⟨hH, hU⟩, hK, hR, hM⟩ := hL
  obtain ⟨g', f', rfl, rfl, p1, p2, p3⟩ := hP
  have K : kept b h (iS h g') (kI h) g' := ⟨Nat.le_refl _, fun q hq => ⟨rfl, rfl, rfl, p3 q (by obtain ⟨_, h9⟩ := hq; omega)⟩⟩
  have e0 := p3 b (by omega)
  obtain ⟨z1, z2, z3, z4, z5, z6⟩ := hH
  refine ⟨⟨hF, hO, hz⟩, hC.keep K rfl, hT.of (by rw [kI_iS, e0]) (by rw [kI_iS, e0]) (p3 (b + 1) (by omega)) rfl rfl (gA_o (by decide)), ⟨?_, hU.of (by rw [kI_iS, e0]) rfl (fun q q1 q2 => ⟨p3 q (by omega), rfl⟩) rfl (gA_o (by decide))⟩, hK.of K (fun q q1 q2 => ⟨p3 q (by omega), rfl⟩) (gA_o (by decide)) (gA_o (by decide)) rfl, hR.of (by rw [kI_iS, e0]) (by rw [kI_iS, e0]) (by rw [kI_iS, e0]) ⟨p3 (b + 2037) (by omega), p3 (b + 2038) (by omega), p3 (b + 2048) (by omega), p3 (b + 2198) (by omega)⟩ ⟨rfl, rfl, rfl, rfl⟩ ⟨gA_o (by decide), gA_o (by decide), gA_o (by decide), gA_o (by decide)⟩, hM⟩
  rw [gA_same]
  exact ⟨z1, z2.keep K, fun i hi => by rw [p2 i (by omega)]; exact z3 i hi, z4, p1, z6.keep K fun i hi => p2 _ (by omega)⟩
theorem RugR.walk {g : Nat → Nat → Int32} {f : Nat → Int32} {r p : Nat} (hp : p < 6) (hR : RugR g r F f) : RugR (u2 g (r + 2023) p (g (r + 2023) p + 1)) r F (upd f (430 + p) (f (430 + p) + 1)) := by
  obtain ⟨⟨d, h1, h2, h3⟩, h4, h5, h6, h7, h8⟩ := hR
  have tm : ∀ u q i, u < 144 → q < 6 → i < 9 → TM (upd f (430 + p) (f (430 + p) + 1)) u q i = TM f u q i := fun u q i hu hq hi => pk_un (by omega)
  have tc : ∀ c u q i, (c = 3 ∨ c = 1012) → u < 144 → q < 6 → TC (u2 g (r + 2023) p (g (r + 2023) p + 1)) r c u q i = TC g r c u q i := fun c u q i hc hu hq => by unfold TC; rw [u2_nf (by omega)]
  refine ⟨⟨d, h1, by rw [pk_un (by omega)]; exact h2, by rw [u2_nf (by omega)]; exact h3⟩, fun q hq => ?_, fun u q i hu hq hi => by rw [tc 3 u q i (Or.inl rfl) hu hq, tm u q i hu hq hi]; exact h5 u q i hu hq hi, fun u q i hu hq hq2 hi => by rw [tm u q i hu hq2 hi]; exact h6 u q i hu hq hq2 hi, fun u i hu hi => ?_, fun u hu => (h8 u hu).of hu (pk_un (by omega)) (fun k hk => pk_un (by omega)) (fun k k1 k2 => by rw [u2_nf (by omega)]) (fun q i hq hi => tm u q i hu hq hi)⟩
  · by_cases c : q = p
    · subst c; rw [u2_eq, pk_us, h4 q hq]
    · rw [u2_ne (Or.inr c), pk_un (by omega)]; exact h4 q hq
  · refine (show upd f (430 + p) (f (430 + p) + 1) (1012 + 9 * u + i) = _ from pk_un (by omega)).trans ((h7 u i hu hi).trans (sm_ext fun q hq => by rw [tc 1012 u q i (Or.inr rfl) hu hq]))
theorem goes_step (hC : HouR h g b a F nm) (hR : RugS h (b + 8)) (hk : kR h (b + 8) 0 = some a) (hM : MH (gA σ 6) F) {p w s i : Nat} (hp : p < F 2) (hw : w < F 3) (hs : s < F 2) (hi : i < F (177 + w)) {s1 : HS} {s2 : MS} (hP : RP h g σ b F s1 s2) : ∃ t1 t2, RP h g σ b F t1 t2 ∧ ∀ m, lX3_goes_19 N (m + 1) s1 (b + 8) (nI p) (nI s) (le h (rf h a 6) w) (nI i) = lX3_goes_19 N m t1 (b + 8) (nI p) (nI s) (le h (rf h a 6) w) (nI (i + 1)) ∧ lX5_walks_15 N (m + 1) s2 (nI p) (nI w) (nI (F (13 + s))) (nI (F (177 + w))) (nI i) = lX5_walks_15 N m t2 (nI p) (nI w) (nI (F (13 + s))) (nI (F (177 + w))) (nI (i + 1)) := by
  obtain ⟨g', f', rfl, rfl, p1, p2, p3⟩ := hP
  have k2 : F 2 ≤ 6 := hM.1.1.2.2.1
  have k3 : F 3 ≤ 6 := hM.1.1.2.2.2.1
  obtain ⟨kw1, kw2, kw3⟩ := hM.1.2.2.2.2.2 w hw
  have tl : ∀ j, j < F (177 + w) → F (183 + 41 * w + j) < 144 := fun j hj => tuf_lt hM.1.1.1 hM.1.1.2.1 (kw3 j hj)
  have K : kept b h h g g' := ⟨Nat.le_refl _, fun q hq => ⟨rfl, rfl, rfl, p3 q (by obtain ⟨_, h9⟩ := hq; omega)⟩⟩
  have hH := hC.keep K
  have hM' : MH f' F := ⟨hM.1, fun j hj => by rw [p2 j (by omega)]; exact hM.2 j hj⟩
  obtain ⟨d, d1, d2, -⟩ := p1.1
  obtain ⟨e, he, ee⟩ := dirM_cs F w i
  have hs9 := (hM.1.2.1 s hs).2.2.1
  obtain ⟨g2, c1, c2⟩ := co_tread (N := N) (g := g') (r := b + 8) (p := p) (t := F (183 + 41 * w + i)) hR (by omega) (tl i hi) (nI (F (13 + s))) (dirM F w i)
  rw [ee] at c2
  have ht := tl i hi
  generalize hT : F (183 + 41 * w + i) = t at *
  -- the Model's dir
  have hdir : ((if nI (F (177 + w)) = 1 then (some 0) else (if nI (F (177 + w)) ≤ (nI i + 1) then ((rA (aS σ 6 f') 6 (((183 + (41 * nI w)) + nI i) - 1)).bind fun v7 => some (fX5_dirBetween v7 (nI t))) else ((rA (aS σ 6 f') 6 (((183 + (41 * nI w)) + nI i) + 1)).bind fun v9 => some (fX5_dirBetween (nI t) v9)))) : Option Int32) = some (dirM F w i) := by
    unfold dirM
    have hMa : MH (gA (aS σ 6 f') 6) F := by rw [gA_same]; exact hM'
    by_cases q1 : F (177 + w) = 1
    · rw [if_pos q1, q1]; rfl
    · rw [if_neg q1, if_neg (show ¬ nI (F (177 + w)) = 1 from fun e9 => q1 ((nI_eq (b := 1) (by omega) (by decide)).mp e9)), nI_1]
      by_cases q2 : i + 1 < F (177 + w)
      · have := tl (i + 1) q2
        rw [if_pos q2, if_neg (nI_ge q2 (by omega))]
        simp (disch := omega) only [pl_la, pl_al, pl_lm, pl_ml, nI_add, pk_mul, pl_sl, pl_m1, mo_i hMa, Option.bind_some]
        rw [show 183 + 41 * w + (i + 1) = 183 + 41 * w + i + 1 by omega] at this
        rw [dirB_eq ht this, hT]
      · have hi1 : 1 ≤ i := by omega
        have := tl (i - 1) (by omega)
        rw [if_neg q2, if_pos (nI_le (by omega) (by omega))]
        simp (disch := omega) only [pl_la, pl_al, pl_lm, pl_ml, nI_add, pk_mul, pl_sl, pl_m1, mo_i hMa, Option.bind_some]
        rw [show 183 + 41 * w + (i - 1) = 183 + 41 * w + i - 1 by omega] at this
        rw [dirB_eq this ht, hT]
  obtain ⟨f2, hf2⟩ : ∃ f2, f2 = upd (upd (upd (upd (upd (upd f' (2308 + (6 * t + p) * 9) (f' (2308 + (6 * t + p) * 9) + 1)) (1012 + 9 * t) (f' (1012 + 9 * t) + nI (F (7 + p)))) (436 + 4 * t) (nI (p + 1))) (436 + 4 * t + 1) (nI (F (13 + s)))) (436 + 4 * t + 2) (nI e)) (436 + 4 * t + 3) (f' 429) := ⟨_, rfl⟩
  have tq : trQ f' f2 p t (nI (F (13 + s))) (nI e) (nI (F (7 + p))) := by
    rw [hf2]
    refine ⟨fun j j1 j2 j3 => ?_, ?_, ?_, ?_, ?_, ?_, pk_us⟩
    · rw [pk_un (by omega), pk_un (by omega), pk_un (by omega), pk_un (by omega), pk_un (by omega), pk_un (by omega)]
    · rw [pk_un (by omega), pk_un (by omega), pk_un (by omega), pk_un (by omega), pk_un (by omega), pk_us]
    · rw [pk_un (by omega), pk_un (by omega), pk_un (by omega), pk_un (by omega), pk_us]
    · rw [pk_un (by omega), pk_un (by omega), pk_un (by omega), pk_us]
    · rw [pk_un (by omega), pk_un (by omega), pk_us]
    · rw [pk_un (by omega), pk_us]
  refine ⟨iS h g2, aS σ 6 f2, ⟨g2, f2, rfl, rfl, p1.tread hM.1 hp ht hs9 he c2 tq, fun j hj => ?_, fun x hx => ?_⟩, fun m => ⟨?_, ?_⟩⟩
  · rw [tq.1 j (by omega) (by omega) (by omega)]; exact p2 j hj
  · rw [c2.1 x (by omega) (by omega) (by omega)]; exact p3 x hx
  · rw [lX3_goes_19]
    have W1 := ho_wt hH hw hi
    rw [hT] at W1
    simp (disch := omega) only [ho_w3 hH hw, ho_w1 hH hw, ho_w2 hH hw, Option.bind_some, W1, ho_wd hH hw hi, pl_let, pl_lef, pl_ltt, pl_ltf, pl_eqf, pl_let1, pl_lef1, pl_ltt1, pl_ltf1, pl_eqf1, pl_let2, pl_lef2, pl_ltt2, pl_ltf2, pl_em1, if_true, if_false, ite_self, pl_la, pl_al, pl_lm, pl_ml, nI_add, pk_mul, pl_sl, pl_m1, ru_f hR, hk, ho_R hH, ls_g (ho_p hH), ls_get (ho_p hH) hs, ho_pg hH hs, ho_p2 hH hs, ru_g hR, c1]
  · rw [lX5_walks_15]
    have hMa : MH (gA (aS σ 6 f') 6) F := by rw [gA_same]; exact hM'
    have r1 := mo_i hMa (i := 183 + 41 * w + i) (by omega)
    rw [hT] at r1
    have r0 : rA (aS σ 6 f') 6 (183 + 41 * nI w + nI i) = some (nI t) := by rw [pl_lm, pl_la, nI_add]; exact r1
    rw [if_neg (nI_ge hi (by omega)), r0]
    simp only [Option.bind_some]
    rw [hdir, ee]
    simp only [Option.bind_some]
    have i1 : (2308 : Int32) + ((6 * nI t) + nI p) * 9 = nI (2308 + (6 * t + p) * 9) := by rw [pl_lm, nI_add, pl_ml, pl_la]
    have i2 : (1012 : Int32) + 9 * nI t = nI (1012 + 9 * t) := by rw [pl_lm, pl_la]
    have i3 : (436 : Int32) + 4 * nI t = nI (436 + 4 * t) := by rw [pl_lm, pl_la]
    rw [i1, i2, i3]
    simp (disch := omega) only [pl_la, pl_al, pl_lm, pl_ml, nI_add, pk_mul, pl_sl, pl_m1, rA6, wA6, Option.bind_some, sA_6, gA_same, rA429]
    rw [pk_un (show 1012 + 9 * t ≠ 2308 + (6 * t + p) * 9 by omega), pk_un (show 7 + p ≠ 2308 + (6 * t + p) * 9 by omega), hM'.2 (7 + p) (by omega)]
    rw [pk_un (show (429 : Nat) ≠ 436 + 4 * t + 2 by omega), pk_un (show (429 : Nat) ≠ 436 + 4 * t + 1 by omega), pk_un (show (429 : Nat) ≠ 436 + 4 * t by omega), pk_un (show (429 : Nat) ≠ 1012 + 9 * t by omega), pk_un (show (429 : Nat) ≠ 2308 + (6 * t + p) * 9 by omega), ← hf2]
end PGO
