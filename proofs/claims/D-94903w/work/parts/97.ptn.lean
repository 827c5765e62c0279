/-! walks: judged by the Model -/
section PTN
variable {σ σ' : MS} {N : Nat} {F : Nat → Nat} {pace : Nat} {s s0 : WS} {ln : Nat → Nat × Nat × Nat}
theorem wstep_n {i : Nat} {x : Nat × Nat × Nat} (h : s.1 ≠ 0) : wstep F pace i s x = s := by unfold wstep; rw [if_pos h]
theorem wev_stop {i : Nat} (h : (wev F pace s0 ln i).1 ≠ 0) : ∀ k, wev F pace s0 ln (i + k) = wev F pace s0 ln i
  | 0 => rfl
  | k + 1 => by
    show wstep F pace (i + k) (wev F pace s0 ln (i + k)) (ln (i + k)) = _
    rw [wev_stop h k]; exact wstep_n h
theorem wev_came {i : Nat} (h : (wev F pace s0 ln (i + 1)).1 = 0) : (wev F pace s0 ln (i + 1)).2.2.2.2.2 = some (ln i).1 := by
  unfold wev at h ⊢
  unfold wstep at h ⊢
  by_cases c : (wev F pace s0 ln i).1 ≠ 0
  · rw [if_pos c] at h; exact absurd h c
  · rw [if_neg c] at h ⊢
    cases e : wgo F (ln i).1 (ln i).2.1 (wev F pace s0 ln i).2.2.1 with
    | none => rw [e] at h; exact absurd h (by show ¬ (1 : Nat) = 0; decide)
    | some t =>
      rw [e] at h
      simp only [] at h ⊢
      by_cases c2 : pace * (ln i).2.2 < (ln i).2.1
      · rw [if_pos c2] at h; exact absurd h (by show ¬ (2 : Nat) = 0; decide)
      · rw [if_neg c2] at h ⊢
        by_cases c3 : (∃ c, (wev F pace s0 ln i).2.2.2.2.2 = some c ∧ (ln i).1 = (c + 2) % 4) ∧ (ln i).2.2 = 1
        · rw [if_pos c3] at h; exact absurd h (by show ¬ (3 : Nat) = 0; decide)
        · rw [if_neg c3]
theorem wev_ok (k0 : F 0 ≤ 12) (k1 : F 1 ≤ 12) {K : Nat} (hs : okS s0) (hl : ∀ i, i < K → okL (ln i)) : ∀ i, i ≤ K → okS (wev F pace s0 ln i)
  | 0, _ => hs
  | i + 1, hi => wstep_ok k0 k1 (hl i (by omega)) (wev_ok k0 k1 hs hl i (by omega))
/-- the Model's lines -/
def LN (σ : MS) (ln : Nat → Nat × Nat × Nat) (K : Nat) : Prop := K ≤ 30 ∧ ∀ i, i < K → okL (ln i) ∧ gA σ 8 (3 * i) = nI (ln i).1 ∧ gA σ 8 (3 * i + 1) = nI (ln i).2.1 ∧ gA σ 8 (3 * i + 2) = nI (ln i).2.2
theorem ln_r {K i : Nat} (hL : LN σ ln K) (hi : i < K) : rA σ 8 (3 * nI i) = some (nI (ln i).1) ∧ rA σ 8 (3 * nI i + 1) = some (nI (ln i).2.1) ∧ rA σ 8 (3 * nI i + 2) = some (nI (ln i).2.2) := by
  obtain ⟨h1, h2⟩ := hL
  obtain ⟨-, a1, a2, a3⟩ := h2 i hi
  have n0 : (3 : Int32) * nI i = nI (3 * i) := pl_lm 3 i
  rw [n0, show nI (3 * i) + 1 = nI (3 * i + 1) from nI_add _ 1, show nI (3 * i) + 2 = nI (3 * i + 2) from nI_add _ 2, rA8 (by omega), rA8 (by omega), rA8 (by omega), a1, a2, a3]
  exact ⟨rfl, rfl, rfl⟩
theorem mo_135 (hM : MH (gA σ 6) F) {K i d n : Nat} (hr : rA σ 8 (3 * nI i + 1) = some (nI n)) (hn : n ≤ 11) (hd : d < 4) : ∀ k j u fuel, j + k = n → k + 1 < fuel → u < 144 → (∃ t, wgo F d k (some u) = some t ∧ lX5_walk_135 N σ fuel (nI u) (nI i) (nI d) 0 (nI j) = some (nI t, 0)) ∨ (wgo F d k (some u) = none ∧ ∃ x, lX5_walk_135 N σ fuel (nI u) (nI i) (nI d) 0 (nI j) = some (x, 1)) := by
  have k0 := hM.1.1.1
  have k1 := hM.1.1.2.1
  intro k
  induction k with
  | zero =>
    intro j u fuel hj hf hu
    obtain ⟨m, rfl⟩ : ∃ m, fuel = m + 1 := ⟨fuel - 1, by omega⟩
    obtain rfl : j = n := by omega
    left
    refine ⟨u, rfl, ?_⟩
    rw [lX5_walk_135, hr]
    simp only [Option.bind_some]
    rw [if_pos (Int32.le_refl _)]
  | succ k ih =>
    intro j u fuel hj hf hu
    obtain ⟨m, rfl⟩ : ∃ m, fuel = m + 1 := ⟨fuel - 1, by omega⟩
    have stop : ∀ x, lX5_walk_135 N σ m x (nI i) (nI d) 1 (nI (j + 1)) = some (x, 1) := fun x => by
      obtain ⟨m', rfl⟩ : ∃ m', m = m' + 1 := ⟨m - 1, by omega⟩
      rw [lX5_walk_135, hr]
      simp only [Option.bind_some]
      rw [if_neg (show ¬ (1 : Int32) = 0 by decide)]
      exact ite_self _
    rw [lX5_walk_135, hr]
    simp only [Option.bind_some]
    rw [if_neg (nI_ge (by omega) (by omega)), if_pos trivial, mo_bs hM hu hd]
    simp only [Option.bind_some, show nI j + 1 = nI (j + 1) from nI_add _ 1]
    show (∃ t, wgo F d k (ope F u d) = some t ∧ _) ∨ (wgo F d k (ope F u d) = none ∧ _)
    have wn : ∀ k, wgo F d k none = none := fun k => by cases k <;> rfl
    cases e : bes F u d with
    | none =>
      right
      have eo : ope F u d = none := by unfold ope; rw [e]
      rw [eo]
      refine ⟨wn k, -1, ?_⟩
      rw [show oN none = (-1 : Int32) from rfl, if_pos (by decide)]
      exact stop (-1)
    | some o =>
      have ho := tuf_lt k0 k1 (bes_tuf k0 e)
      have wl := hM.1.2.2.2.1 o ho
      have rw1 : rA σ 6 (25 + nI o) = some (nI (F (25 + o))) := by rw [pl_la]; exact mo_i hM (by show 25 + o < 429; omega)
      rw [show oN (some o) = nI o from rfl, if_neg (nI_pos (by omega)), rw1]
      simp only [Option.bind_some]
      by_cases w1 : F (25 + o) = 1
      · right
        have eo : ope F u d = none := by unfold ope; rw [e]; simp only [if_pos w1]
        rw [eo]
        refine ⟨wn k, nI o, ?_⟩
        rw [w1, if_pos (show nI 1 = 1 from rfl)]
        exact stop (nI o)
      · have eo : ope F u d = some o := by unfold ope; rw [e]; simp only [if_neg w1]
        rw [eo, if_neg (show ¬ nI (F (25 + o)) = 1 from fun z => w1 ((nI_eq (b := 1) (by omega) (by decide)).mp z))]
        exact ih (j + 1) o m (by omega) (by omega) ho
/-- the Model's fields of the judging -/
def WM (f : Nat → Int32) (s : WS) : Prop := f 0 = nI s.1 ∧ f 1 = s.2.2.2.1 ∧ f 2 = s.2.2.2.2.1 ∧ f 3 = oN s.2.2.1
theorem w31 {f : Nat → Int32} {i : Nat} (hi : i < 4) (v : Int32) : wA (aS σ 31 f) 31 (nI i) v = some (aS σ 31 (upd f i v)) := (wA31 hi).trans (by rw [sA_6])
theorem mo_112 (hN : 200000 ≤ N) (hM : MH (gA σ 6) F) {p K : Nat} (hp : p < F 2) (hpc : F (19 + p) = pace) (g32 : gI σ 32 = nI p) (g34 : gI σ 34 = nI K) (hL : LN σ ln K) (hs : okS s0) (c0 : s0.2.2.2.2.2 = none) (z0 : s0.2.1 = -1) : ∀ k i f fuel, i + k = K → k < fuel → WM f (wev F pace s0 ln i) → (wev F pace s0 ln i).1 = 0 → ∃ f' r, lX5_walk_112 N fuel (aS σ 31 f) (oN (wev F pace s0 ln i).2.2.1) (nI i) = some r ∧ WM f' (wev F pace s0 ln K) ∧ (((wev F pace s0 ln K).1 = 0 ∧ r = .inl (aS σ 31 f')) ∨ ((wev F pace s0 ln K).1 ≠ 0 ∧ r = .inr ((wev F pace s0 ln K).2.1, aS σ 31 f'))) := by
  have k0 := hM.1.1.1
  have k1 := hM.1.1.2.1
  intro k
  induction k with
  | zero =>
    intro i f fuel hi hf hW h0
    obtain ⟨m, rfl⟩ : ∃ m, fuel = m + 1 := ⟨fuel - 1, by omega⟩
    obtain rfl : i = K := by omega
    refine ⟨f, .inl (aS σ 31 f), ?_, hW, Or.inl ⟨h0, rfl⟩⟩
    rw [lX5_walk_112, gI_aS, g34, if_pos (Int32.le_refl _)]
  | succ k ih =>
    intro i f fuel hi hf hW h0
    obtain ⟨m, rfl⟩ : ∃ m, fuel = m + 1 := ⟨fuel - 1, by omega⟩
    have iK : i < K := by omega
    have K30 := hL.1
    obtain ⟨W, eW⟩ : ∃ W, W = wev F pace s0 ln i := ⟨_, rfl⟩
    have okW' := wev_ok (pace := pace) k0 k1 hs (fun j hj => (hL.2 j hj).1) i (by omega)
    rw [← eW] at hW h0 okW' ⊢
    obtain ⟨u, eu⟩ := okW'.2.1 h0
    have hu := okW'.1 u eu
    obtain ⟨ok, -⟩ := hL.2 i iK
    obtain ⟨x1, x2, x3, x4, x5⟩ := ok
    have hMa : MH (gA (aS σ 31 f) 6) F := by rw [gA_o (by decide)]; exact hM
    have hLa : LN (aS σ 31 f) ln K := by unfold LN; rw [gA_o (by decide)]; exact hL
    obtain ⟨r1, r2, r3⟩ := ln_r hLa iK
    have rp : rA (aS σ 31 f) 6 (19 + gI (aS σ 31 f) 32) = some (nI pace) := by
      rw [gI_aS, g32, pl_la, ← hpc]; exact mo_i hMa (by show 19 + p < 429; have := hM.1.1.2.2.1; omega)
    have hpa := (hM.1.2.1 p hp).2.2.2.2
    rw [hpc] at hpa
    have l1 : ¬ gI (aS σ 31 f) 34 ≤ nI i := by rw [gI_aS, g34]; exact nI_ge iK (by omega)
    obtain ⟨w0, w1, w2, w3⟩ := hW
    have W1 : wev F pace s0 ln (i + 1) = wstep F pace i W (ln i) := by rw [eW]; rfl
    have nx : nI i + 1 = nI (i + 1) := nI_add _ 1
    have stp : ∀ (w : Nat), w ≠ 0 → w ≤ 3 → wstep F pace i W (ln i) = (w, nI (i + 1), W.2.2) → ∃ f' r, ((wA (aS σ 31 f) 31 0 (nI w)).bind fun σ43 => some (Sum.inr (nI (i + 1), σ43))) = some r ∧ WM f' (wev F pace s0 ln K) ∧ (((wev F pace s0 ln K).1 = 0 ∧ r = (Sum.inl (aS σ 31 f') : MS ⊕ (Int32 × MS))) ∨ ((wev F pace s0 ln K).1 ≠ 0 ∧ r = .inr ((wev F pace s0 ln K).2.1, aS σ 31 f'))) := fun w wn wl e => by
      have eK : wev F pace s0 ln K = (w, nI (i + 1), W.2.2) := by
        have := wev_stop (F := F) (pace := pace) (s0 := s0) (ln := ln) (i := i + 1) (by rw [W1, e]; exact wn) (K - (i + 1))
        rw [show i + 1 + (K - (i + 1)) = K by omega] at this
        rw [this, W1, e]
      refine ⟨upd f 0 (nI w), .inr (nI (i + 1), aS σ 31 (upd f 0 (nI w))), ?_, ?_, Or.inr ⟨by rw [eK]; exact wn, by rw [eK]⟩⟩
      · rw [show wA (aS σ 31 f) 31 0 (nI w) = some (aS σ 31 (upd f 0 (nI w))) from w31 (i := 0) (by decide) _]; rfl
      · rw [eK]
        exact ⟨pk_us, by rw [pk_un (by decide)]; exact w1, by rw [pk_un (by decide)]; exact w2, by rw [pk_un (by decide)]; exact w3⟩
    rw [eu, show oN (some u) = nI u from rfl, lX5_walk_112, if_neg l1, r1]
    simp only [Option.bind_some]
    rcases mo_135 (N := N) (K := K) (i := i) (d := (ln i).1) (n := (ln i).2.1) hMa r2 x3 x1 (ln i).2.1 0 u N (by omega) (by omega) hu with ⟨t, g1, g2⟩ | ⟨g1, x, g2⟩
    · rw [show lX5_walk_135 N (aS σ 31 f) N (nI u) (nI i) (nI (ln i).1) 0 0 = some (nI t, 0) from g2]
      have ht := wgo_lt k0 k1 _ _ t (fun y hy => by cases hy; exact hu) g1
      simp only [Option.bind_some, eq_self, if_true, r2, rp, r3, pk_mul]
      have ews : wstep F pace i W (ln i) = if pace * (ln i).2.2 < (ln i).2.1 then (2, nI (i + 1), W.2.2) else if (∃ c, W.2.2.2.2.2 = some c ∧ (ln i).1 = (c + 2) % 4) ∧ (ln i).2.2 = 1 then (3, nI (i + 1), W.2.2) else (0, W.2.1, some t, W.2.2.2.1 + nI (ln i).2.1, W.2.2.2.2.1 + nI (ln i).2.2, some (ln i).1) := by
        unfold wstep
        rw [if_neg (fun q => q h0), eu, g1]
      by_cases c2 : pace * (ln i).2.2 < (ln i).2.1
      · rw [if_neg (nI_ge c2 (by omega))]
        simp only [Option.bind_some, Bool.false_eq_true, if_false, nx]
        exact stp 2 (by decide) (by decide) (by rw [ews, if_pos c2])
      · rw [if_pos (nI_le (by omega) (by have : pace * (ln i).2.2 ≤ 9 * 99 := Nat.mul_le_mul hpa x5; omega))]
        rw [if_neg c2] at ews
        simp only [Option.bind_some, if_true, lt_]
        -- the line is well
        have good : wstep F pace i W (ln i) = (0, W.2.1, some t, W.2.2.2.1 + nI (ln i).2.1, W.2.2.2.2.1 + nI (ln i).2.2, some (ln i).1) → ∃ f' r, ((rA (aS σ 31 f) 31 1).bind fun v36 => ((wA (aS σ 31 f) 31 1 (v36 + nI (ln i).2.1)).bind fun σ38 => ((rA σ38 31 2).bind fun v39 => ((rA σ38 8 ((3 * nI i) + 2)).bind fun v40 => ((wA σ38 31 2 (v39 + v40)).bind fun σ41 => ((wA σ41 31 3 (nI t)).bind fun σ42 => lX5_walk_112 N m σ42 (nI t) (nI i + 1))))))) = some r ∧ WM f' (wev F pace s0 ln K) ∧ (((wev F pace s0 ln K).1 = 0 ∧ r = .inl (aS σ 31 f')) ∨ ((wev F pace s0 ln K).1 ≠ 0 ∧ r = .inr ((wev F pace s0 ln K).2.1, aS σ 31 f'))) := fun e => by
          have q1 : rA (aS σ 31 f) 31 1 = some W.2.2.2.1 := (rA_n (n := 1) (by decide) (by decide)).trans (by rw [gA_same, w1])
          have q2 : ∀ v, wA (aS σ 31 f) 31 1 v = some (aS σ 31 (upd f 1 v)) := fun v => w31 (i := 1) (by decide) v
          have q3 : ∀ v, rA (aS σ 31 (upd f 1 v)) 31 2 = some W.2.2.2.2.1 := fun v => (rA_n (n := 2) (by decide) (by decide)).trans (by rw [gA_same, pk_un (by decide), w2])
          have q4 : ∀ g, rA (aS σ 31 g) 8 (3 * nI i + 2) = some (nI (ln i).2.2) := fun g => (ln_r (σ := aS σ 31 g) (by unfold LN; rw [gA_o (by decide)]; exact hL) iK).2.2
          have q5 : ∀ g v, wA (aS σ 31 g) 31 2 v = some (aS σ 31 (upd g 2 v)) := fun g v => w31 (i := 2) (by decide) v
          have q6 : ∀ g v, wA (aS σ 31 g) 31 3 v = some (aS σ 31 (upd g 3 v)) := fun g v => w31 (i := 3) (by decide) v
          simp only [q1, q2, q3, q4, q5, q6, Option.bind_some, nx]
          have := ih (i + 1) (upd (upd (upd f 1 (W.2.2.2.1 + nI (ln i).2.1)) 2 (W.2.2.2.2.1 + nI (ln i).2.2)) 3 (nI t)) m (by omega) (by omega) (by
            rw [W1, e]
            refine ⟨?_, ?_, ?_, ?_⟩
            · rw [pk_un (by decide), pk_un (by decide), pk_un (by decide), w0, h0]
            · rw [pk_un (by decide), pk_un (by decide), pk_us]
            · rw [pk_un (by decide), pk_us]
            · rw [pk_us]; rfl) (by rw [W1, e])
          rw [W1, e] at this
          exact this
        by_cases i0 : i = 0
        · have cn' : W.2.2.2.2.2 = none := by rw [eW, i0]; exact c0
          rw [if_pos (show nI i ≤ 0 by rw [i0]; decide)]
          simp only [if_true, show ((0 : Int32) ≤ 0) = True from eq_true (by decide), r2, Option.bind_some]
          refine good (by rw [ews, if_neg]; rintro ⟨⟨c, q, -⟩, -⟩; rw [cn'] at q; cases q)
        · rw [if_neg (show ¬ nI i ≤ 0 from nI_ge (a := 0) (by omega) (by omega))]
          simp only [Bool.false_eq_true, if_false, if_true, show ((0 : Int32) ≤ 0) = True from eq_true (by decide), r2, r3, Option.bind_some]
          obtain ⟨i', rfl⟩ : ∃ i', i = i' + 1 := ⟨i - 1, by omega⟩
          have cm : W.2.2.2.2.2 = some (ln i').1 := by rw [eW]; rw [eW] at h0; exact wev_came h0
          have okp := (hL.2 i' (by omega)).1.1
          have rp3 : rA (aS σ 31 f) 8 (3 * nI (i' + 1) - 3) = some (nI (ln i').1) := by
            rw [show (3 : Int32) * nI (i' + 1) = nI (3 * (i' + 1)) from pl_lm 3 _, show nI (3 * (i' + 1)) - 3 = nI (3 * (i' + 1) - 3) from pl_sl (n := 3) (by show 3 ≤ 3 * (i' + 1); omega), show 3 * (i' + 1) - 3 = 3 * i' by omega, rA8 (by omega), gA_o (by decide), (hL.2 i' (by omega)).2.1]
          rw [rp3]
          simp only [Option.bind_some, show nI (ln i').1 + 2 = nI ((ln i').1 + 2) from nI_add _ 2, show irm (nI ((ln i').1 + 2)) 4 = nI (((ln i').1 + 2) % 4) from pl_irm (n := 4) (by omega) (by decide) (by decide)]
          by_cases cm1 : (ln (i' + 1)).2.2 = 1
          · rw [if_pos (show nI (ln (i' + 1)).2.2 = 1 by rw [cm1]; rfl)]
            by_cases cd : (ln (i' + 1)).1 = ((ln i').1 + 2) % 4
            · rw [if_pos (by rw [cd])]
              simp only [Option.bind_some, Bool.false_eq_true, if_false, nx]
              exact stp 3 (by decide) (by decide) (by rw [ews, if_pos ⟨⟨_, cm, cd⟩, cm1⟩])
            · rw [if_neg (nI_ne (by omega) (by omega) cd)]
              simp only [Option.bind_some, if_true]
              refine good (by rw [ews, if_neg]; rintro ⟨⟨c, q, q'⟩, -⟩; rw [cm] at q; cases q; exact cd q')
          · rw [if_neg (show ¬ nI (ln (i' + 1)).2.2 = 1 from fun z => cm1 ((nI_eq (b := 1) (by omega) (by decide)).mp z))]
            simp only [Option.bind_some, if_true]
            refine good (by rw [ews, if_neg]; rintro ⟨-, q⟩; exact cm1 q)
    · rw [show lX5_walk_135 N (aS σ 31 f) N (nI u) (nI i) (nI (ln i).1) 0 0 = some (x, 1) from g2]
      simp only [Option.bind_some, one0, if_false, if_true, lt_, show ((1 : Int32) ≤ 0) = False from eq_false (by decide), nx]
      exact stp 1 (by decide) (by decide) (by unfold wstep; rw [if_neg (fun q => q h0), eu, g1])
end PTN
