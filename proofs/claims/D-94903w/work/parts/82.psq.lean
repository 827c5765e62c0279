/-! rows of tufts: the operation -/
section PSQ
variable {h : HS} {g0 g g' : Nat → Nat → Int32} {σ0 σ : MS} {N b ha n fr to i t d o u v : Nat} {F : Nat → Nat} {nm : Nat → Int64} {cut thr : Nat → Bool} {flw flw0 : Nat → Nat → Bool}
theorem bI_cs {y : Int32} (hy : y = 0 ∨ y = 1) : ∃ x, y = bI x := by
  rcases hy with rfl | rfl
  · exact ⟨false, rfl⟩
  · exact ⟨true, rfl⟩
/-- all rows are taken up: the component -/
theorem co_r10 (hN : 200000 ≤ N) (hF : FX h b) {y1 y2 : Int32} : ∃ g', lX1_rows_10 N N (iS h g) b y1 y2 0 = some (iS h g') ∧ (∀ x, (x < b + 2052 ∨ b + 2196 ≤ x) → g' x = g x) ∧ ∀ t d, t < 144 → d < 4 → g' (b + 2052 + t) d = 0 := by
  have key : okk (lX1_rows_10 N N (iS h g) b y1 y2 (nI 0)) (fun s => ∃ g', s = iS h g' ∧ (∀ x, (x < b + 2052 ∨ b + 2196 ≤ x) → g' x = g x) ∧ ∀ t d, t < 144 → d < 4 → g' (b + 2052 + t) d = 0) := by
    refine okf (fun m (s : HS) i => lX1_rows_10 N m s b y1 y2 i) 144 (fun i s => ∃ g', s = iS h g' ∧ (∀ x, (x < b + 2052 ∨ b + 2196 ≤ x) → g' x = g x) ∧ ∀ t d, t < i → d < 4 → g' (b + 2052 + t) d = 0) _ ?_ ?_ 0 (iS h g) N (by omega) (by omega) ⟨g, rfl, fun _ _ => rfl, fun t d ht => absurd ht (Nat.not_lt_zero _)⟩
    · rintro i s m hi ⟨g', rfl, q1, q2⟩
      right
      obtain ⟨-, t1, t2⟩ := hF.2.2.2.2.2.2.1 i hi
      have f1 : fJ3_fill_2 N (iS h g') (b + 2052 + i) 0 = some (iS h (flG g' (b + 2052 + i) 4 0)) := co_fill2 hN t1 t2 (by decide) (by have := hF.2.1; omega)
      refine ⟨iS h (flG g' (b + 2052 + i) 4 0), ⟨_, rfl, fun x hx => by rw [flG_o (by omega)]; exact q1 x hx, fun t d ht hd => ?_⟩, ?_⟩
      · by_cases e : t = i
        · rw [e, flG_i hd]
        · rw [flG_o (by omega)]; exact q2 t d (by omega) hd
      · rw [lX1_rows_10, if_neg (show ¬ (144 : Int32) ≤ nI i from nI_ge (b := 144) hi (by decide))]
        simp only [fx_R24 hF, Option.bind_some, fx_fl hF g' hi, f1, show nI i + 1 = nI (i + 1) from nI_add _ 1]
    · rintro s m ⟨g', rfl, q1, q2⟩
      exact ⟨_, by rw [lX1_rows_10, if_pos (by decide)], g', rfl, q1, q2⟩
  obtain ⟨s, e1, g', rfl, e2⟩ := key
  exact ⟨g', e1, e2⟩
/-- how many rows: both sides; base is what lies there -/
theorem rows_both (hN : 200000 ≤ N) (W : NW h g b σ F ha) (hfr : tuf F fr) (hto : to < 144) (cg : ∀ t, t < 144 → g (b + 2049) t = bI (cut t)) (cm : ∀ t, t < 144 → gA σ 41 t = bI (cut t)) : ∃ c g' σ', c ≤ 4 ∧ fX1_rows N (iS h g) b (nI fr) (nI to) = some (nI c, iS h g') ∧ fX5_rowsBetween N σ (nI fr) (nI to) = some (nI c, σ') ∧ (∀ x, x ≠ b → (x < b + 2049 ∨ b + 2198 ≤ x ∨ x = b + 2051) → g' x = g x) ∧ (∀ k, k ≠ 27 → g' b k = g b k) ∧ (∀ t, t < 144 → g' (b + 2049) t = bI (cut t)) ∧ (∀ j, j ≠ 36 → j ≠ 37 → j ≠ 38 → j ≠ 39 → j ≠ 41 → gA σ' j = gA σ j) ∧ (∀ j, j ≠ 43 → gI σ' j = gI σ j) ∧ gJ σ' = gJ σ ∧ ∀ t, t < 144 → gA σ' 41 t = bI (cut t) := by
  have k0 := W.mh.1.1.1
  have k1 := W.mh.1.1.2.1
  have hf := tuf_lt k0 k1 hfr
  have hF := W.1
  obtain ⟨t23, l23⟩ := hF.2.2.2.2.1 2050 33 144 rfl
  have f1 : fJ3_fill_2 N (iS h g) (b + 2050) 0 = some (iS h (flG g (b + 2050) 144 0)) := co_fill2 hN t23 l23 (by decide) (Nat.le_trans hF.2.1 (Nat.le_add_right _ _))
  obtain ⟨g2, f2, f3, f4⟩ := co_r10 (N := N) (g := flG g (b + 2050) 144 0) (y1 := nI fr) (y2 := nI to) hN hF
  obtain ⟨fa, a1, a2⟩ := mfill (N := N) (fun m s i => lX5_rowsBetween_2 N m s (nI fr) (nI to) i) 36 576 0 rfl (by decide) (fun m s i hi => by
    show lX5_rowsBetween_2 N (m + 1) s (nI fr) (nI to) (nI i) = _
    rw [lX5_rowsBetween_2, if_neg (show ¬ (576 : Int32) ≤ nI i from nI_ge (b := 576) hi (by decide)), show nI i + 1 = nI (i + 1) from nI_add _ 1]) (fun m s => by
    show lX5_rowsBetween_2 N (m + 1) s (nI fr) (nI to) (nI 576) = _
    rw [lX5_rowsBetween_2, if_pos (by decide)]) σ (by omega)
  obtain ⟨fb, b1, b2⟩ := mfill (N := N) (fun m s i => lX5_rowsBetween_24 N m s (nI fr) (nI to) i) 37 144 0 rfl (by decide) (fun m s i hi => by
    show lX5_rowsBetween_24 N (m + 1) s (nI fr) (nI to) (nI i) = _
    rw [lX5_rowsBetween_24, if_neg (show ¬ (144 : Int32) ≤ nI i from nI_ge (b := 144) hi (by decide)), show nI i + 1 = nI (i + 1) from nI_add _ 1]) (fun m s => by
    show lX5_rowsBetween_24 N (m + 1) s (nI fr) (nI to) (nI 144) = _
    rw [lX5_rowsBetween_24, if_pos (by decide)]) (aS σ 36 fa) (by omega)
  obtain ⟨s2, es2⟩ : ∃ s2, s2 = aS (aS σ 36 fa) 37 fb := ⟨_, rfl⟩
  rw [← es2] at b1
  have ga : ∀ j, j ≠ 36 → j ≠ 37 → gA s2 j = gA σ j := fun j j1 j2 => by rw [es2, gA_o j2, gA_o j1]
  have R : RCs b g cut (fun _ => false) (fun _ _ => false) g2 := ⟨fun x x1 x2 => by rw [f3 x (by omega), flG_o (by omega)], fun k hk => by rw [f3 b (by omega), flG_o (by omega)], fun t ht => by rw [f3 _ (by omega), flG_o (by omega)]; exact cg t ht, fun t ht => by rw [f3 _ (by omega), flG_i ht]; rfl, fun t d ht hd => by rw [f4 t d ht hd]; rfl⟩
  have M : RMs σ cut (fun _ => false) (fun _ _ => false) s2 := ⟨fun j j1 j2 _ _ _ => ga j j1 j2, fun j _ => by rw [es2]; rfl, by rw [es2]; rfl, fun t ht => by rw [ga 41 (by decide) (by decide)]; exact cm t ht, fun t ht => by rw [es2, gA_same, b2 t ht]; rfl, fun t d ht hd => by rw [es2, gA_o (by decide), gA_same, a2 _ (by omega)]; rfl⟩
  have eC : fX1_rows N (iS h g) b (nI fr) (nI to) = (lX1_rows_35 N N (iS h g2) b (nI fr) (nI to) 0).bind fun q14 => some (q14.2, q14.1) := by
    unfold fX1_rows
    simp only [fx_R23 hF, Option.bind_some, f1, f2]
  have hMs : MH (gA s2 6) F := by rw [ga 6 (by decide) (by decide)]; exact W.mh
  have w1 : rA s2 6 (25 + nI fr) = some (nI (F (25 + fr))) := by rw [pl_la]; exact mo_i hMs (by show 25 + fr < 429; omega)
  have w2 : rA s2 6 (25 + nI to) = some (nI (F (25 + to))) := by rw [pl_la]; exact mo_i hMs (by show 25 + to < 429; omega)
  have eM : fX5_rowsBetween N σ (nI fr) (nI to) = if nI (F (25 + fr)) = 1 then some (0, s2) else if nI (F (25 + to)) = 1 then some (0, s2) else (lX5_rowsBetween_74 N N s2 (nI fr) (nI to) 0).bind fun q13 => some (q13.2, q13.1) := by
    unfold fX5_rowsBetween
    rw [show lX5_rowsBetween_2 N N σ (nI fr) (nI to) 0 = some (aS σ 36 fa) from a1, Option.bind_some, show lX5_rowsBetween_24 N N (aS σ 36 fa) (nI fr) (nI to) 0 = some s2 from b1, Option.bind_some, w1, Option.bind_some]
    simp only [w2, Option.bind_some]
  have wl1 := W.mh.1.2.2.2.1 fr hf
  have wl2 := W.mh.1.2.2.2.1 to hto
  have c1 : F (25 + fr) = 0 ∨ F (25 + fr) = 1 := by omega
  have c2 : F (25 + to) = 0 ∨ F (25 + to) = 1 := by omega
  rw [eC, eM]
  rcases c1 with c1 | c1
  · obtain ⟨c, g3, s3, thr', flw', q0, q1, q2, q3, q4, q5⟩ := rows_loop (N := N) (fr := fr) (to := to) hN W hfr hto c1 4 (fun _ => false) (fun _ _ => false) g2 s2 N N R M rfl (fun _ _ _ => rfl) (by omega) (by omega) (by omega)
    have cz : cn ((fun _ _ => false : Nat → Nat → Bool) fr) 4 = 0 := rfl
    rw [cz] at q1 q2
    rw [show lX1_rows_35 N N (iS h g2) b (nI fr) (nI to) 0 = _ from q1, c1, if_neg (show ¬ nI 0 = 1 by decide)]
    rcases c2 with c2 | c2
    · refine ⟨c, g3, s3, q0, rfl, ?_, q3.1, q3.2.1, q3.2.2.1, q4.1, q4.2.1, q4.2.2.1, q4.2.2.2.1⟩
      rw [c2, if_neg (show ¬ nI 0 = 1 by decide), show lX5_rowsBetween_74 N N s2 (nI fr) (nI to) 0 = _ from q2]; rfl
    · obtain ⟨z1, z2, z3⟩ := q5 c2
      rw [cz] at z1
      subst z1
      refine ⟨0, g3, s2, by decide, rfl, ?_, q3.1, q3.2.1, q3.2.2.1, M.1, M.2.1, M.2.2.1, M.2.2.2.1⟩
      rw [c2, if_pos (show nI 1 = 1 from rfl)]; rfl
  · have W' : NW h g2 b σ F ha := W.of (fun q q1 q2 => R.1 q q1 (by omega)) rfl rfl
    have e : lX1_rows_35 N N (iS h g2) b (nI fr) (nI to) 0 = some (iS h g2, 0) := by
      obtain ⟨m, rfl⟩ : ∃ m, N = m + 1 := ⟨N - 1, by omega⟩
      rw [lX1_rows_35, W'.r3]
      simp only [Option.bind_some, ho_R W'.ho (k := 8) (by decide) (by decide), ho_wall W'.ho hf, c1, show (nI 1 = 0) = False from eq_false (by decide), if_false]
    rw [e, c1, if_pos (show nI 1 = 1 from rfl)]
    exact ⟨0, g2, s2, by decide, rfl, rfl, R.1, R.2.1, R.2.2.1, M.1, M.2.1, M.2.2.1, M.2.2.2.1⟩
/-- between two tufts of the loop of 'seen' -/
def SIv (b : Nat) (g0 : Nat → Nat → Int32) (σ0 : MS) (left : Nat) (g : Nat → Nat → Int32) (σ : MS) : Prop := (∀ x, x ≠ b → (x < b + 2049 ∨ b + 2199 ≤ x ∨ x = b + 2051) → g x = g0 x) ∧ (∀ k, k ≠ 27 → k ≠ 29 → g b k = g0 b k) ∧ (∀ j, j ≠ 36 → j ≠ 37 → j ≠ 38 → j ≠ 39 → j ≠ 40 → j ≠ 41 → gA σ j = gA σ0 j) ∧ (∀ j, j ≠ 42 → j ≠ 43 → gI σ j = gI σ0 j) ∧ gJ σ = gJ σ0 ∧ (∃ cut : Nat → Bool, (∀ t, t < 144 → g (b + 2049) t = bI (cut t)) ∧ ∀ t, t < 144 → gA σ 41 t = bI (cut t)) ∧ ∃ L, L + left ≤ 4 ∧ g b 29 = nI L ∧ gI σ 42 = nI L ∧ ∀ j, j < L → g (b + 2198) j = gA σ 40 j
theorem seen_loop (hN : 200000 ≤ N) (W0 : NW h g0 b σ0 F ha) (hfr : tuf F fr) (hto : to < 144) : ∀ k t left g σ fuel, t + k = 144 → k < fuel → SIv b g0 σ0 left g σ → ∃ g' σ', lX1_seen_141 N fuel (iS h g) b (nI fr) (nI to) (nI left) (nI t) = some (iS h g') ∧ lX5_seen_138 N fuel σ (nI fr) (nI to) (nI left) (nI t) = some σ' ∧ SIv b g0 σ0 0 g' σ' := by
  have k0 := W0.mh.1.1.1
  have k1 := W0.mh.1.1.2.1
  have hf := tuf_lt k0 k1 hfr
  have hF := W0.1
  have dn : ∀ {left g σ}, SIv b g0 σ0 left g σ → SIv b g0 σ0 0 g σ := fun {left g σ} S => by
    obtain ⟨s1, s2, s3, s4, s5, s6, L, s7, s8⟩ := S
    exact ⟨s1, s2, s3, s4, s5, s6, L, by omega, s8⟩
  intro k
  induction k with
  | zero =>
    intro t left g σ fuel ht hn S
    obtain ⟨m, rfl⟩ : ∃ m, fuel = m + 1 := ⟨fuel - 1, by omega⟩
    obtain rfl : t = 144 := by omega
    exact ⟨g, σ, by rw [lX1_seen_141, if_pos (by decide)], by rw [lX5_seen_138, if_pos (by decide)], dn S⟩
  | succ k ih =>
    intro t left g σ fuel ht hn S
    obtain ⟨m, rfl⟩ : ∃ m, fuel = m + 1 := ⟨fuel - 1, by omega⟩
    have ht' : t < 144 := by omega
    have l1 : ¬ (144 : Int32) ≤ nI t := nI_ge (b := 144) ht' (by decide)
    have n1 : nI t + 1 = nI (t + 1) := nI_add _ 1
    obtain ⟨s1, s2, s3, s4, s5, ⟨cut, s6, s7⟩, L, s8, s9, s10, s11⟩ := id S
    have W : NW h g b σ F ha := W0.of (fun q q1 q2 => s1 q q1 (by omega)) (s3 6 (by decide) (by decide) (by decide) (by decide) (by decide) (by decide)) (by rw [s5])
    by_cases z : left = 0
    · subst z
      exact ⟨g, σ, by rw [lX1_seen_141, if_neg l1, if_pos (by decide)], by rw [lX5_seen_138, if_neg l1, if_pos (by decide)], S⟩
    have l2 : ¬ nI left ≤ 0 := nI_ge (a := 0) (by omega) (by omega)
    have cT := ho_tuft (N := N) W.ho (nI t)
    have w1 : rA σ 6 (25 + nI t) = some (nI (F (25 + t))) := by rw [pl_la]; exact mo_i W.mh (by show 25 + t < 429; omega)
    obtain ⟨X, hX⟩ : ∃ X, lX1_seen_141 N (m + 1) (iS h g) b (nI fr) (nI to) (nI left) (nI t) = X := ⟨_, rfl⟩
    have e0 := hX
    rw [lX1_seen_141, if_neg l1, if_neg l2, W.r3] at e0
    simp only [Option.bind_some, ho_g W.ho, cT, n1, ho_R W.ho (k := 8) (by decide) (by decide), ho_wall W.ho ht', fx_R22 hF, show vp_nar .boolean 1 = 1 from rfl, show vp_nar .boolean 0 = 0 from rfl, fx_W22 hF g ht', fx_g hF] at e0
    obtain ⟨Y, hY⟩ : ∃ Y, lX5_seen_138 N (m + 1) σ (nI fr) (nI to) (nI left) (nI t) = Y := ⟨_, rfl⟩
    have e1 := hY
    rw [lX5_seen_138, if_neg l1, if_neg l2, W.mt] at e1
    simp only [Option.bind_some, n1, w1, show vp_nar .boolean 1 = 1 from rfl, show vp_nar .boolean 0 = 0 from rfl, wA41 ht'] at e1
    have skip : X = lX1_seen_141 N m (iS h g) b (nI fr) (nI to) (nI left) (nI (t + 1)) → Y = lX5_seen_138 N m σ (nI fr) (nI to) (nI left) (nI (t + 1)) → ∃ g' σ', lX1_seen_141 N (m + 1) (iS h g) b (nI fr) (nI to) (nI left) (nI t) = some (iS h g') ∧ lX5_seen_138 N (m + 1) σ (nI fr) (nI to) (nI left) (nI t) = some σ' ∧ SIv b g0 σ0 0 g' σ' := fun a1 a2 => by
      obtain ⟨g', σ', p1, p2, p3⟩ := ih (t + 1) left g σ m (by omega) (by omega) S
      exact ⟨g', σ', by rw [hX, a1]; exact p1, by rw [hY, a2]; exact p2, p3⟩
    rcases tfN_cs F k0 k1 (nI t) with q2 | ⟨q2, -⟩
    · rw [q2, if_pos rfl] at e0 e1
      exact skip e0.symm e1.symm
    rw [q2, if_neg (show ¬ (1 : Int32) = 0 by decide)] at e0 e1
    have wl := W.mh.1.2.2.2.1 t ht'
    have wc : F (25 + t) = 0 ∨ F (25 + t) = 1 := by omega
    rcases wc with wc | wc
    case inr =>
      rw [wc, if_neg (show ¬ nI 1 = 0 by decide)] at e0
      rw [wc, if_pos (show nI 1 = 1 from rfl)] at e1
      exact skip e0.symm e1.symm
    rw [wc, if_pos (show nI 0 = 0 from rfl)] at e0
    rw [wc, if_neg (show ¬ nI 0 = 1 by decide)] at e1
    by_cases y1 : t = fr
    · rw [if_pos (by rw [y1])] at e0 e1
      exact skip e0.symm e1.symm
    rw [if_neg (fun q => y1 ((nI_eq (by omega) (by omega)).mp q))] at e0 e1
    by_cases y2 : t = to
    · rw [if_pos (by rw [y2])] at e0 e1
      exact skip e0.symm e1.symm
    rw [if_neg (fun q => y2 ((nI_eq (by omega) (by omega)).mp q))] at e0 e1
    -- one tuft is tried
    obtain ⟨g1, eg1⟩ : ∃ g1, g1 = u2 g (b + 2049) t 1 := ⟨_, rfl⟩
    obtain ⟨σ1, es1⟩ : ∃ σ1, σ1 = sA σ 41 t 1 := ⟨_, rfl⟩
    rw [← eg1] at e0
    rw [← es1] at e1
    have ga1 : ∀ j, j ≠ 41 → gA σ1 j = gA σ j := fun j hj => by rw [es1, gA_so hj]
    have x1 : ∀ x, x ≠ b + 2049 → g1 x = g x := fun x hx => by rw [eg1, u2_nf hx]
    have W1 : NW h g1 b σ1 F ha := W.of (fun q q1 q2 => x1 q (by omega)) (ga1 6 (by decide)) (by rw [es1]; rfl)
    have cu : ∀ (f : Nat → Int32) (y : Bool), (∀ s, s < 144 → f s = bI (cut s)) → ∀ s, s < 144 → upd f t (bI y) s = bI (ut cut t y s) := fun f y hff s hs => by
      unfold ut
      by_cases q : s = t
      · rw [q, pk_us, if_pos rfl]
      · rw [pk_un q, if_neg q]; exact hff s hs
    have cg1 : ∀ s, s < 144 → g1 (b + 2049) s = bI (ut cut t true s) := fun s hs => by
      rw [eg1]
      unfold ut
      by_cases q : s = t
      · rw [q, u2_eq, if_pos rfl]; rfl
      · rw [u2_ne (Or.inr q), if_neg q]; exact s6 s hs
    have cm1 : ∀ s, s < 144 → gA σ1 41 s = bI (ut cut t true s) := fun s hs => by
      rw [es1, gA_ss]; exact cu _ true s7 s hs
    obtain ⟨c, g2, σ2, c4, r1, r2, r3, r4, r5, r6, r7, r8, r9⟩ := rows_both (N := N) hN W1 hfr hto cg1 cm1
    rw [r1] at e0
    rw [r2] at e1
    simp only [Option.bind_some, fx_R22 hF, fx_W22 hF g2 ht', wA41 ht'] at e0 e1
    have b29 : ∀ gx : Nat → Nat → Int32, gx b = g2 b → oI (iS h gx) b 1 1 29 = some (nI L) := fun gx e => (fx_b hF gx).trans (by rw [e, r4 29 (by decide), eg1, u2_nf (by omega), s9])
    have i42 : gI σ2 42 = nI L := by rw [r7 42 (by decide), es1]; exact s10
    by_cases cc : left ≤ c
    · rw [if_pos (nI_le cc (by omega))] at e0 e1
      have S' : SIv b g0 σ0 left (u2 g2 (b + 2049) t 0) (sA σ2 41 t 0) := by
        refine ⟨fun x y1 y2 => by rw [u2_nf (by omega), r3 x y1 (by omega), x1 x (by omega)]; exact s1 x y1 y2, fun k k1 k2 => by rw [u2_nf (by omega), r4 k k1, x1 b (by omega)]; exact s2 k k1 k2, fun j j1 j2 j3 j4 j5 j6 => by rw [gA_so j6, r6 j j1 j2 j3 j4 j6, ga1 j j6]; exact s3 j j1 j2 j3 j4 j5 j6, fun j j1 j2 => ?_, ?_, ⟨ut (ut cut t true) t false, fun s hs => ?_, fun s hs => ?_⟩, L, s8, by rw [u2_nf (by omega), r4 29 (by decide), x1 b (by omega)]; exact s9, i42, fun j hj => ?_⟩
        · show gI σ2 j = gI σ0 j
          rw [r7 j j2, es1]; exact s4 j j1 j2
        · show gJ σ2 = gJ σ0
          rw [r8, es1]; exact s5
        · unfold ut
          by_cases q : s = t
          · rw [q, u2_eq, if_pos rfl]; rfl
          · rw [u2_ne (Or.inr q), if_neg q]; exact r5 s hs
        · rw [gA_ss]
          by_cases q : s = t
          · rw [q, pk_us]; unfold ut; rw [if_pos rfl]; rfl
          · rw [pk_un q, r9 s hs]; unfold ut; rw [if_neg q, if_neg q]
        · rw [u2_nf (by omega), r3 _ (by omega) (by omega), x1 _ (by omega), gA_so (by decide), r6 40 (by decide) (by decide) (by decide) (by decide) (by decide), ga1 40 (by decide)]
          exact s11 j hj
      obtain ⟨g', σ', p1, p2, p3⟩ := ih (t + 1) left _ _ m (by omega) (by omega) S'
      exact ⟨g', σ', by rw [hX, ← e0]; exact p1, by rw [hY, ← e1]; exact p2, p3⟩
    · rw [if_neg (nI_ge (by omega) (by omega))] at e0 e1
      have L4 : L < 4 := by omega
      have wl2 : wI (iS h g2) (b + 2198) 31 (nI L) (nI t) = some (iS h (u2 g2 (b + 2198) L (nI t))) := fx_W28 hF g2 L4
      have wm2 : wA σ2 40 (nI L) (nI t) = some (sA σ2 40 L (nI t)) := wA40 (by omega)
      have nl : nI left + -1 = nI (left - 1) := pl_m1 (by omega)
      have nL : nI L + 1 = nI (L + 1) := nI_add _ 1
      simp only [fx_R28 hF, Option.bind_some, b29 g2 rfl, wl2, b29 (u2 g2 (b + 2198) L (nI t)) (u2_nf (by omega)), fx_p hF, nl, nL] at e0
      simp only [i42, wm2, Option.bind_some, lt_, show gI (sA σ2 40 L (nI t)) 42 = nI L from i42, nl, nL] at e1
      have S' : SIv b g0 σ0 (left - 1) (u2 (u2 g2 (b + 2198) L (nI t)) b 29 (nI (L + 1))) (sI (sA σ2 40 L (nI t)) 42 (nI (L + 1))) := by
        have xx : ∀ x, x ≠ b → x ≠ b + 2198 → u2 (u2 g2 (b + 2198) L (nI t)) b 29 (nI (L + 1)) x = g2 x := fun x y1 y2 => by rw [u2_nf y1, u2_nf y2]
        have gg : ∀ j, j ≠ 40 → gA (sI (sA σ2 40 L (nI t)) 42 (nI (L + 1))) j = gA σ2 j := fun j hj => by rw [show gA (sI (sA σ2 40 L (nI t)) 42 (nI (L + 1))) j = gA (sA σ2 40 L (nI t)) j from rfl, gA_so hj]
        refine ⟨fun x y1 y2 => by rw [xx x y1 (by omega), r3 x y1 (by omega), x1 x (by omega)]; exact s1 x y1 y2, fun k k1 k2 => by rw [u2_ne (Or.inr k2), u2_nf (by omega), r4 k k1, x1 b (by omega)]; exact s2 k k1 k2, fun j j1 j2 j3 j4 j5 j6 => by rw [gg j j5, r6 j j1 j2 j3 j4 j6, ga1 j j6]; exact s3 j j1 j2 j3 j4 j5 j6, fun j j1 j2 => ?_, ?_, ⟨ut cut t true, fun s hs => by rw [xx _ (by omega) (by omega)]; exact r5 s hs, fun s hs => by rw [gg 41 (by decide)]; exact r9 s hs⟩, L + 1, by omega, u2_eq .., by rw [gI_sI, if_pos rfl], fun j hj => ?_⟩
        · rw [gI_sI, if_neg j1]
          show gI σ2 j = gI σ0 j
          rw [r7 j j2, es1]; exact s4 j j1 j2
        · show gJ σ2 = gJ σ0
          rw [r8, es1]; exact s5
        · rw [u2_nf (by omega)]
          show u2 g2 (b + 2198) L (nI t) (b + 2198) j = gA (sA σ2 40 L (nI t)) 40 j
          rw [gA_ss]
          by_cases q : j = L
          · rw [q, u2_eq, pk_us]
          · rw [u2_ne (Or.inr q), pk_un q, r3 _ (by omega) (by omega), x1 _ (by omega), r6 40 (by decide) (by decide) (by decide) (by decide) (by decide), ga1 40 (by decide)]
            exact s11 j (by omega)
      obtain ⟨g', σ', p1, p2, p3⟩ := ih (t + 1) (left - 1) _ _ m (by omega) (by omega) S'
      exact ⟨g', σ', by rw [hX, ← e0]; exact p1, by rw [hY, ← e1]; exact p2, p3⟩
end PSQ
