/-! rows of tufts: how many, both sides -/
def RCs (b : Nat) (g0 : Nat → Nat → Int32) (cut thr : Nat → Bool) (flw : Nat → Nat → Bool) (g : Nat → Nat → Int32) : Prop := (∀ x, x ≠ b → (x < b + 2049 ∨ b + 2198 ≤ x ∨ x = b + 2051) → g x = g0 x) ∧ (∀ k, k ≠ 27 → g b k = g0 b k) ∧ (∀ t, t < 144 → g (b + 2049) t = bI (cut t)) ∧ (∀ t, t < 144 → g (b + 2050) t = bI (thr t)) ∧ ∀ t d, t < 144 → d < 4 → g (b + 2052 + t) d = bI (flw t d)
def RMs (σ0 : MS) (cut thr : Nat → Bool) (flw : Nat → Nat → Bool) (σ : MS) : Prop := (∀ j, j ≠ 36 → j ≠ 37 → j ≠ 38 → j ≠ 39 → j ≠ 41 → gA σ j = gA σ0 j) ∧ (∀ j, j ≠ 43 → gI σ j = gI σ0 j) ∧ gJ σ = gJ σ0 ∧ (∀ t, t < 144 → gA σ 41 t = bI (cut t)) ∧ (∀ t, t < 144 → gA σ 37 t = bI (thr t)) ∧ ∀ t d, t < 144 → d < 4 → gA σ 36 (4 * t + d) = bI (flw t d)
section PSP
variable {h : HS} {g0 g g' : Nat → Nat → Int32} {σ0 σ : MS} {N b ha n fr to i t d o u v : Nat} {F : Nat → Nat} {nm : Nat → Int64} {cut thr : Nat → Bool} {flw flw0 : Nat → Nat → Bool} {A A1 A2 : QS} {x : Bool}
theorem RC.s (R : RC b g0 cut thr flw A g) : RCs b g0 cut thr flw g := ⟨R.1, R.2.1, R.2.2.1, R.2.2.2.1, R.2.2.2.2.1⟩
theorem RM.s (R : RM σ0 cut thr flw A σ) : RMs σ0 cut thr flw σ := ⟨R.1, R.2.1, R.2.2.1, R.2.2.2.1, R.2.2.2.2.1, R.2.2.2.2.2.1⟩
/-- an array of the Model is filled -/
theorem mfill (l : Nat → MS → Int32 → Option MS) (k n : Nat) (w : Int32) (hk : mln k = n) (hn : n < 100000) (hs : ∀ m s i, i < n → l (m + 1) s (nI i) = (wA s k (nI i) w).bind fun s' => l m s' (nI (i + 1))) (he : ∀ m s, l (m + 1) s (nI n) = some s) (σ : MS) (hN : n < N) : ∃ f, l N σ (nI 0) = some (aS σ k f) ∧ ∀ j, j < n → f j = w := by
  have key : okk (l N σ (nI 0)) (fun x => ∃ f, x = aS σ k f ∧ ∀ j, j < n → f j = w) := by
    refine okf (fun m (s : MS) i => l m s i) n (fun i x => ∃ f, x = aS σ k f ∧ ∀ t, t < i → f t = w) _ ?_ ?_ 0 σ N (by omega) (by omega) ⟨gA σ k, (aS_id σ k).symm, fun t ht => absurd ht (Nat.not_lt_zero _)⟩
    · rintro i x m hi ⟨f, rfl, q⟩
      right
      refine ⟨aS σ k (upd f i w), ⟨_, rfl, fun t ht => ?_⟩, ?_⟩
      · by_cases e : t = i
        · rw [e, pk_us]
        · rw [pk_un e]; exact q t (by omega)
      · rw [hs m _ i hi, wA_n (by rw [hk]; exact hi) (by rw [hk]; omega), sA_6]; rfl
    · rintro x m ⟨f, rfl, q⟩
      exact ⟨_, he m _, f, rfl, q⟩
  obtain ⟨x, e1, f, rfl, e2⟩ := key
  exact ⟨f, e1, e2⟩
theorem VI_0 : VI F ((fun _ => none, fun _ => 0, 0) : QS) := ⟨(cn_f0 288 fun _ _ => rfl).symm, fun j hj => absurd hj (Nat.not_lt_zero _), fun v hv => by cases hv⟩
theorem co_more0 (hN : 200000 ≤ N) (hF : FX h b) (R : RCs b g0 cut thr flw g) (hfr : fr < 144) {y : Int32} : ∃ g1, RC b g0 cut thr flw (Q0 fr) g1 ∧ fX1_isMore N (iS h g) b (nI fr) y = osm (lX1_isMore_29 N N (iS h g1) b (nI fr) y (nI 0)) id fun q34 => some (0, q34) := by
  obtain ⟨r1, r2, r3, r4, r5⟩ := R
  obtain ⟨t25, l25⟩ := hF.2.2.2.2.1 2196 31 288 rfl
  have f1 : fJ3_fill N (iS h g) (b + 2196) (-1) = some (iS h (flG g (b + 2196) 288 (-1))) := co_fill hN t25 l25 (by decide) (Nat.le_trans hF.2.1 (Nat.le_add_right _ _))
  have R1 : RC b g0 cut thr flw ((fun _ => none, fun _ => 0, 0) : QS) (u2 (flG g (b + 2196) 288 (-1)) b 27 0) := by
    have x1 : ∀ y, y ≠ b → y ≠ b + 2196 → u2 (flG g (b + 2196) 288 (-1)) b 27 0 y = g y := fun y y1 y2 => by rw [u2_nf y1, flG_o y2]
    refine ⟨fun y y1 y2 => by rw [x1 y y1 (by omega)]; exact r1 y y1 y2, fun k hk => by rw [u2_ne (Or.inr hk), flG_o (by omega)]; exact r2 k hk, fun s hs => by rw [x1 _ (by omega) (by omega)]; exact r3 s hs, fun s hs => by rw [x1 _ (by omega) (by omega)]; exact r4 s hs, fun s e hs he => by rw [x1 _ (by omega) (by omega)]; exact r5 s e hs he, fun w hw => by rw [u2_nf (by omega), flG_i hw]; rfl, fun j hj => absurd hj (Nat.not_lt_zero _), u2_eq .., fun v u q => by cases q⟩
  obtain ⟨g1, q1, q2⟩ := co_look (N := N) (F := fun _ => 0) (v := 2 * fr + 1) (u := 2 * fr + 1) hF R1 VI_0 (by omega) (by omega)
  refine ⟨g1, q2, ?_⟩
  unfold fX1_isMore
  simp only [fx_R25 hF g, Option.bind_some, f1, fx_p hF, fx_g hF, show (2 : Int32) * nI fr = nI (2 * fr) from pl_lm 2 fr, show nI (2 * fr) + 1 = nI (2 * fr + 1) from nI_add _ 1, q1]; rfl
theorem mo_more0 (hN : 200000 ≤ N) (R : RMs σ0 cut thr flw σ) (hfr : fr < 144) {y : Int32} : ∃ s1, RM σ0 cut thr flw (Q0 fr) s1 ∧ fX5_runsMore N σ (nI fr) y = osm (lX5_runsMore_43 N N s1 (nI fr) y (nI 0)) id fun q42 => some (0, q42) := by
  obtain ⟨r1, r2, r3, r4, r5, r6⟩ := R
  obtain ⟨f, e1, e2⟩ := mfill (N := N) (fun m s i => lX5_runsMore_2 N m s (nI fr) y i) 38 288 (-1) rfl (by decide) (fun m s i hi => by
    show lX5_runsMore_2 N (m + 1) s (nI fr) y (nI i) = _
    rw [lX5_runsMore_2, if_neg (show ¬ (288 : Int32) ≤ nI i from nI_ge (b := 288) hi (by decide)), show nI i + 1 = nI (i + 1) from nI_add _ 1]) (fun m s => by
    show lX5_runsMore_2 N (m + 1) s (nI fr) y (nI 288) = _
    rw [lX5_runsMore_2, if_pos (by decide)]) σ (by omega)
  have R1 : RM σ0 cut thr flw ((fun _ => none, fun _ => 0, 0) : QS) (sI (aS σ 38 f) 43 0) := by
    have ga : ∀ j, j ≠ 38 → gA (sI (aS σ 38 f) 43 0) j = gA σ j := fun j j1 => by rw [show gA (sI (aS σ 38 f) 43 0) j = gA (aS σ 38 f) j from rfl, gA_o j1]
    refine ⟨fun j j1 j2 j3 j4 j5 => by rw [ga j j3]; exact r1 j j1 j2 j3 j4 j5, fun j hj => by rw [gI_sI, if_neg hj]; exact r2 j hj, r3, fun s hs => by rw [ga 41 (by decide)]; exact r4 s hs, fun s hs => by rw [ga 37 (by decide)]; exact r5 s hs, fun s e hs he => by rw [ga 36 (by decide)]; exact r6 s e hs he, fun w hw => ?_, fun j hj => absurd hj (Nat.not_lt_zero _), by rw [gI_sI, if_pos rfl]; rfl, fun v u q => by cases q⟩
    show gA (aS σ 38 f) 38 w = _
    rw [gA_same, e2 w hw]; rfl
  obtain ⟨s1, q1, q2⟩ := mo_comes (N := N) (F := fun _ => 0) (v := 2 * fr + 1) (u := 2 * fr + 1) R1 VI_0 (by omega) (by omega)
  refine ⟨s1, q2, ?_⟩
  unfold fX5_runsMore
  rw [show lX5_runsMore_2 N N σ (nI fr) y 0 = some (aS σ 38 f) from e1]
  simp only [Option.bind_some, lt_, show (2 : Int32) * nI fr = nI (2 * fr) from pl_lm 2 fr, show nI (2 * fr) + 1 = nI (2 * fr + 1) from nI_add _ 1, q1]; rfl
/-- one row more, or none: both sides -/
theorem more_both (hN : 200000 ≤ N) (W : NW h g0 b σ0 F ha) (R : RCs b g0 cut thr flw g) (M : RMs σ0 cut thr flw σ) (hfr : tuf F fr) (hto : to < 144) (ta : thr fr = false) (fb : to ≠ fr → ∀ d, d < 4 → flw to d = false) : ∃ v g' σ', fX1_isMore N (iS h g) b (nI fr) (nI to) = some (v, iS h g') ∧ fX5_runsMore N σ (nI fr) (nI to) = some (v, σ') ∧ ((v = 0 ∧ RCs b g0 cut thr flw g' ∧ RMs σ0 cut thr flw σ') ∨ (v = 1 ∧ F (25 + to) ≠ 1 ∧ ∃ thr' flw', RCs b g0 cut thr' flw' g' ∧ RMs σ0 cut thr' flw' σ' ∧ thr' fr = false ∧ (to ≠ fr → ∀ d, d < 4 → flw' to d = false) ∧ cn (flw' fr) 4 = cn (flw fr) 4 + 1)) := by
  have k0 := W.mh.1.1.1
  have k1 := W.mh.1.1.2.1
  have hf := tuf_lt k0 k1 hfr
  obtain ⟨g1, R1, e1⟩ := co_more0 (N := N) (y := nI to) hN W.1 R hf
  obtain ⟨s1, M1, e2⟩ := mo_more0 (N := N) (y := nI to) hN M hf
  obtain ⟨r, r', p1, p2, p3⟩ := jn_run (N := N) hN W hf hto ta fb 288 0 _ g1 s1 N R1 M1 (QI_0 k0 k1 hfr) (by omega) (by omega) (by omega)
  rw [e1, e2, p1, p2]
  rcases p3 with ⟨g', σ', A', rfl, rfl, q1, q2⟩ | ⟨g', σ', thr', flw', A1, A2, rfl, rfl, q1, q2, q3, q4, q5, d, hd, q6, q7⟩
  · exact ⟨0, g', σ', rfl, rfl, Or.inl ⟨rfl, q1.s, q2.s⟩⟩
  · refine ⟨1, g', σ', rfl, rfl, Or.inr ⟨rfl, q5, thr', flw', q1.s, q2.s, q3, q4, ?_⟩⟩
    rw [← cn_up q6 4 hd]
    exact cn_ext 4 fun i hi => q7 i hi
/-- rows as long as there are any -/
theorem rows_loop (hN : 200000 ≤ N) (W : NW h g0 b σ0 F ha) (hfr : tuf F fr) (hto : to < 144) (wf : F (25 + fr) = 0) : ∀ k thr flw g σ fuel fuel', RCs b g0 cut thr flw g → RMs σ0 cut thr flw σ → thr fr = false → (to ≠ fr → ∀ d, d < 4 → flw to d = false) → 4 ≤ k + cn (flw fr) 4 → k < fuel → k < fuel' →
    ∃ c g' σ' thr' flw', c ≤ 4 ∧ lX1_rows_35 N fuel (iS h g) b (nI fr) (nI to) (nI (cn (flw fr) 4)) = some (iS h g', nI c) ∧ lX5_rowsBetween_74 N fuel' σ (nI fr) (nI to) (nI (cn (flw fr) 4)) = some (σ', nI c) ∧ RCs b g0 cut thr' flw' g' ∧ RMs σ0 cut thr' flw' σ' ∧ (F (25 + to) = 1 → c = cn (flw fr) 4 ∧ thr' = thr ∧ flw' = flw) := by
  have k0 := W.mh.1.1.1
  have k1 := W.mh.1.1.2.1
  have hf := tuf_lt k0 k1 hfr
  intro k
  induction k with
  | zero =>
    intro thr flw g σ fuel fuel' R M ta fb hc hn hn'
    obtain ⟨m, rfl⟩ : ∃ m, fuel = m + 1 := ⟨fuel - 1, by omega⟩
    obtain ⟨m', rfl⟩ : ∃ m, fuel' = m + 1 := ⟨fuel' - 1, by omega⟩
    have W' : NW h g b σ0 F ha := W.of (fun q q1 q2 => R.1 q q1 (by omega)) rfl rfl
    obtain ⟨v, g', σ', e1, e2, e3⟩ := more_both (N := N) hN W R M hfr hto ta fb
    have hv : v = 0 ∧ RCs b g0 cut thr flw g' ∧ RMs σ0 cut thr flw σ' := by
      rcases e3 with e3 | ⟨-, -, thr', flw', -, -, -, -, e3⟩
      · exact e3
      · have := cn_le (flw' fr) 4
        omega
    obtain ⟨rfl, e4, e5⟩ := hv
    refine ⟨cn (flw fr) 4, g', σ', thr, flw, cn_le _ _, ?_, ?_, e4, e5, fun _ => ⟨rfl, rfl, rfl⟩⟩
    · rw [lX1_rows_35, W'.r3]
      simp only [Option.bind_some, ho_R W'.ho (k := 8) (by decide) (by decide), ho_wall W'.ho hf, wf, show (nI 0 = 0) = True from eq_true rfl, if_true, fx_g W.1, e1]
    · rw [lX5_rowsBetween_74, e2]; rfl
  | succ k ih =>
    intro thr flw g σ fuel fuel' R M ta fb hc hn hn'
    obtain ⟨m, rfl⟩ : ∃ m, fuel = m + 1 := ⟨fuel - 1, by omega⟩
    obtain ⟨m', rfl⟩ : ∃ m, fuel' = m + 1 := ⟨fuel' - 1, by omega⟩
    have W' : NW h g b σ0 F ha := W.of (fun q q1 q2 => R.1 q q1 (by omega)) rfl rfl
    obtain ⟨v, g', σ', e1, e2, e3⟩ := more_both (N := N) hN W R M hfr hto ta fb
    have c1 : lX1_rows_35 N (m + 1) (iS h g) b (nI fr) (nI to) (nI (cn (flw fr) 4)) = if v = 0 then some (iS h g', nI (cn (flw fr) 4)) else lX1_rows_35 N m (iS h g') b (nI fr) (nI to) (nI (cn (flw fr) 4) + 1) := by
      rw [lX1_rows_35, W'.r3]
      simp only [Option.bind_some, ho_R W'.ho (k := 8) (by decide) (by decide), ho_wall W'.ho hf, wf, show (nI 0 = 0) = True from eq_true rfl, if_true, fx_g W.1, e1]
    have c2 : lX5_rowsBetween_74 N (m' + 1) σ (nI fr) (nI to) (nI (cn (flw fr) 4)) = if v = 0 then some (σ', nI (cn (flw fr) 4)) else lX5_rowsBetween_74 N m' σ' (nI fr) (nI to) (nI (cn (flw fr) 4) + 1) := by
      rw [lX5_rowsBetween_74, e2]; rfl
    rcases e3 with ⟨rfl, e4, e5⟩ | ⟨rfl, e6, thr', flw', e7, e8, e9, e10, e11⟩
    · refine ⟨cn (flw fr) 4, g', σ', thr, flw, cn_le _ _, ?_, ?_, e4, e5, fun _ => ⟨rfl, rfl, rfl⟩⟩
      · rw [c1, if_pos rfl]
      · rw [c2, if_pos rfl]
    · obtain ⟨c, g2, σ2, thr2, flw2, q0, q1, q2, q3, q4, q5⟩ := ih thr' flw' g' σ' m m' e7 e8 e9 e10 (by omega) (by omega) (by omega)
      rw [e11, ← show nI (cn (flw fr) 4) + 1 = nI (cn (flw fr) 4 + 1) from nI_add _ 1] at q1 q2
      refine ⟨c, g2, σ2, thr2, flw2, q0, ?_, ?_, q3, q4, fun q => absurd q e6⟩
      · rw [c1, if_neg (by decide)]; exact q1
      · rw [c2, if_neg (by decide)]; exact q2
end PSP
