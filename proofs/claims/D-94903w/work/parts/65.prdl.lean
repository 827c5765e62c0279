/-! readings: the recursion against the odometer -/
section PRL
variable {h : HS} {g0 g g' : Nat → Nat → Int32} {σ0 σ : MS} {N b a n K c : Nat} {F : Nat → Nat} {nm : Nat → Int64} {ov : Nat → Nat → Nat} {A A' : Nat → Nat}
def gW (b : Nat) (g : Nat → Nat → Int32) (A : Nat → Nat) : Nat → Nat → Int32 := fun x => if x = b + 2036 then (fun i => wk (A i)) else g x
theorem gW_o {x : Nat} (hx : x ≠ b + 2036) : gW b g A x = g x := if_neg hx
theorem gW_i {i : Nat} : gW b g A (b + 2036) i = wk (A i) := by unfold gW; rw [if_pos rfl]
/-- between two readings, the walkers below lv being set -/
def RTl (h : HS) (g0 : Nat → Nat → Int32) (σ0 : MS) (b a K : Nat) (F : Nat → Nat) (nm : Nat → Int64) (ov : Nat → Nat → Nat) (lv : Nat) (A : Nat → Nat) (c : Nat) (g : Nat → Nat → Int32) (σ : MS) : Prop :=
  RT h g0 σ0 b a K F nm ov A c (gW b g A) σ ∧ ∀ i, i < lv → g (b + 2036) i = wk (A i)
theorem RT.asg (T : RT h g0 σ0 b a K F nm ov A c g σ) : ∀ w, w < F 3 → A w ≤ F 2 ∧ gA σ 25 w = nI (A w) ∧ g (b + 2036) w = wk (A w) := T.1.2.2.2.2.2.2.2
theorem RT.l (T : RT h g0 σ0 b a K F nm ov A c g σ) {lv : Nat} (hl : lv ≤ F 3) : RTl h g0 σ0 b a K F nm ov lv A c g σ := by
  refine ⟨?_, fun i hi => (T.asg i (by omega)).2.2⟩
  have := T.mv (g' := gW b g A) (A' := A) (B := gA σ 25) (fun x hx => gW_o hx) fun w hw => ⟨(T.asg w hw).1, (T.asg w hw).2.1, gW_i⟩
  rw [aS_id] at this
  exact this
theorem RTl.t (T : RTl h g0 σ0 b a K F nm ov (F 3) A c g σ) : RT h g0 σ0 b a K F nm ov A c g σ := by
  have := T.1.mv (g' := g) (A' := A) (B := gA σ 25) (fun x hx => (gW_o hx).symm) fun w hw => ⟨(T.1.asg w hw).1, (T.1.asg w hw).2.1, T.2 w hw⟩
  rw [aS_id] at this
  exact this
theorem RTl.mv {lv : Nat} (T : RTl h g0 σ0 b a K F nm ov lv A c g σ) {lv' : Nat} {B : Nat → Int32} (hx : ∀ x, x ≠ b + 2036 → g' x = g x) (hA : ∀ w, w < F 3 → A' w ≤ F 2 ∧ B w = nI (A' w)) (hl : ∀ i, i < lv' → g' (b + 2036) i = wk (A' i)) : RTl h g0 σ0 b a K F nm ov lv' A' c g' (aS σ 25 B) :=
  ⟨T.1.mv (fun x hx' => by rw [gW_o hx', gW_o hx']; exact hx x hx') fun w hw => ⟨(hA w hw).1, (hA w hw).2, gW_i⟩, hl⟩
/-- the numbers with way w set to v -/
def sv (A : Nat → Nat) (w v : Nat) : Nat → Nat := fun i => if i = w then v else A i
theorem rt_lvl (hN : 200000 ≤ N) {j w d p : Nat} (hw : w + (j + 1) = F 3) (hM : MH (gA σ0 6) F)
    (ih : ∀ A c g σ, (∀ i, w + 1 ≤ i → i < F 3 → A i = 0) → RTl h g0 σ0 b a K F nm ov (w + 1) A c g σ → c + p ≤ 200000 → ∃ g2 σ2 c2 k, c ≤ c2 ∧ c2 ≤ c + p ∧ k ≤ p ∧ RTl h g0 σ0 b a K F nm ov (w + 1) A c2 g2 σ2 ∧ rTW N d (iS h g) b (nI (w + 1)) = some (iS h g2) ∧ ∀ n, lX5_readings_254 N (n + k) σ (nI K) (nI c) 1 = lX5_readings_254 N n (aS σ2 25 (carry F (w + 1) (gA σ2 25)).2) (nI K) (nI c2) (carry F (w + 1) (gA σ2 25)).1) :
    ∀ t v fuel A c g σ, v + t = F 2 → t + 1 < fuel → (∀ i, w + 1 ≤ i → i < F 3 → A i = 0) → A w = v → RTl h g0 σ0 b a K F nm ov w A c g σ → c + (t + 1) * p ≤ 200000 → ∃ g2 σ2 c2 k, c ≤ c2 ∧ c2 ≤ c + (t + 1) * p ∧ k ≤ (t + 1) * p ∧ RTl h g0 σ0 b a K F nm ov w (sv A w 0) c2 g2 σ2 ∧ lX1_tryWays_16 N (rTW N d) fuel (iS h g) b (nI w) (wk v) = some (iS h g2) ∧ ∀ n, lX5_readings_254 N (n + k) σ (nI K) (nI c) 1 = lX5_readings_254 N n (aS σ2 25 (carry F w (gA σ2 25)).2) (nI K) (nI c2) (carry F w (gA σ2 25)).1 := by
  have k3 : F 3 ≤ 6 := hM.1.1.2.2.2.1
  have k2 : F 2 ≤ 6 := hM.1.1.2.2.1
  have w6 : w < 6 := by omega
  have rd : ∀ (g : Nat → Nat → Int32) c A σ, RT h g0 σ0 b a K F nm ov A c (gW b g A) σ → fR (iS h g) b 1 1 3 = some a ∧ fR (iS h g) a 2 2 5 = some (rf h a 5) ∧ (∀ {α : Type} (x : Option α), gT (iS h g) (rf h a 5) 15 15 x = x) ∧ fJ2_size N (iS h g) (rf h a 5) = some (nI (F 2)) := fun g c A σ T => by
    have hF := T.1.1
    have hH : HouR h g b a F nm := T.1.2.1.keep ⟨Nat.le_refl _, fun q hq => ⟨rfl, rfl, rfl, (gW_o (by obtain ⟨_, h9⟩ := hq; omega)).symm⟩⟩
    exact ⟨(fx_f hF g).trans T.1.2.2.1, ho_R hH (by decide) (by decide), fun x => ls_g (ho_p hH), ls_size (ho_p hH)⟩
  have step : ∀ v A c g σ, v ≤ F 2 → (∀ i, w + 1 ≤ i → i < F 3 → A i = 0) → A w = v → RTl h g0 σ0 b a K F nm ov w A c g σ → c + p ≤ 200000 → ∃ g2 σ2 c2 k, c ≤ c2 ∧ c2 ≤ c + p ∧ k ≤ p ∧ RTl h g0 σ0 b a K F nm ov (w + 1) A c2 g2 σ2 ∧ (∀ m, lX1_tryWays_16 N (rTW N d) (m + 1) (iS h g) b (nI w) (wk v) = lX1_tryWays_16 N (rTW N d) m (iS h g2) b (nI w) (wk (v + 1))) ∧ ∀ n, lX5_readings_254 N (n + k) σ (nI K) (nI c) 1 = lX5_readings_254 N n (aS σ2 25 (carry F (w + 1) (gA σ2 25)).2) (nI K) (nI c2) (carry F (w + 1) (gA σ2 25)).1 := by
    intro v A c g σ hv hA hAv T hc
    have hF := T.1.1.1
    have T1 : RTl h g0 σ0 b a K F nm ov (w + 1) A c (u2 g (b + 2036) w (wk v)) σ := by
      have := T.mv (g' := u2 g (b + 2036) w (wk v)) (A' := A) (B := gA σ 25) (lv' := w + 1) (fun x hx => u2_nf hx) (fun i hi => ⟨(T.1.asg i hi).1, (T.1.asg i hi).2.1⟩) fun i hi => by
        by_cases e : i = w
        · subst e; rw [u2_eq, hAv]
        · rw [u2_ne (Or.inr e)]; exact T.2 i (by omega)
      rw [aS_id] at this
      exact this
    obtain ⟨g2, σ2, c2, k, s1, s2, s3, s4, s5, s6⟩ := ih A c (u2 g (b + 2036) w (wk v)) σ hA T1 hc
    refine ⟨g2, σ2, c2, k, s1, s2, s3, s4, fun m => ?_, s6⟩
    obtain ⟨R3, H5, G5, S5⟩ := rd g c A σ T.1
    have l1 : ¬ nI (F 2) ≤ wk v := by
      cases v with
      | zero => rw [wk_0]; exact fun q => absurd (Int32.lt_of_lt_of_le (show (-1 : Int32) < 0 by decide) (Int32.le_trans (nI_le (a := 0) (b := F 2) (by omega) (by omega)) q)) (by decide)
      | succ v => rw [wk_s]; exact nI_ge (by omega) (by omega)
    rw [lX1_tryWays_16, R3]
    simp only [Option.bind_some, H5, G5, S5, if_neg l1, fx_R11 hF g, fx_W11 hF g w6, fx_g hF, show nI w + 1 = nI (w + 1) from nI_add _ 1, s5, wk_p]
  intro t
  induction t with
  | zero =>
    intro v fuel A c g σ hv hf hA hAv T hc
    obtain ⟨m, rfl⟩ : ∃ m, fuel = m + 2 := ⟨fuel - 2, by omega⟩
    obtain ⟨g2, σ2, c2, k, s1, s2, s3, s4, s5, s6⟩ := step v A c g σ (by omega) hA hAv T (by omega)
    have e25 : gA σ2 25 w = nI v := by rw [(s4.1.asg w (by omega)).2.1, hAv]
    have ec : carry F (w + 1) (gA σ2 25) = carry F w (upd (gA σ2 25) w 0) := by
      rw [carry, e25, if_pos (by rw [show v = F 2 by omega]; exact Int32.le_refl _)]
    refine ⟨g2, aS σ2 25 (upd (gA σ2 25) w 0), c2, k, s1, by omega, by omega, ?_, ?_, fun n => ?_⟩
    · refine s4.mv (fun _ _ => rfl) (fun i hi => ?_) fun i hi => ?_
      · by_cases e : i = w
        · subst e; rw [pk_us]; unfold sv; rw [if_pos rfl]; exact ⟨by omega, rfl⟩
        · rw [pk_un e]; unfold sv; rw [if_neg e]; exact ⟨(s4.1.asg i hi).1, (s4.1.asg i hi).2.1⟩
      · unfold sv; rw [if_neg (by omega)]; exact s4.2 i (by omega)
    · rw [s5 (m + 1), wk_s]
      obtain ⟨R3, H5, G5, S5⟩ := rd g2 c2 A σ2 s4.1
      rw [lX1_tryWays_16, R3]
      simp only [Option.bind_some, H5, G5, S5]
      rw [if_pos (by rw [show v = F 2 by omega]; exact Int32.le_refl _)]
    · rw [s6 n, ec, gA_same, aS_aS]
  | succ t iht =>
    intro v fuel A c g σ hv hf hA hAv T hc
    obtain ⟨m, rfl⟩ : ∃ m, fuel = m + 1 := ⟨fuel - 1, by omega⟩
    rw [Nat.succ_mul] at hc
    obtain ⟨g2, σ2, c2, k, s1, s2, s3, s4, s5, s6⟩ := step v A c g σ (by omega) hA hAv T (by omega)
    have e25 : gA σ2 25 w = nI v := by rw [(s4.1.asg w (by omega)).2.1, hAv]
    have ec : carry F (w + 1) (gA σ2 25) = (1, upd (gA σ2 25) w (nI (v + 1))) := by
      rw [carry, e25, if_neg (nI_ge (by omega) (by omega)), show nI v + 1 = nI (v + 1) from nI_add _ 1]
    have T2 : RTl h g0 σ0 b a K F nm ov w (sv A w (v + 1)) c2 g2 (aS σ2 25 (upd (gA σ2 25) w (nI (v + 1)))) := by
      refine s4.mv (fun _ _ => rfl) (fun i hi => ?_) fun i hi => ?_
      · by_cases e : i = w
        · subst e; rw [pk_us]; unfold sv; rw [if_pos rfl]; exact ⟨by omega, rfl⟩
        · rw [pk_un e]; unfold sv; rw [if_neg e]; exact ⟨(s4.1.asg i hi).1, (s4.1.asg i hi).2.1⟩
      · unfold sv; rw [if_neg (by omega)]; exact s4.2 i (by omega)
    obtain ⟨g3, σ3, c3, k3', r1, r2, r3, r4, r5, r6⟩ := iht (v + 1) m (sv A w (v + 1)) c2 g2 _ (by omega) (by omega) (fun i i1 i2 => by unfold sv; rw [if_neg (by omega)]; exact hA i i1 i2) (by unfold sv; rw [if_pos rfl]) T2 (by omega)
    have es : sv (sv A w (v + 1)) w 0 = sv A w 0 := by
      funext i; unfold sv
      by_cases e : i = w
      · rw [if_pos e, if_pos e]
      · rw [if_neg e, if_neg e, if_neg e]
    rw [es] at r4
    refine ⟨g3, σ3, c3, k3' + k, by omega, by rw [Nat.succ_mul]; omega, by rw [Nat.succ_mul]; omega, r4, by rw [s5 m]; exact r5, fun n => ?_⟩
    rw [← Nat.add_assoc, s6 (n + k3'), ec]
    exact r6 n
end PRL
