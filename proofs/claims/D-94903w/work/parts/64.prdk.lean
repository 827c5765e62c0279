/-! readings: all of them -/
section PRK
variable {h : HS} {g0 g g' : Nat → Nat → Int32} {σ0 σ : MS} {N b a n K c : Nat} {F : Nat → Nat} {nm : Nat → Int64} {ov : Nat → Nat → Nat} {A A' : Nat → Nat}
theorem RT.mv (T : RT h g0 σ0 b a K F nm ov A c g σ) {B : Nat → Int32} (hx : ∀ x, x ≠ b + 2036 → g' x = g x) (hA : ∀ w, w < F 3 → A' w ≤ F 2 ∧ B w = nI (A' w) ∧ g' (b + 2036) w = wk (A' w)) : RT h g0 σ0 b a K F nm ov A' c g' (aS σ 25 B) := by
  obtain ⟨⟨hF, hH, h3, hM, ⟨hK, K8⟩, hT, hO, -⟩, t1, t2, t3, ⟨t4, t5, t6⟩, t7⟩ := T
  have k3 : F 3 ≤ 6 := hM.1.1.2.2.2.1
  have eb := hx b (by omega)
  refine ⟨⟨hF, hH.keep ⟨Nat.le_refl _, fun q hq => ⟨rfl, rfl, rfl, hx q (by obtain ⟨_, h9⟩ := hq; omega)⟩⟩, h3, by rw [gA_o (by decide)]; exact hM, ⟨by rw [eb]; exact hK, K8⟩, fun k hk => ?_, fun k w hk hw => ?_, fun w hw => ?_⟩, fun x y1 y2 y3 y4 => by rw [hx x y2]; exact t1 x y1 y2 y3 y4, fun k k1 k2 => by rw [eb]; exact t2 k k1 k2, by rw [eb]; exact t3, ⟨t4, fun j j1 j2 j3 => by rw [gA_o j1]; exact t5 j j1 j2 j3, t6⟩, ?_⟩
  · rw [hx _ (by omega), hx _ (by omega), gA_o (by decide)]; exact hT k hk
  · rw [hx _ (by omega), gA_o (by decide)]; exact hO k w hk hw
  · rw [gA_same]; exact hA w hw
  · rw [eb, hx _ (by omega), hx _ (by omega), gA_o (by decide), gA_o (by decide)]; exact t7
theorem rt_leaf (hN : 200000 ≤ N) (hc : c < 1000000) (T : RT h g0 σ0 b a K F nm ov A c g σ) (rec : HS → Nat → Int32 → Option HS) : ∃ g2 σ2 c2, c ≤ c2 ∧ c2 ≤ c + 1 ∧ RT h g0 σ0 b a K F nm ov A c2 g2 σ2 ∧ fX1_tryWays N rec (iS h g) b (nI (F 3)) = some (iS h g2) ∧ ∀ n, lX5_readings_254 N (n + 1) σ (nI K) (nI c) 1 = lX5_readings_254 N n (aS σ2 25 (carry F (F 3) (gA σ2 25)).2) (nI K) (nI c2) (carry F (F 3) (gA σ2 25)).1 := by
  obtain ⟨R, -, -, t3, -⟩ := id T
  have hF := R.1
  have hM := R.2.2.2.1
  have k3 : F 3 ≤ 6 := hM.1.1.2.2.2.1
  have R3 : fR (iS h g) b 1 1 3 = some a := (fx_f hF g).trans R.2.2.1
  have nx : ∀ σ2 : MS, MH (gA σ2 6) F → fX5_nextReading N σ2 = some ((carry F (F 3) (gA σ2 25)).1, aS σ2 25 (carry F (F 3) (gA σ2 25)).2) := fun σ2 h2 => by
    unfold fX5_nextReading
    rw [show rA σ2 6 3 = some (nI (F 3)) from mo_i (i := 3) h2 (by decide)]
    have := mo_carry (N := N) h2 (F 3) N (gA σ2 25) k3 (by omega)
    rw [aS_id] at this
    exact this
  have H6 := ho_R R.2.1 (k := 6) (by decide) (by decide)
  have G6 := fun {α : Type} (x : Option α) => (ls_g (ho_w R.2.1) : gT (iS h g) (rf h a 6) 15 15 x = x)
  have S6 := ls_size (N := N) (ho_w R.2.1)
  have le : nI (F 3) ≤ nI (F 3) := Int32.le_refl _
  rcases so_all hN R rec with ⟨q1, q2⟩ | ⟨q1, q2⟩
  · obtain ⟨g2, σ2, q, mk, T2, p1, p2, p3, p4, p5⟩ := rt_put hN hc T rec
    refine ⟨g2, σ2, c + 1, by omega, by omega, T2, ?_, fun n => ?_⟩
    · have n1 : nI c + 1 = nI (c + 1) := nI_add _ 1
      have O : oI (iS h g) b 1 1 18 = some (nI c) := (fx_b hF g).trans (congrArg some t3)
      unfold fX1_tryWays
      rw [R3]
      simp only [Option.bind_some, H6, G6, S6, if_pos le, q1, osm, O, n1, fx_p hF g, p1, p2]
      by_cases z : nI (c + 1) = 1
      · rw [if_pos z, p3 z]; rfl
      · rw [if_neg z, (p4 z).1]
        simp only [Option.bind_some]
        rw [(p4 z).2]; rfl
    · have n1 : nI c + 1 = nI (c + 1) := nI_add _ 1
      have e : (if nI (c + 1) = 1 then (1 : Int32) else 0) = if c = 0 then 1 else 0 := by
        by_cases c0 : c = 0
        · subst c0; rfl
        · rw [if_neg c0, if_neg fun q => c0 (by have := (nI_eq (b := 1) (by omega) (by decide)).mp q; omega)]
      rw [lX5_readings_254, if_neg (by decide), q2]
      simp only [Option.bind_some, one0, if_false, lt_, n1]
      rw [e, p5]
      simp only [Option.bind_some]
      rw [nx σ2 T2.1.2.2.2.1]; rfl
  · refine ⟨g, σ, c, by omega, by omega, T, ?_, fun n => ?_⟩
    · unfold fX1_tryWays
      rw [R3]
      simp only [Option.bind_some, H6, G6, S6, if_pos le, q1, osm, id]
    · rw [lX5_readings_254, if_neg (by decide), q2]
      simp only [Option.bind_some, eq_self, if_true]
      rw [nx σ hM]; rfl
end PRK
