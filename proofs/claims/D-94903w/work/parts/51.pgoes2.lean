/-! operation: goes, whole -/
section PG2
variable {h : HS} {g : Nat → Nat → Int32} {σ : MS} {N b a n : Nat} {F : Nat → Nat} {nm : Nat → Int64}
theorem goes_all (hN : 200000 ≤ N) (hC : HouR h g b a F nm) (hR : RugS h (b + 8)) (hk : kR h (b + 8) 0 = some a) (hM : MH (gA σ 6) F) {p w s : Nat} (hp : p < F 2) (hw : w < F 3) (hs : s < F 2) {s1 : HS} {s2 : MS} (hP : RP h g σ b F s1 s2) : ∃ t1 t2, RP h g σ b F t1 t2 ∧ fX3_goes N s1 (b + 8) (nI p) (nI w) (nI s) = some (nI (F (177 + w)), t1) ∧ fX5_walks N s2 (nI p) (nI w) (nI (F (13 + s))) = some t2 := by
  have k2 : F 2 ≤ 6 := hM.1.1.2.2.1
  have k3 : F 3 ≤ 6 := hM.1.1.2.2.2.1
  obtain ⟨kw1, kw2, kw3⟩ := hM.1.2.2.2.2.2 w hw
  have hH : ∀ g', (∀ x, (x < b + 8 ∨ b + 2032 ≤ x) → g' x = g x) → HouR h g' b a F nm := fun g' p3 => hC.keep ⟨Nat.le_refl _, fun q hq => ⟨rfl, rfl, rfl, p3 q (by obtain ⟨_, h9⟩ := hq; omega)⟩⟩
  refine exE2 (lp_two (fun m (x : HS) i => lX3_goes_19 N m x (b + 8) (nI p) (nI s) (le h (rf h a 6) w) i) (fun m (x : MS) i => lX5_walks_15 N m x (nI p) (nI w) (nI (F (13 + s))) (nI (F (177 + w))) i) (F (177 + w)) (fun i x y => RP h g σ b F x y) (fun x y => RP h g σ b F x y) ?_ ?_ (F (177 + w)) 0 s1 s2 N (by omega) (by omega) hP) fun r r' e1 e2 hq => ?_
  · intro m i x y hi hxy
    right
    obtain ⟨t1, t2, q1, q2⟩ := goes_step (N := N) hC hR hk hM hp hw hs hi hxy
    exact ⟨t1, t2, q1, (q2 m).1, (q2 m).2⟩
  · intro m x y hxy
    obtain ⟨g', f', rfl, rfl, p1, p2, p3⟩ := id hxy
    refine ⟨iS h g', aS σ 6 f', ?_, ?_, hxy⟩
    · rw [lX3_goes_19, ho_w3 (hH g' p3) hw]
      simp (disch := omega) only [Option.bind_some, pl_let, pl_lef, pl_ltt, pl_ltf, pl_eqf, pl_let1, pl_lef1, pl_ltt1, pl_ltf1, pl_eqf1, pl_let2, pl_lef2, pl_ltt2, pl_ltf2, pl_em1, if_true, if_false, ite_self]
    · rw [lX5_walks_15]
      simp (disch := omega) only [pl_let, pl_lef, pl_ltt, pl_ltf, pl_eqf, pl_let1, pl_lef1, pl_ltt1, pl_ltf1, pl_eqf1, pl_let2, pl_lef2, pl_ltt2, pl_ltf2, pl_em1, if_true, if_false, ite_self]
  · obtain ⟨g0, f0, rfl, rfl, p1, p2, p3⟩ := id hP
    obtain ⟨g', f', rfl, rfl, q1, q2, q3⟩ := hq
    have e1 : lX3_goes_19 N N (iS h g0) (b + 8) (nI p) (nI s) (le h (rf h a 6) w) 0 = some (iS h g') := e1
    have e2 : lX5_walks_15 N N (aS σ 6 f0) (nI p) (nI w) (nI (F (13 + s))) (nI (F (177 + w))) 0 = some (aS σ 6 f') := e2
    have hH0 := hH g0 p3
    have hH1 := hH g' q3
    refine ⟨iS h (u2 g' (b + 8 + 2023) p (g' (b + 8 + 2023) p + 1)), aS σ 6 (upd f' (430 + p) (f' (430 + p) + 1)), ⟨_, _, rfl, rfl, q1.walk (by omega), fun j hj => by rw [pk_un (by omega)]; exact q2 j hj, fun x hx => by rw [u2_nf (by omega)]; exact q3 x hx⟩, ?_, ?_⟩
    · unfold fX3_goes
      have hH2 := hH (u2 g' (b + 8 + 2023) p (g' (b + 8 + 2023) p + 1)) (fun x hx => by rw [u2_nf (by omega)]; exact q3 x hx)
      have R0 : fR (iS h g0) (b + 8) 3 3 0 = some a := (ru_f hR g0).trans hk
      simp (disch := omega) only [R0, Option.bind_some, ho_R hH0, ls_g (ho_w hH0), ls_get (ho_w hH0) hw, ho_wg hH0 hw, e1, ru_R8 hR, ru_I8 hR, ru_W8 hR, ho_w3 hH2 hw, pl_la, pl_al, pl_lm, pl_ml, nI_add, pk_mul, pl_sl, pl_m1]
      rw [show F (177 + w) - 1 + 1 = F (177 + w) by omega]
    · unfold fX5_walks
      have hMa : MH (gA (aS σ 6 f0) 6) F := by rw [gA_same]; exact ⟨hM.1, fun j hj => by rw [p2 j (by omega)]; exact hM.2 j hj⟩
      have r1 : rA (aS σ 6 f0) 6 (177 + nI w) = some (nI (F (177 + w))) := by rw [pl_la]; exact mo_i hMa (by show 177 + w < 429; omega)
      rw [r1]
      simp only [Option.bind_some]
      rw [e2]
      simp (disch := omega) only [Option.bind_some, pl_la, pl_al, pl_lm, pl_ml, nI_add, pk_mul, pl_sl, pl_m1, rA6, wA6, sA_6, gA_same]
theorem op_goes (hN : 200000 ≤ N) : LO_goes N b (LR b) := by
  intro n h σ x y z hL
  obtain ⟨F, a, hf⟩ := hL.less.f
  have W := hf.nw
  have k2 : F 2 ≤ 6 := W.mh.1.1.2.2.1
  have k3 : F 3 ≤ 6 := W.mh.1.1.2.2.2.1
  have W0 := W.th 0
  have P1 := W.cP (N := N) x
  have P2 := W.cW (N := N) y
  have P3 := W.cP (N := N) z
  have G := fun {α : Type} (x : Option α) => (fx_g W.1 (kI h) : gT (iS h (kI h)) b 1 1 x = x)
  simp only [iS_k] at P1 P2 P3 G
  unfold fX1_goes fX5_goes
  simp only [lt_, G, P1, P2, P3, W0.mP, W0.mW, Option.bind_some]
  rcases isIn_cs x (n := F 2) (by omega) with ⟨h1, -⟩ | ⟨h1, p, hp, rfl⟩
  · simp only [h1, eq_self, if_true]; exact ⟨-1, h, sI σ 0 0, rfl, rfl, hL.less.thrown 0⟩
  simp only [h1, one0, if_false]
  rcases isIn_cs y (n := F 3) (by omega) with ⟨h2, -⟩ | ⟨h2, w, hw, rfl⟩
  · simp only [h2, eq_self, if_true]; exact ⟨-1, h, sI σ 0 0, rfl, rfl, hL.less.thrown 0⟩
  simp only [h2, one0, if_false]
  rcases isIn_cs z (n := F 2) (by omega) with ⟨h3, -⟩ | ⟨h3, s, hs, rfl⟩
  · simp only [h3, eq_self, if_true]; exact ⟨-1, h, sI σ 0 0, rfl, rfl, hL.less.thrown 0⟩
  simp only [h3, one0, if_false]
  obtain ⟨h', σ', e1, e2, hf', e3, -⟩ := snap hN (hf.th 0)
  have W' := hf'.nw
  rw [e1, e2]
  simp only [Option.bind_some]
  have R4 := fx_R4 W'.1 (kI h')
  rw [iS_k] at R4
  have hP0 : RP h' (kI h') σ' b F h' σ' := ⟨kI h', gA σ' 6, rfl, (aS_id σ' 6).symm, W'.rr, fun _ _ => rfl, fun _ _ => rfl⟩
  obtain ⟨t1, t2, q1, q2, q3⟩ := goes_all (N := N) hN W'.ho W'.ru W'.2.2.2.2.1 W'.mh hp hw hs hP0
  have m1 : rA σ' 6 (13 + nI s) = some (nI (F (13 + s))) := by rw [pl_la]; exact mo_i W'.mh (by show 13 + s < 429; omega)
  obtain ⟨g', f', rfl, rfl, -, p2, -⟩ := id q1
  have m2 : rA (aS σ' 6 f') 6 (177 + nI w) = some (nI (F (177 + w))) := by
    rw [pl_la, rA6 (by show 177 + w < 10265; omega), gA_same]
    exact congrArg some ((p2 _ (by show 177 + w < 430 ∨ _; omega)).trans (W'.mh.2 (177 + w) (by omega)))
  rw [R4, m1]
  simp only [Option.bind_some]
  rw [gT_n (by rw [W'.ru.1]; decide) (by rw [W'.ru.1]; decide), q2, q3]
  simp only [Option.bind_some, m2]
  exact ⟨_, _, _, rfl, rfl, (hf'.rug q1.w).lr⟩
end PG2
