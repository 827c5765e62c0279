/-! rows of tufts: one search, both sides -/
section PSO
variable {h : HS} {g0 g g' : Nat → Nat → Int32} {σ0 σ : MS} {N b ha n fr to i t d o u v : Nat} {F : Nat → Nat} {nm : Nat → Int64} {cut thr : Nat → Bool} {flw flw0 : Nat → Nat → Bool} {A A1 A2 : QS} {x : Bool}
/-- what a search ends with -/
def JE (h : HS) (b : Nat) (g0 : Nat → Nat → Int32) (σ0 : MS) (F : Nat → Nat) (cut thr : Nat → Bool) (flw : Nat → Nat → Bool) (fr to : Nat) (r : HS ⊕ (Int32 × HS)) (r' : MS ⊕ (Int32 × MS)) : Prop :=
  (∃ g' σ' A', r = .inl (iS h g') ∧ r' = .inl σ' ∧ RC b g0 cut thr flw A' g' ∧ RM σ0 cut thr flw A' σ') ∨
  (∃ g' σ' thr' flw' A1 A2, r = .inr (1, iS h g') ∧ r' = .inr (1, σ') ∧ RC b g0 cut thr' flw' A1 g' ∧ RM σ0 cut thr' flw' A2 σ' ∧ thr' fr = false ∧ (to ≠ fr → ∀ d, d < 4 → flw' to d = false) ∧ F (25 + to) ≠ 1 ∧ ∃ d, d < 4 ∧ flw fr d = false ∧ ∀ d', d' < 4 → flw' fr d' = if d' = d then true else flw fr d')
theorem jn_run (hN : 200000 ≤ N) (W : NW h g0 b σ0 F ha) (hfr : fr < 144) (hto : to < 144) (ta : thr fr = false) (fb : to ≠ fr → ∀ d, d < 4 → flw to d = false) : ∀ k i A g σ fuel, RC b g0 cut thr flw A g → RM σ0 cut thr flw A σ → QI F cut flw fr to A → 288 ≤ i + k → i ≤ A.2.2 → k < fuel →
    ∃ r r', lX1_isMore_29 N fuel (iS h g) b (nI fr) (nI to) (nI i) = some r ∧ lX5_runsMore_43 N fuel σ (nI fr) (nI to) (nI i) = some r' ∧ JE h b g0 σ0 F cut thr flw fr to r r' := by
  have k0 := W.mh.1.1.1
  have k1 := W.mh.1.1.2.1
  have hM := W.mh
  have hF := W.1
  intro k
  induction k with
  | zero =>
    intro i A g σ fuel R M Q hik hi hf
    obtain ⟨m, rfl⟩ : ∃ m, fuel = m + 1 := ⟨fuel - 1, by omega⟩
    have l28 : A.2.2 ≤ 288 := by rw [Q.1.1]; exact cn_le _ _
    have ei : i = A.2.2 := by omega
    refine ⟨.inl (iS h g), .inl σ, ?_, ?_, Or.inl ⟨g, σ, A, rfl, rfl, R, M⟩⟩
    · rw [lX1_isMore_29, fx_b hF g, R.2.2.2.2.2.2.2.1, ei]
      simp only [Option.bind_some]
      rw [if_pos (Int32.le_refl _)]
    · rw [lX5_runsMore_43, M.2.2.2.2.2.2.2.2.1, ei, if_pos (Int32.le_refl _)]
  | succ k ih =>
    intro i A g σ fuel R M Q hik hi hf
    obtain ⟨m, rfl⟩ : ∃ m, fuel = m + 1 := ⟨fuel - 1, by omega⟩
    have l28 : A.2.2 ≤ 288 := by rw [Q.1.1]; exact cn_le _ _
    by_cases ei : i = A.2.2
    · refine ⟨.inl (iS h g), .inl σ, ?_, ?_, Or.inl ⟨g, σ, A, rfl, rfl, R, M⟩⟩
      · rw [lX1_isMore_29, fx_b hF g, R.2.2.2.2.2.2.2.1, ei]
        simp only [Option.bind_some]
        rw [if_pos (Int32.le_refl _)]
      · rw [lX5_runsMore_43, M.2.2.2.2.2.2.2.2.1, ei, if_pos (Int32.le_refl _)]
    · have hi' : i < A.2.2 := by omega
      obtain ⟨hv, hvt, hvs⟩ := Q.1.2.1 i hi'
      obtain ⟨v, hq⟩ : ∃ v, A.2.1 i = v := ⟨_, rfl⟩
      rw [hq] at hv hvt hvs
      have v2 : v ≠ 2 * to := fun z => by rw [z, Q.2.2.2.2.2.1] at hvs; cases hvs
      obtain ⟨s1, M1, V1, E1⟩ := mo_node (N := N) (m := m) hN hM M Q.1 hfr hto ta hi' hq v2
      have l1 : ¬ nI A.2.2 ≤ nI i := nI_ge hi' (by omega)
      have n1 : nI i + 1 = nI (i + 1) := nI_add _ 1
      have rq : aI (iS h g) (b + 2197) 31 (nI i) = some (nI v) := (fx_I26 hF g (by omega)).trans (by rw [R.2.2.2.2.2.2.1 i hi', hq])
      have dv : nI v / 2 = nI (v / 2) := pl_div (n := 2) (by omega) (by decide) (by decide)
      have rm : irm (nI v) 2 = nI (v % 2) := pl_irm (n := 2) (by omega) (by decide) (by decide)
      obtain ⟨X, hX⟩ : ∃ X, lX1_isMore_29 N (m + 1) (iS h g) b (nI fr) (nI to) (nI i) = X := ⟨_, rfl⟩
      have e0 := hX
      rw [lX1_isMore_29, fx_b hF g, R.2.2.2.2.2.2.2.1] at e0
      simp only [Option.bind_some, if_neg l1, fx_R26 hF g, rq, rm, dv, n1, fx_g hF] at e0
      have hx : ext A (exA F cut thr flw fr v A) := ext_exA
      have go : ∀ g1, RC b g0 cut thr flw (exA F cut thr flw fr v A) g1 → QI F cut flw fr to (exA F cut thr flw fr v A) → lX1_isMore_29 N (m + 1) (iS h g) b (nI fr) (nI to) (nI i) = lX1_isMore_29 N m (iS h g1) b (nI fr) (nI to) (nI (i + 1)) → ∃ r r', lX1_isMore_29 N (m + 1) (iS h g) b (nI fr) (nI to) (nI i) = some r ∧ lX5_runsMore_43 N (m + 1) σ (nI fr) (nI to) (nI i) = some r' ∧ JE h b g0 σ0 F cut thr flw fr to r r' := fun g1 R1 Q1 E2 => by
        obtain ⟨r, r', p1, p2, p3⟩ := ih (i + 1) _ g1 s1 m R1 M1 Q1 (by omega) (by have := hx.1; omega) (by omega)
        exact ⟨r, r', by rw [E2]; exact p1, by rw [E1]; exact p2, p3⟩
      by_cases c : v % 2 = 0
      · obtain ⟨g1, q1, q2⟩ := co_ent (N := N) hN W R Q.1 hv c hvt
        have ee : exA F cut thr flw fr v A = exE F thr flw v A := by unfold exA; rw [if_neg (by omega)]
        refine go g1 (by rw [ee]; exact q2) (by rw [ee]; exact QI_exE k0 k1 fb Q hi' hq c) ?_
        rw [hX, ← e0, c, if_pos (show nI 0 = 0 from rfl), q1]; rfl
      · have c1 : v % 2 = 1 := by omega
        have ee : exA F cut thr flw fr v A = exO F cut thr flw fr v A := by unfold exA; rw [if_pos c1]
        rw [c1, if_neg (show ¬ nI 1 = 0 by decide)] at e0
        rcases co_72 (N := N) (y3 := nI i) hN W R Q.1 hv hto hfr with ⟨g1, q1, q2, q3⟩ | ⟨d, g1, hd, q1, q2, q3, q4⟩
        · rw [q1] at e0
          simp only [osm, fx_R23 hF, Option.bind_some, fx_I23 hF g1 (show v / 2 < 144 by omega), q2.2.2.2.1 _ (show v / 2 < 144 by omega), fx_g hF] at e0
          have Q1 := QI_exO (thr := thr) k0 k1 ta Q hi' hq c1 q3
          cases e : thr (v / 2) with
          | false =>
            rw [e, bI_f, if_pos rfl] at e0
            refine go g1 ?_ (by rw [ee]; exact Q1) (by rw [hX, ← e0])
            rw [ee]; unfold exO; rw [e, if_neg (by decide)]; exact q2
          | true =>
            rw [e, bI_t, if_neg (by decide)] at e0
            obtain ⟨g2, p1, p2⟩ := co_look (N := N) (v := 2 * (v / 2)) (u := v) hF q2 (VI_pO k0 k1 Q.1 4) (by omega) hv
            rw [show (2 : Int32) * nI (v / 2) = nI (2 * (v / 2)) from pl_lm 2 _, p1] at e0
            refine go g2 ?_ (by rw [ee]; exact Q1) (by rw [hX, ← e0]; rfl)
            rw [ee]; unfold exO; rw [e, if_pos rfl]; exact p2
        · -- the end is found
          obtain ⟨z1, z2, z3, z4⟩ := cO_tuf k0 q1
          have tv : v / 2 < 144 := by omega
          have be := ope_bes z1
          have Qd := QI_pO k0 k1 Q hi' hq c1 d (by omega) q2
          have x4 : ext (pO F cut flw fr v A (d + 1)) (pO F cut flw fr v A 4) := by
            have hd4 : d = 0 ∨ d = 1 ∨ d = 2 ∨ d = 3 := by omega
            rcases hd4 with rfl | rfl | rfl | rfl
            · exact ext_oP.trans (ext_oP.trans ext_oP)
            · exact ext_oP.trans ext_oP
            · exact ext_oP
            · exact ext.refl
          have xo : ext (pO F cut flw fr v A 4) (exO F cut thr flw fr v A) := by
            unfold exO
            by_cases q : thr (v / 2) = true
            · rw [if_pos q]; exact ext.push
            · rw [if_neg q]; exact ext.refl
          have ep : pO F cut flw fr v A (d + 1) = qpush (pO F cut flw fr v A d) (2 * to) v := by
            show oP (pO F cut flw fr v A d) (cO F cut flw fr (v / 2) d) 0 v = _
            rw [q1]; rfl
          have en : (pO F cut flw fr v A d).1 (2 * to) = none := Qd.1.2.2.2.2.2.1
          rw [qp_n en] at ep
          have p1 : (pO F cut flw fr v A (d + 1)).2.2 = (pO F cut flw fr v A d).2.2 + 1 := by rw [ep]
          have p2 : (pO F cut flw fr v A (d + 1)).2.1 (pO F cut flw fr v A d).2.2 = 2 * to := by rw [ep]; exact sv_eq
          have p3 : (pO F cut flw fr v A (d + 1)).1 (2 * to) = some v := by rw [ep]; exact if_pos rfl
          have xx := x4.trans xo
          have l1 := xx.1
          have V288 : (exO F cut thr flw fr v A).2.2 ≤ 288 := by rw [← ee, V1.1]; exact cn_le _ _
          have hid := Qd.2.1
          rw [ee] at M1 V1
          obtain ⟨A', σ', y1, y2, y3⟩ := mo_go (N := N) (pos := (pO F cut flw fr v A d).2.2) hN hM hfr hto ta ((pO F cut flw fr v A d).2.2 - (i + 1)) (i + 1) _ s1 m M1 V1 (by omega) (by omega) (by omega) (by rw [xx.2.2 _ (by omega)]; exact p2)
          have bt : A'.1 (2 * to) = some v := by
            have i1 : (exO F cut thr flw fr v A).1 (2 * to) = some v := by rw [xx.2.1 _ (by rw [p3]; rfl)]; exact p3
            rw [y1.2.1 _ (by rw [i1]; rfl)]; exact i1
          have xA : ext A A' := (show ext A (exO F cut thr flw fr v A) from ext_exO).trans y1
          have xd : ext A (pO F cut flw fr v A d) := ext_pO d
          have nv : to ≠ fr → v ≠ 2 * to + 1 := fun z q => by rw [q, Q.2.2.2.2.2.2.1 z] at hvs; cases hvs
          have vr : 0 < i → v / 2 ≠ fr := fun z => by have := (Q.2.2.2.2.2.2.2 i z hi').1; omega
          obtain ⟨g2, σ2, thr', flw', w1, w2, w3, w4, w5, w6, w7⟩ := wk_both (N := N) hN W Q xd xA hfr i thr (uf flw (v / 2) d true) _ _ N (N - 1) hi' (by omega) (by omega) (q3.fl (x := true) tv hd) (y2.fl (x := true) tv hd) ta (fun z d' hd' => by rw [uf_o (fun q => vr z q.symm)]) (fun z d' hd' => by
            rw [uf_o (fun q => nv z (by omega))]; exact fb z d' hd')
          rw [hq] at w1 w2
          have tn : fX5_turned N σ' (nI fr) (nI to) = some (1, σ2) := by
            have t2 := (mo_lr (N := N) (v := 2 * to) (u := v) (m := N - 1) hM y2 (by omega) (by omega) hfr bt).2.1 (by omega) d hd (by rw [show 2 * to / 2 = to by omega]; exact be)
            rw [show N - 1 + 1 = N by omega] at t2
            unfold fX5_turned
            rw [show (2 : Int32) * nI to = nI (2 * to) from pl_lm 2 to, t2, w2]; rfl
          have lr : fX1_layRow N (iS h (u2 g1 (b + 2052 + v / 2) d 1)) b (nI v) (2 * nI fr + 1) = some (iS h g2) := by
            unfold fX1_layRow
            rw [show (2 : Int32) * nI fr + 1 = nI (2 * fr + 1) from by rw [pl_lm]; exact nI_add _ 1]
            rw [show lX1_layRow_2 N N (iS h (u2 g1 (b + 2052 + v / 2) d 1)) b (nI (2 * fr + 1)) (nI v) = some (iS h g2) from w1]; rfl
          refine ⟨.inr (1, iS h g2), .inr (1, σ2), ?_, ?_, Or.inr ⟨g2, σ2, thr', flw', _, A', rfl, rfl, w3, w4, w5, w6, (ope_tuf k0 z1).2, ?_⟩⟩
          · rw [hX, ← e0, q4, lr]; rfl
          · rw [E1, y3, tn]; rfl
          · rcases w7 with ⟨i0, w7⟩ | ⟨i0, d', hd', w8, w9⟩
            · have vf : v / 2 = fr := by
                have : v = 2 * fr + 1 := by rw [← hq, i0]; exact Q.2.2.1
                omega
              refine ⟨d, hd, by rw [← vf]; exact z4, fun d' hd' => ?_⟩
              rw [w7, vf]
              unfold uf
              by_cases y : d' = d
              · rw [if_pos ⟨rfl, y⟩, if_pos y]
              · rw [if_neg (fun q => y q.2), if_neg y]
            · rw [uf_o (fun q => vr i0 q.symm)] at w9
              exact ⟨d', hd', w8, w9⟩
end PSO
