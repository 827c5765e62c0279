/-! rows of tufts: the component's search -/
def bI (x : Bool) : Int32 := if x = true then 1 else 0
/-- the component's arrays of a search -/
def RC (b : Nat) (g0 : Nat → Nat → Int32) (cut thr : Nat → Bool) (flw : Nat → Nat → Bool) (A : QS) (g : Nat → Nat → Int32) : Prop := (∀ x, x ≠ b → (x < b + 2049 ∨ b + 2198 ≤ x ∨ x = b + 2051) → g x = g0 x) ∧ (∀ k, k ≠ 27 → g b k = g0 b k) ∧ (∀ t, t < 144 → g (b + 2049) t = bI (cut t)) ∧ (∀ t, t < 144 → g (b + 2050) t = bI (thr t)) ∧ (∀ t d, t < 144 → d < 4 → g (b + 2052 + t) d = bI (flw t d)) ∧ (∀ v, v < 288 → g (b + 2196) v = oN (A.1 v)) ∧ (∀ i, i < A.2.2 → g (b + 2197) i = nI (A.2.1 i)) ∧ g b 27 = nI A.2.2 ∧ ∀ v u, A.1 v = some u → u < 288
section PSL
variable {h : HS} {g0 g g' : Nat → Nat → Int32} {σ : MS} {N b ha n fr to i t d o u v : Nat} {F : Nat → Nat} {nm : Nat → Int64} {cut thr : Nat → Bool} {flw : Nat → Nat → Bool} {A : QS}
theorem lpE {α β : Type} (l : Nat → α → Int32 → Option β) (n : Nat) (P : Nat → α → Prop) (E : Option β → Prop) (hs : ∀ i s m, i < n → P i s → E (l (m + 1) s (nI i)) ∨ ∃ s', P (i + 1) s' ∧ l (m + 1) s (nI i) = l m s' (nI (i + 1))) (he : ∀ s m, P n s → E (l (m + 1) s (nI n))) : ∀ k i s fuel, i + k = n → k < fuel → P i s → E (l fuel s (nI i)) := by
  intro k
  induction k with
  | zero =>
    intro i s fuel hi hf hp
    obtain ⟨m, rfl⟩ : ∃ m, fuel = m + 1 := ⟨fuel - 1, by omega⟩
    obtain rfl : i = n := by omega
    exact he s m hp
  | succ k ih =>
    intro i s fuel hi hf hp
    obtain ⟨m, rfl⟩ : ∃ m, fuel = m + 1 := ⟨fuel - 1, by omega⟩
    rcases hs i s m (by omega) hp with h1 | ⟨s', h1, h2⟩
    · exact h1
    · rw [h2]; exact ih (i + 1) s' m (by omega) (by omega) h1
theorem bI_t : bI true = 1 := rfl
theorem bI_f : bI false = 0 := rfl
theorem fx_fl (hF : FX h b) (g : Nat → Nat → Int32) (ht : t < 144) : fA (iS h g) (b + 2051) 38 (nI t) = some (b + 2052 + t) := by
  obtain ⟨t1, t2⟩ := hF.2.2.2.2.1 2051 38 144 rfl
  exact (fA_n (h := iS h g) t1 (by rw [kN_iS, t2]; exact ht) (by rw [kN_iS, t2]; decide)).trans (hF.2.2.2.2.2.2.1 t ht).1
theorem fx_fI (hF : FX h b) (g : Nat → Nat → Int32) (ht : t < 144) (hd : d < 4) : aI (iS h g) (b + 2052 + t) 33 (nI d) = some (g (b + 2052 + t) d) := by
  obtain ⟨-, t1, t2⟩ := hF.2.2.2.2.2.2.1 t ht
  exact aI_n (h := iS h g) t1 (by rw [kN_iS, t2]; exact hd) (by rw [kN_iS, t2]; decide)
theorem fx_fW (hF : FX h b) (g : Nat → Nat → Int32) {w : Int32} (ht : t < 144) (hd : d < 4) : wI (iS h g) (b + 2052 + t) 33 (nI d) w = some (iS h (u2 g (b + 2052 + t) d w)) := by
  obtain ⟨-, t1, t2⟩ := hF.2.2.2.2.2.2.1 t ht
  exact wI_n (h := iS h g) t1 (by rw [kN_iS, t2]; exact hd) (by rw [kN_iS, t2]; decide) (by rw [kG_iS]; have := hF.2.1; omega)
theorem RC.nw (R : RC b g0 cut thr flw A g) (W : NW h g0 b σ F ha) : NW h g b σ F ha := W.of (fun q q1 q2 => R.1 q q1 (by omega)) rfl rfl
theorem co_look (hF : FX h b) (R : RC b g0 cut thr flw A g) (hV : VI F A) (hv : v < 288) (hu : u < 288) : ∃ g', fX1_look N (iS h g) b (nI v) (nI u) = some (iS h g') ∧ RC b g0 cut thr flw (qpush A v u) g' := by
  obtain ⟨r1, r2, r3, r4, r5, r6, r7, r8, r9⟩ := id R
  have e0 : fX1_look N (iS h g) b (nI v) (nI u) = if oN (A.1 v) = -1 then ((wI (iS h g) (b + 2196) 31 (nI v) (nI u)).bind fun σ5 => ((fR σ5 b 1 1 26).bind fun a6 => ((oI σ5 b 1 1 27).bind fun v7 => ((wI σ5 a6 31 v7 (nI v)).bind fun σ8 => ((oI σ8 b 1 1 27).bind fun v9 => ((pI σ8 b 1 1 27 (v9 + 1)).bind fun σ10 => some σ10)))))) else some (iS h g) := by
    unfold fX1_look
    simp only [fx_R25 hF g, Option.bind_some, fx_I25 hF g hv, r6 v hv]
  rw [e0]
  rcases qp_cs A v with hs | hs
  · obtain ⟨x, hx⟩ : ∃ x, A.1 v = some x := by
      cases e : A.1 v with
      | none => rw [e] at hs; cases hs
      | some x => exact ⟨x, rfl⟩
    have := r9 v x hx
    refine ⟨g, ?_, by rw [qp_y hs]; exact R⟩
    rw [hx, show oN (some x) = nI x from rfl, if_neg (fun q : nI x = -1 => (pl_em1 (a := x) (by omega)).mp q)]
  · have n8 := hV.room hv hs
    rw [hs, if_pos (show oN none = -1 from rfl)]
    obtain ⟨ga, ea⟩ : ∃ ga, ga = u2 g (b + 2196) v (nI u) := ⟨_, rfl⟩
    obtain ⟨gb, eb⟩ : ∃ gb, gb = u2 ga (b + 2197) A.2.2 (nI v) := ⟨_, rfl⟩
    have wa : wI (iS h g) (b + 2196) 31 (nI v) (nI u) = some (iS h ga) := by rw [ea]; exact fx_W25 hF g hv
    have ba : oI (iS h ga) b 1 1 27 = some (nI A.2.2) := (fx_b hF ga).trans (by rw [ea, u2_nf (by omega), r8])
    have wb : wI (iS h ga) (b + 2197) 31 (nI A.2.2) (nI v) = some (iS h gb) := by rw [eb]; exact fx_W26 hF ga n8
    have bb : oI (iS h gb) b 1 1 27 = some (nI A.2.2) := (fx_b hF gb).trans (by rw [eb, u2_nf (by omega), ea, u2_nf (by omega), r8])
    refine ⟨u2 gb b 27 (nI (A.2.2 + 1)), ?_, ?_⟩
    · simp only [wa, Option.bind_some, fx_R26 hF, ba, wb, bb, fx_p hF, show nI A.2.2 + 1 = nI (A.2.2 + 1) from nI_add _ 1]
    · rw [qp_n hs]
      have x1 : ∀ x, x ≠ b → x ≠ b + 2196 → x ≠ b + 2197 → u2 gb b 27 (nI (A.2.2 + 1)) x = g x := fun x y1 y2 y3 => by rw [u2_nf y1, eb, u2_nf y3, ea, u2_nf y2]
      refine ⟨fun x y1 y2 => by rw [x1 x y1 (by omega) (by omega)]; exact r1 x y1 y2, fun k hk => by rw [u2_ne (Or.inr hk), eb, u2_nf (by omega), ea, u2_nf (by omega)]; exact r2 k hk, fun t ht => by rw [x1 _ (by omega) (by omega) (by omega)]; exact r3 t ht, fun t ht => by rw [x1 _ (by omega) (by omega) (by omega)]; exact r4 t ht, fun t d ht hd => by rw [x1 _ (by omega) (by omega) (by omega)]; exact r5 t d ht hd, fun w hw => ?_, fun j hj => ?_, u2_eq .., fun w x hx => ?_⟩
      · rw [u2_nf (by omega), eb, u2_nf (by omega), ea]
        show u2 g (b + 2196) v (nI u) (b + 2196) w = oN (if w = v then some u else A.1 w)
        by_cases q : w = v
        · rw [q, u2_eq, if_pos rfl]; rfl
        · rw [u2_ne (Or.inr q), if_neg q]; exact r6 w hw
      · have hj : j < A.2.2 + 1 := hj
        rw [u2_nf (by omega), eb]
        show u2 ga (b + 2197) A.2.2 (nI v) (b + 2197) j = nI (sv A.2.1 A.2.2 v j)
        by_cases q : j = A.2.2
        · rw [q, u2_eq, sv_eq]
        · rw [u2_ne (Or.inr q), sv_ne q, ea, u2_nf (by omega)]; exact r7 j (by omega)
      · have hx : (if w = v then some u else A.1 w) = some x := hx
        by_cases q : w = v
        · rw [if_pos q] at hx; cases hx; exact hu
        · rw [if_neg q] at hx; exact r9 w x hx
/-- the sides of a tuft that is left -/
theorem co_72 (hN : 200000 ≤ N) (W : NW h g0 b σ F ha) (R : RC b g0 cut thr flw A g) (hV : VI F A) (hv : v < 288) (hto : to < 144) (hfr : fr < 144) {y3 : Int32} :
    (∃ g', lX1_isMore_72 N N (iS h g) b (nI fr) (nI to) y3 (nI v) (nI (v / 2)) 0 = some (.inl (iS h g')) ∧ RC b g0 cut thr flw (pO F cut flw fr v A 4) g' ∧ ∀ d, d < 4 → cO F cut flw fr (v / 2) d ≠ some to) ∨
    (∃ d g', d < 4 ∧ cO F cut flw fr (v / 2) d = some to ∧ (∀ d', d' < d → cO F cut flw fr (v / 2) d' ≠ some to) ∧ RC b g0 cut thr flw (pO F cut flw fr v A d) g' ∧ lX1_isMore_72 N N (iS h g) b (nI fr) (nI to) y3 (nI v) (nI (v / 2)) 0 = (fX1_layRow N (iS h (u2 g' (b + 2052 + v / 2) d 1)) b (nI v) (2 * nI fr + 1)).bind fun r27 => some (.inr (1, r27))) := by
  have k0 := W.mh.1.1.1
  have k1 := W.mh.1.1.2.1
  have hF := W.1
  have ht : v / 2 < 144 := by omega
  refine lpE (fun m (s : HS) i => lX1_isMore_72 N m s b (nI fr) (nI to) y3 (nI v) (nI (v / 2)) i) 4 (fun d s => ∃ g', s = iS h g' ∧ RC b g0 cut thr flw (pO F cut flw fr v A d) g' ∧ ∀ d', d' < d → cO F cut flw fr (v / 2) d' ≠ some to) (fun x => (∃ g', x = some (.inl (iS h g')) ∧ RC b g0 cut thr flw (pO F cut flw fr v A 4) g' ∧ ∀ d, d < 4 → cO F cut flw fr (v / 2) d ≠ some to) ∨ (∃ d g', d < 4 ∧ cO F cut flw fr (v / 2) d = some to ∧ (∀ d', d' < d → cO F cut flw fr (v / 2) d' ≠ some to) ∧ RC b g0 cut thr flw (pO F cut flw fr v A d) g' ∧ x = (fX1_layRow N (iS h (u2 g' (b + 2052 + v / 2) d 1)) b (nI v) (2 * nI fr + 1)).bind fun r27 => some (.inr (1, r27)))) ?_ ?_ 4 0 (iS h g) N (by omega) (by omega) ⟨g, rfl, R, fun d hd => absurd hd (Nat.not_lt_zero _)⟩
  · rintro d s m hd ⟨g, rfl, R, hn⟩
    have W' := R.nw W
    have l1 : ¬ (4 : Int32) ≤ nI d := nI_ge (b := 4) hd (by decide)
    have n1 : nI d + 1 = nI (d + 1) := nI_add _ 1
    have nx : ∀ x, cO F cut flw fr (v / 2) d = x → x ≠ some to → ∀ d', d' < d + 1 → cO F cut flw fr (v / 2) d' ≠ some to := fun x hx hq d' hd' => by
      by_cases e : d' = d
      · rw [e, hx]; exact hq
      · exact hn d' (by omega)
    have skip : cO F cut flw fr (v / 2) d = none → lX1_isMore_72 N (m + 1) (iS h g) b (nI fr) (nI to) y3 (nI v) (nI (v / 2)) (nI d) = lX1_isMore_72 N m (iS h g) b (nI fr) (nI to) y3 (nI v) (nI (v / 2)) (nI (d + 1)) → ∃ s', (∃ g', s' = iS h g' ∧ RC b g0 cut thr flw (pO F cut flw fr v A (d + 1)) g' ∧ ∀ d', d' < d + 1 → cO F cut flw fr (v / 2) d' ≠ some to) ∧ lX1_isMore_72 N (m + 1) (iS h g) b (nI fr) (nI to) y3 (nI v) (nI (v / 2)) (nI d) = lX1_isMore_72 N m s' b (nI fr) (nI to) y3 (nI v) (nI (v / 2)) (nI (d + 1)) := fun ec e => by
      refine ⟨iS h g, ⟨g, rfl, ?_, nx _ ec (by intro q; cases q)⟩, e⟩
      show RC b g0 cut thr flw (oP (pO F cut flw fr v A d) (cO F cut flw fr (v / 2) d) 0 v) g
      rw [ec]; exact R
    obtain ⟨X, hX⟩ : ∃ X, lX1_isMore_72 N (m + 1) (iS h g) b (nI fr) (nI to) y3 (nI v) (nI (v / 2)) (nI d) = X := ⟨_, rfl⟩
    have e0 := hX
    rw [lX1_isMore_72] at e0
    rw [if_neg l1, W'.r3] at e0
    simp only [Option.bind_some, ho_g W'.ho, ho_ope W'.2.1.1 W'.ho ht hd, n1] at e0
    cases e : ope F (v / 2) d with
    | none =>
      right
      refine skip (by unfold cO; rw [e]) ?_
      rw [hX, ← e0, e, show oN none = (-1 : Int32) from rfl, if_pos rfl]
    | some o =>
      have ho := tuf_lt k0 k1 (ope_tuf k0 e).1
      rw [e, show oN (some o) = nI o from rfl, if_neg (fun q => (pl_em1 (a := o) (by omega)).mp q)] at e0
      simp only [Option.bind_some, fx_R22 hF g, fx_I22 hF g ho, R.2.2.1 o ho, fx_R24 hF g, fx_fl hF g ht, fx_fI hF g ht hd, R.2.2.2.2.1 (v / 2) d ht hd, fx_g hF] at e0
      have ec : cO F cut flw fr (v / 2) d = if cut o = true ∨ o = fr ∨ flw (v / 2) d = true then none else some o := by unfold cO; rw [e]
      cases c1 : cut o with
      | true =>
        right
        refine skip (by rw [ec, if_pos (Or.inl c1)]) ?_
        rw [hX, ← e0, c1, bI_t, if_neg (by decide)]
      | false =>
        rw [c1, bI_f, if_pos rfl] at e0
        by_cases c2 : o = fr
        · right
          refine skip (by rw [ec, if_pos (Or.inr (Or.inl c2))]) ?_
          rw [hX, ← e0, if_pos (by rw [c2])]
        · rw [if_neg (fun q => c2 ((nI_eq (by omega) (by omega)).mp q))] at e0
          cases c3 : flw (v / 2) d with
          | true =>
            right
            refine skip (by rw [ec, if_pos (Or.inr (Or.inr c3))]) ?_
            rw [hX, ← e0, c3, bI_t, if_neg (by decide)]
          | false =>
            rw [c3, bI_f, if_pos rfl] at e0
            have ec : cO F cut flw fr (v / 2) d = some o := by
              rw [ec, if_neg]
              rintro (q | q | q)
              · rw [c1] at q; cases q
              · exact c2 q
              · rw [c3] at q; cases q
            by_cases c4 : o = to
            · left
              right
              refine ⟨d, g, hd, by rw [ec, c4], hn, R, ?_⟩
              show lX1_isMore_72 N (m + 1) (iS h g) b (nI fr) (nI to) y3 (nI v) (nI (v / 2)) (nI d) = _
              rw [hX, ← e0, if_pos (by rw [c4])]
              simp only [show vp_nar .boolean 1 = 1 from rfl, fx_fW hF g ht hd, Option.bind_some, fx_g hF]
            · right
              obtain ⟨g2, q1, q2⟩ := co_look (N := N) (v := 2 * o) (u := v) hF R (VI_pO k0 k1 hV d) (by omega) hv
              refine ⟨iS h g2, ⟨g2, rfl, ?_, nx _ ec (by intro q; cases q; exact c4 rfl)⟩, ?_⟩
              · show RC b g0 cut thr flw (oP (pO F cut flw fr v A d) (cO F cut flw fr (v / 2) d) 0 v) g2
                rw [ec]; exact q2
              · show lX1_isMore_72 N (m + 1) (iS h g) b (nI fr) (nI to) y3 (nI v) (nI (v / 2)) (nI d) = _
                rw [hX, ← e0, if_neg (fun q => c4 ((nI_eq (by omega) (by omega)).mp q)), show (2 : Int32) * nI o = nI (2 * o) from pl_lm 2 o, q1]; rfl
  · rintro s m ⟨g', rfl, R', hn⟩
    left
    exact ⟨g', by rw [lX1_isMore_72, if_pos (by decide)], R', hn⟩
/-- on from a tuft that was entered -/
theorem co_19 (hN : 200000 ≤ N) (W : NW h g0 b σ F ha) (R : RC b g0 cut thr flw A g) (hV : VI F A) (hv : v < 288) : ∃ g', lX1_entered_19 N N (iS h g) b (nI (v / 2)) (nI v) 0 = some (iS h g') ∧ RC b g0 cut thr flw (pE F flw v A 4) g' := by
  have k0 := W.mh.1.1.1
  have k1 := W.mh.1.1.2.1
  have hF := W.1
  have ht : v / 2 < 144 := by omega
  have key : okk (lX1_entered_19 N N (iS h g) b (nI (v / 2)) (nI v) (nI 0)) (fun s => ∃ g', s = iS h g' ∧ RC b g0 cut thr flw (pE F flw v A 4) g') := by
    refine okf (fun m (s : HS) i => lX1_entered_19 N m s b (nI (v / 2)) (nI v) i) 4 (fun d s => ∃ g', s = iS h g' ∧ RC b g0 cut thr flw (pE F flw v A d) g') _ ?_ ?_ 0 (iS h g) N (by omega) (by omega) ⟨g, rfl, R⟩
    · rintro d s m hd ⟨g, rfl, R⟩
      right
      have W' := R.nw W
      have l1 : ¬ (4 : Int32) ≤ nI d := nI_ge (b := 4) hd (by decide)
      have n1 : nI d + 1 = nI (d + 1) := nI_add _ 1
      have n2 : irm (nI d + 2) 4 = nI ((d + 2) % 4) := by rw [show nI d + 2 = nI (d + 2) from nI_add _ 2]; exact pl_irm (n := 4) (by omega) (by decide) (by decide)
      have skip : cE F flw (v / 2) d = none → lX1_entered_19 N (m + 1) (iS h g) b (nI (v / 2)) (nI v) (nI d) = lX1_entered_19 N m (iS h g) b (nI (v / 2)) (nI v) (nI (d + 1)) → ∃ s', (∃ g', s' = iS h g' ∧ RC b g0 cut thr flw (pE F flw v A (d + 1)) g') ∧ lX1_entered_19 N (m + 1) (iS h g) b (nI (v / 2)) (nI v) (nI d) = lX1_entered_19 N m s' b (nI (v / 2)) (nI v) (nI (d + 1)) := fun ec e => by
        refine ⟨iS h g, ⟨g, rfl, ?_⟩, e⟩
        show RC b g0 cut thr flw (oP (pE F flw v A d) (cE F flw (v / 2) d) 1 v) g
        rw [ec]; exact R
      obtain ⟨X, hX⟩ : ∃ X, lX1_entered_19 N (m + 1) (iS h g) b (nI (v / 2)) (nI v) (nI d) = X := ⟨_, rfl⟩
      have e0 := hX
      rw [lX1_entered_19] at e0
      rw [if_neg l1, W'.r3] at e0
      simp only [Option.bind_some, ho_g W'.ho, ho_bes W'.2.1.1 W'.ho ht hd, n1] at e0
      cases e : bes F (v / 2) d with
      | none =>
        refine skip (by unfold cE; rw [e]) ?_
        rw [hX, ← e0, e, show oN none = (-1 : Int32) from rfl, if_pos rfl]
      | some o =>
        have ho := tuf_lt k0 k1 (bes_tuf k0 e)
        have hd2 : (d + 2) % 4 < 4 := Nat.mod_lt _ (by decide)
        rw [e, show oN (some o) = nI o from rfl, if_neg (fun q => (pl_em1 (a := o) (by omega)).mp q)] at e0
        simp only [Option.bind_some, fx_R24 hF g, fx_fl hF g ho, n2, fx_fI hF g ho hd2, R.2.2.2.2.1 o _ ho hd2, fx_g hF] at e0
        have ec : cE F flw (v / 2) d = if flw o ((d + 2) % 4) = true then some o else none := by unfold cE; rw [e]
        cases c : flw o ((d + 2) % 4) with
        | false =>
          refine skip (by rw [ec, c, if_neg (by decide)]) ?_
          rw [hX, ← e0, c, bI_f, if_pos rfl]
        | true =>
          rw [c, if_pos rfl] at ec
          rw [c, bI_t, if_neg (by decide)] at e0
          obtain ⟨g2, q1, q2⟩ := co_look (N := N) (v := 2 * o + 1) (u := v) hF R (VI_pE k0 k1 hV d) (by omega) hv
          refine ⟨iS h g2, ⟨g2, rfl, ?_⟩, ?_⟩
          · show RC b g0 cut thr flw (oP (pE F flw v A d) (cE F flw (v / 2) d) 1 v) g2
            rw [ec]; exact q2
          · show lX1_entered_19 N (m + 1) (iS h g) b (nI (v / 2)) (nI v) (nI d) = _
            rw [hX, ← e0, show (2 : Int32) * nI o = nI (2 * o) from pl_lm 2 o, show nI (2 * o) + 1 = nI (2 * o + 1) from nI_add _ 1, q1]; rfl
    · rintro s m ⟨g', rfl, R'⟩
      exact ⟨_, by rw [lX1_entered_19, if_pos (by decide)], g', rfl, R'⟩
  obtain ⟨s, e1, g', rfl, e2⟩ := key
  exact ⟨g', e1, e2⟩
theorem co_ent (hN : 200000 ≤ N) (W : NW h g0 b σ F ha) (R : RC b g0 cut thr flw A g) (hV : VI F A) (hv : v < 288) (v0 : v % 2 = 0) (hvt : tuf F (v / 2)) : ∃ g', fX1_entered N (iS h g) b (nI (v / 2)) (nI v) = some (iS h g') ∧ RC b g0 cut thr flw (exE F thr flw v A) g' := by
  have k0 := W.mh.1.1.1
  have k1 := W.mh.1.1.2.1
  have hF := W.1
  have ht : v / 2 < 144 := by omega
  unfold fX1_entered exE
  simp only [fx_R23 hF g, Option.bind_some, fx_I23 hF g ht, R.2.2.2.1 _ ht, fx_g hF]
  cases c : thr (v / 2) with
  | true =>
    obtain ⟨g', e1, e2⟩ := co_19 (N := N) hN W R hV hv
    exact ⟨g', by rw [bI_t, if_neg (by decide), e1]; rfl, by rw [if_pos rfl]; exact e2⟩
  | false =>
    obtain ⟨g1, q1, q2⟩ := co_look (N := N) (v := v + 1) (u := v) hF R hV (by omega) hv
    obtain ⟨g', e1, e2⟩ := co_19 (N := N) (v := v) hN W q2 (hV.push (by omega) (by rw [show (v + 1) / 2 = v / 2 by omega]; exact hvt)) hv
    exact ⟨g', by rw [bI_f, if_pos rfl, show nI v + 1 = nI (v + 1) from nI_add _ 1, q1, Option.bind_some, e1]; rfl, by rw [if_neg (by decide)]; exact e2⟩
/-- the side on which a tuft lies -/
theorem co_88 (hN : 200000 ≤ N) (W : NW h g b σ F ha) (ht : t < 144) (hd : d < 4) (e : bes F t d = some o) {y2 y3 : Int32} : lX1_layRow_88 N (iS h g) N b y2 y3 0 (nI t) (nI o) = some (nI d) := by
  have k0 := W.mh.1.1.1
  have k1 := W.mh.1.1.2.1
  have ho := tuf_lt k0 k1 (bes_tuf k0 e)
  refine lp_fold (fun m (_ : Unit) i => lX1_layRow_88 N (iS h g) m b y2 y3 i (nI t) (nI o)) (fun _ => ()) d (nI d) (fun m i hi => ?_) (fun m => ?_) d 0 N (by omega) (by omega)
  · rw [lX1_layRow_88, W.r3]
    simp only [Option.bind_some, ho_g W.ho, ho_bes W.2.1.1 W.ho ht (show i < 4 by omega), show nI i + 1 = nI (i + 1) from nI_add _ 1]
    rw [if_neg]
    intro q
    cases e2 : bes F t i with
    | none => rw [e2] at q; exact (pl_em1 (a := o) (by omega)).mp q.symm
    | some o2 =>
      rw [e2] at q
      have ho2 := tuf_lt k0 k1 (bes_tuf k0 e2)
      have : o2 = o := (nI_eq (by omega) (by omega)).mp q
      subst this
      have a1 := dirN_b hd e
      have a2 := dirN_b (show i < 4 by omega) e2
      omega
  · rw [lX1_layRow_88, W.r3]
    simp only [Option.bind_some, ho_g W.ho, ho_bes W.2.1.1 W.ho ht hd]
    rw [e, if_pos (show oN (some o) = nI o from rfl)]
end PSL
