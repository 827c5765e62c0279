/-! rows of tufts: the Model's search -/
/-- the Model's arrays of a search -/
def RM (σ0 : MS) (cut thr : Nat → Bool) (flw : Nat → Nat → Bool) (A : QS) (σ : MS) : Prop := (∀ j, j ≠ 36 → j ≠ 37 → j ≠ 38 → j ≠ 39 → j ≠ 41 → gA σ j = gA σ0 j) ∧ (∀ j, j ≠ 43 → gI σ j = gI σ0 j) ∧ gJ σ = gJ σ0 ∧ (∀ t, t < 144 → gA σ 41 t = bI (cut t)) ∧ (∀ t, t < 144 → gA σ 37 t = bI (thr t)) ∧ (∀ t d, t < 144 → d < 4 → gA σ 36 (4 * t + d) = bI (flw t d)) ∧ (∀ v, v < 288 → gA σ 38 v = oN (A.1 v)) ∧ (∀ i, i < A.2.2 → gA σ 39 i = nI (A.2.1 i)) ∧ gI σ 43 = nI A.2.2 ∧ ∀ v u, A.1 v = some u → u < 288
section PSM
variable {σ0 σ : MS} {N fr to i t d o u v pos : Nat} {F : Nat → Nat} {cut thr : Nat → Bool} {flw : Nat → Nat → Bool} {A : QS}
theorem ex3 {α : Type} {P R : α → Prop} {Q : Prop} (hQ : Q) (h : ∃ x, P x ∧ R x) : ∃ x, P x ∧ Q ∧ R x := by
  obtain ⟨x, h1, h2⟩ := h
  exact ⟨x, h1, hQ, h2⟩
theorem gA_so {k j x : Nat} {w : Int32} (h : j ≠ k) : gA (sA σ k x w) j = gA σ j := by rw [sA_aS, gA_o h]
theorem gA_ss {k x : Nat} {w : Int32} : gA (sA σ k x w) k = upd (gA σ k) x w := by rw [sA_aS, gA_same]
theorem RM.mh (R : RM σ0 cut thr flw A σ) (hM : MH (gA σ0 6) F) : MH (gA σ 6) F := by rw [R.1 6 (by decide) (by decide) (by decide) (by decide) (by decide)]; exact hM
theorem mo_comes (R : RM σ0 cut thr flw A σ) (hV : VI F A) (hv : v < 288) (hu : u < 288) : ∃ σ', fX5_comes N σ (nI v) (nI u) = some σ' ∧ RM σ0 cut thr flw (qpush A v u) σ' := by
  obtain ⟨r1, r2, r3, r4, r5, r6, r7, r8, r9, r10⟩ := id R
  unfold fX5_comes
  rw [rA38 hv, r7 v hv]
  simp only [Option.bind_some]
  rcases qp_cs A v with hs | hs
  · obtain ⟨x, hx⟩ : ∃ x, A.1 v = some x := by
      cases e : A.1 v with
      | none => rw [e] at hs; cases hs
      | some x => exact ⟨x, rfl⟩
    have := r10 v x hx
    refine ⟨σ, ?_, by rw [qp_y hs]; exact R⟩
    rw [hx, show oN (some x) = nI x from rfl, if_neg (fun q : nI x = -1 => (pl_em1 (a := x) (by omega)).mp q)]
  · have n8 := hV.room hv hs
    have w1 : wA σ 38 (nI v) (nI u) = some (sA σ 38 v (nI u)) := wA38 hv
    have g1 : gI (sA σ 38 v (nI u)) 43 = nI A.2.2 := r9
    have w2 : wA (sA σ 38 v (nI u)) 39 (nI A.2.2) (nI v) = some (sA (sA σ 38 v (nI u)) 39 A.2.2 (nI v)) := wA39 n8
    have g2 : gI (sA (sA σ 38 v (nI u)) 39 A.2.2 (nI v)) 43 = nI A.2.2 := r9
    rw [hs, show oN none = (-1 : Int32) from rfl, if_pos rfl, w1]
    simp only [Option.bind_some, g1, w2, lt_, g2, show nI A.2.2 + 1 = nI (A.2.2 + 1) from nI_add _ 1]
    refine ⟨_, rfl, ?_⟩
    rw [qp_n hs]
    have ga : ∀ j, j ≠ 38 → j ≠ 39 → gA (sI (sA (sA σ 38 v (nI u)) 39 A.2.2 (nI v)) 43 (nI (A.2.2 + 1))) j = gA σ j := fun j j1 j2 => by
      rw [show gA (sI (sA (sA σ 38 v (nI u)) 39 A.2.2 (nI v)) 43 (nI (A.2.2 + 1))) j = gA (sA (sA σ 38 v (nI u)) 39 A.2.2 (nI v)) j from rfl, gA_so j2, gA_so j1]
    refine ⟨fun j j1 j2 j3 j4 j5 => by rw [ga j j3 j4]; exact r1 j j1 j2 j3 j4 j5, fun j j1 => ?_, r3, fun t ht => by rw [ga 41 (by decide) (by decide)]; exact r4 t ht, fun t ht => by rw [ga 37 (by decide) (by decide)]; exact r5 t ht, fun t d ht hd => by rw [ga 36 (by decide) (by decide)]; exact r6 t d ht hd, fun w hw => ?_, fun j hj => ?_, by rw [gI_sI, if_pos rfl], fun w x hx => ?_⟩
    · rw [gI_sI, if_neg j1]; exact r2 j j1
    · show gA (sA (sA σ 38 v (nI u)) 39 A.2.2 (nI v)) 38 w = oN (if w = v then some u else A.1 w)
      rw [gA_so (by decide), gA_ss]
      by_cases q : w = v
      · rw [q, pk_us, if_pos rfl]; rfl
      · rw [pk_un q, if_neg q]; exact r7 w hw
    · have hj : j < A.2.2 + 1 := hj
      show gA (sA (sA σ 38 v (nI u)) 39 A.2.2 (nI v)) 39 j = nI (sv A.2.1 A.2.2 v j)
      rw [gA_ss, gA_so (by decide)]
      by_cases q : j = A.2.2
      · rw [q, pk_us, sv_eq]
      · rw [pk_un q, sv_ne q]; exact r8 j (by omega)
    · have hx : (if w = v then some u else A.1 w) = some x := hx
      by_cases q : w = v
      · rw [if_pos q] at hx; cases hx; exact hu
      · rw [if_neg q] at hx; exact r10 w x hx
theorem mo_bs (hM : MH (gA σ 6) F) (ht : t < 144) (hd : d < 4) : fX5_beside N σ (nI t) (nI d) = some (oN (bes F t d)) := mo_bes (hM.2 0 (by decide)) (hM.2 1 (by decide)) hM.1.1.1 hM.1.1.2.1 ht hd
theorem mo_open (R : RM σ0 cut thr flw A σ) (hM : MH (gA σ0 6) F) (ho : o < 144) : fX5_isOpen N σ (nI o) = some (if F (25 + o) = 1 ∨ cut o = true then 0 else 1) := by
  have hMa := R.mh hM
  have wl := hM.1.2.2.2.1 o ho
  have rw1 : rA σ 6 (25 + nI o) = some (nI (F (25 + o))) := by rw [pl_la]; exact mo_i hMa (by show 25 + o < 429; omega)
  unfold fX5_isOpen
  rw [if_neg (nI_pos (by omega)), rw1]
  simp only [Option.bind_some, rA41 ho, R.2.2.2.1 o ho]
  have c : F (25 + o) = 0 ∨ F (25 + o) = 1 := by omega
  rcases c with c | c
  · rw [c, if_pos (show nI 0 = 0 from rfl)]
    cases e : cut o with
    | true => rw [bI_t, if_neg (by decide), if_pos (Or.inr rfl)]
    | false => rw [bI_f, if_pos rfl, if_neg (by rintro (q | q) <;> cases q)]
  · rw [c, if_neg (show ¬ nI 1 = 0 by decide), if_pos (Or.inl rfl)]
theorem RM.q (R : RM σ0 cut thr flw A σ) (hV : VI F A) (hi : i < A.2.2) : rA σ 39 (nI i) = some (nI (A.2.1 i)) := by
  have : A.2.2 ≤ 288 := by rw [hV.1]; exact cn_le _ _
  rw [rA39 (by omega), R.2.2.2.2.2.2.2.1 i hi]
theorem mo_95 (hN : 200000 ≤ N) (hM : MH (gA σ0 6) F) (R : RM σ0 cut thr flw A σ) (hV : VI F A) (hfr : fr < 144) (hi : i < A.2.2) (hq : A.2.1 i = v) (hv : v < 288) {y2 : Int32} : ∃ σ', lX5_runsMore_95 N N σ (nI fr) y2 (nI i) (nI (v / 2)) 0 = some σ' ∧ RM σ0 cut thr flw (pO F cut flw fr v A 4) σ' := by
  have k0 := hM.1.1.1
  have k1 := hM.1.1.2.1
  have ht : v / 2 < 144 := by omega
  have key : okk (lX5_runsMore_95 N N σ (nI fr) y2 (nI i) (nI (v / 2)) (nI 0)) (fun s => RM σ0 cut thr flw (pO F cut flw fr v A 4) s) := by
    refine okf (fun m (s : MS) j => lX5_runsMore_95 N m s (nI fr) y2 (nI i) (nI (v / 2)) j) 4 (fun d s => RM σ0 cut thr flw (pO F cut flw fr v A d) s) _ ?_ ?_ 0 σ N (by omega) (by omega) R
    · intro d σ m hd R
      right
      have hMa := R.mh hM
      have l1 : ¬ (4 : Int32) ≤ nI d := nI_ge (b := 4) hd (by decide)
      have n1 : nI d + 1 = nI (d + 1) := nI_add _ 1
      have hx : ext A (pO F cut flw fr v A d) := ext_pO d
      have hVd := VI_pO (cut := cut) (flw := flw) (a := fr) (u := v) k0 k1 hV d
      have rq : rA σ 39 (nI i) = some (nI v) := (R.q hVd (by have := hx.1; omega)).trans (by rw [hx.2.2 i hi, hq])
      have skip : cO F cut flw fr (v / 2) d = none → lX5_runsMore_95 N (m + 1) σ (nI fr) y2 (nI i) (nI (v / 2)) (nI d) = lX5_runsMore_95 N m σ (nI fr) y2 (nI i) (nI (v / 2)) (nI (d + 1)) → ∃ s', RM σ0 cut thr flw (pO F cut flw fr v A (d + 1)) s' ∧ lX5_runsMore_95 N (m + 1) σ (nI fr) y2 (nI i) (nI (v / 2)) (nI d) = lX5_runsMore_95 N m s' (nI fr) y2 (nI i) (nI (v / 2)) (nI (d + 1)) := fun ec e => by
        refine ⟨σ, ?_, e⟩
        show RM σ0 cut thr flw (oP (pO F cut flw fr v A d) (cO F cut flw fr (v / 2) d) 0 v) σ
        rw [ec]; exact R
      obtain ⟨X, hX⟩ : ∃ X, lX5_runsMore_95 N (m + 1) σ (nI fr) y2 (nI i) (nI (v / 2)) (nI d) = X := ⟨_, rfl⟩
      have e0 := hX
      rw [lX5_runsMore_95, if_neg l1, mo_bs hMa ht hd] at e0
      simp only [Option.bind_some, n1] at e0
      cases e : bes F (v / 2) d with
      | none =>
        refine skip (by unfold cO ope; rw [e]) ?_
        rw [hX, ← e0, e, show oN none = (-1 : Int32) from rfl]
        unfold fX5_isOpen
        rw [if_pos (by decide)]
        simp only [Option.bind_some, eq_self, if_true]
      | some o =>
        have ho := tuf_lt k0 k1 (bes_tuf k0 e)
        have i36 : rA σ 36 (4 * nI (v / 2) + nI d) = some (bI (flw (v / 2) d)) := by
          rw [pl_lm, nI_add, rA36 (by show 4 * (v / 2) + d < 576; omega)]
          exact congrArg some (R.2.2.2.2.2.1 _ d ht hd)
        rw [e, show oN (some o) = nI o from rfl, mo_open R hM ho] at e0
        simp only [Option.bind_some, i36, rq] at e0
        by_cases w1 : F (25 + o) = 1
        · refine skip (by unfold cO ope; rw [e]; simp only [if_pos w1]) ?_
          rw [hX, ← e0, if_pos (Or.inl w1), if_pos rfl]
        · have eo : ope F (v / 2) d = some o := by unfold ope; rw [e]; simp only [if_neg w1]
          have ec : cO F cut flw fr (v / 2) d = if cut o = true ∨ o = fr ∨ flw (v / 2) d = true then none else some o := by unfold cO; rw [eo]
          by_cases c1 : cut o = true
          · refine skip (by rw [ec, if_pos (Or.inl c1)]) ?_
            rw [hX, ← e0, if_pos (Or.inr c1), if_pos rfl]
          · rw [if_neg (show ¬ (F (25 + o) = 1 ∨ cut o = true) from fun q => q.elim w1 c1), if_neg (show ¬ (1 : Int32) = 0 by decide)] at e0
            by_cases c2 : o = fr
            · refine skip (by rw [ec, if_pos (Or.inr (Or.inl c2))]) ?_
              rw [hX, ← e0, if_pos (by rw [c2])]
            · rw [if_neg (fun q => c2 ((nI_eq (by omega) (by omega)).mp q))] at e0
              cases c3 : flw (v / 2) d with
              | true =>
                refine skip (by rw [ec, if_pos (Or.inr (Or.inr c3))]) ?_
                rw [hX, ← e0, c3, bI_t, if_neg (by decide)]
              | false =>
                rw [c3, bI_f, if_pos rfl] at e0
                have ec : cO F cut flw fr (v / 2) d = some o := by
                  rw [ec, if_neg]
                  rintro (q | q | q)
                  · exact c1 q
                  · exact c2 q
                  · rw [c3] at q; cases q
                obtain ⟨s2, q1, q2⟩ := mo_comes (N := N) (v := 2 * o) (u := v) R hVd (by omega) hv
                refine ⟨s2, ?_, ?_⟩
                · show RM σ0 cut thr flw (oP (pO F cut flw fr v A d) (cO F cut flw fr (v / 2) d) 0 v) s2
                  rw [ec]; exact q2
                · show lX5_runsMore_95 N (m + 1) σ (nI fr) y2 (nI i) (nI (v / 2)) (nI d) = _
                  rw [hX, ← e0, show (2 : Int32) * nI o = nI (2 * o) from pl_lm 2 o, q1]; rfl
    · intro s m R'
      exact ⟨_, by rw [lX5_runsMore_95, if_pos (by decide)], R'⟩
  obtain ⟨s, e1, e2⟩ := key
  exact ⟨s, e1, e2⟩
theorem mo_224 (hN : 200000 ≤ N) (hM : MH (gA σ0 6) F) (R : RM σ0 cut thr flw A σ) (hV : VI F A) (hi : i < A.2.2) (hq : A.2.1 i = v) (hv : v < 288) {y1 y2 : Int32} : ∃ σ', lX5_runsMore_224 N N σ y1 y2 (nI i) (nI (v / 2)) 0 = some σ' ∧ RM σ0 cut thr flw (pE F flw v A 4) σ' := by
  have k0 := hM.1.1.1
  have k1 := hM.1.1.2.1
  have ht : v / 2 < 144 := by omega
  have key : okk (lX5_runsMore_224 N N σ y1 y2 (nI i) (nI (v / 2)) (nI 0)) (fun s => RM σ0 cut thr flw (pE F flw v A 4) s) := by
    refine okf (fun m (s : MS) j => lX5_runsMore_224 N m s y1 y2 (nI i) (nI (v / 2)) j) 4 (fun d s => RM σ0 cut thr flw (pE F flw v A d) s) _ ?_ ?_ 0 σ N (by omega) (by omega) R
    · intro d σ m hd R
      right
      have hMa := R.mh hM
      have l1 : ¬ (4 : Int32) ≤ nI d := nI_ge (b := 4) hd (by decide)
      have n1 : nI d + 1 = nI (d + 1) := nI_add _ 1
      have n2 : irm (nI d + 2) 4 = nI ((d + 2) % 4) := by rw [show nI d + 2 = nI (d + 2) from nI_add _ 2]; exact pl_irm (n := 4) (by omega) (by decide) (by decide)
      have hx : ext A (pE F flw v A d) := ext_pE d
      have hVd := VI_pE (flw := flw) (u := v) k0 k1 hV d
      have rq : rA σ 39 (nI i) = some (nI v) := (R.q hVd (by have := hx.1; omega)).trans (by rw [hx.2.2 i hi, hq])
      have skip : cE F flw (v / 2) d = none → lX5_runsMore_224 N (m + 1) σ y1 y2 (nI i) (nI (v / 2)) (nI d) = lX5_runsMore_224 N m σ y1 y2 (nI i) (nI (v / 2)) (nI (d + 1)) → ∃ s', RM σ0 cut thr flw (pE F flw v A (d + 1)) s' ∧ lX5_runsMore_224 N (m + 1) σ y1 y2 (nI i) (nI (v / 2)) (nI d) = lX5_runsMore_224 N m s' y1 y2 (nI i) (nI (v / 2)) (nI (d + 1)) := fun ec e => by
        refine ⟨σ, ?_, e⟩
        show RM σ0 cut thr flw (oP (pE F flw v A d) (cE F flw (v / 2) d) 1 v) σ
        rw [ec]; exact R
      obtain ⟨X, hX⟩ : ∃ X, lX5_runsMore_224 N (m + 1) σ y1 y2 (nI i) (nI (v / 2)) (nI d) = X := ⟨_, rfl⟩
      have e0 := hX
      rw [lX5_runsMore_224, if_neg l1, mo_bs hMa ht hd] at e0
      simp only [Option.bind_some, n1] at e0
      cases e : bes F (v / 2) d with
      | none =>
        refine skip (by unfold cE; rw [e]) ?_
        rw [hX, ← e0, e, show oN none = (-1 : Int32) from rfl, if_pos (by decide)]
      | some o =>
        have ho := tuf_lt k0 k1 (bes_tuf k0 e)
        have hd2 : (d + 2) % 4 < 4 := Nat.mod_lt _ (by decide)
        have i36 : rA σ 36 (4 * nI o + nI ((d + 2) % 4)) = some (bI (flw o ((d + 2) % 4))) := by
          rw [pl_lm, nI_add, rA36 (by show 4 * o + (d + 2) % 4 < 576; omega)]
          exact congrArg some (R.2.2.2.2.2.1 o _ ho hd2)
        have ec : cE F flw (v / 2) d = if flw o ((d + 2) % 4) = true then some o else none := by unfold cE; rw [e]
        rw [e, show oN (some o) = nI o from rfl, if_neg (nI_pos (by omega))] at e0
        simp only [n2, i36, Option.bind_some, rq] at e0
        cases c : flw o ((d + 2) % 4) with
        | false =>
          refine skip (by rw [ec, c, if_neg (by decide)]) ?_
          rw [hX, ← e0, c, bI_f, if_neg (by decide)]
        | true =>
          rw [c, if_pos rfl] at ec
          rw [c, bI_t, if_pos rfl] at e0
          obtain ⟨s2, q1, q2⟩ := mo_comes (N := N) (v := 2 * o + 1) (u := v) R hVd (by omega) hv
          refine ⟨s2, ?_, ?_⟩
          · show RM σ0 cut thr flw (oP (pE F flw v A d) (cE F flw (v / 2) d) 1 v) s2
            rw [ec]; exact q2
          · show lX5_runsMore_224 N (m + 1) σ y1 y2 (nI i) (nI (v / 2)) (nI d) = _
            rw [hX, ← e0, show (2 : Int32) * nI o = nI (2 * o) from pl_lm 2 o, show nI (2 * o) + 1 = nI (2 * o + 1) from nI_add _ 1, q1]; rfl
    · intro s m R'
      exact ⟨_, by rw [lX5_runsMore_224, if_pos (by decide)], R'⟩
  obtain ⟨s, e1, e2⟩ := key
  exact ⟨s, e1, e2⟩
/-- what follows of a node -/
def exA (F : Nat → Nat) (cut thr : Nat → Bool) (flw : Nat → Nat → Bool) (a u : Nat) (A : QS) : QS := if u % 2 = 1 then exO F cut thr flw a u A else exE F thr flw u A
theorem mo_node (hN : 200000 ≤ N) (hM : MH (gA σ0 6) F) (R : RM σ0 cut thr flw A σ) (hV : VI F A) (hfr : fr < 144) (hto : to < 144) (ta : thr fr = false) (hi : i < A.2.2) (hq : A.2.1 i = v) (hn : v ≠ 2 * to) {m : Nat} : ∃ σ', RM σ0 cut thr flw (exA F cut thr flw fr v A) σ' ∧ VI F (exA F cut thr flw fr v A) ∧ lX5_runsMore_43 N (m + 1) σ (nI fr) (nI to) (nI i) = lX5_runsMore_43 N m σ' (nI fr) (nI to) (nI (i + 1)) := by
  have k0 := hM.1.1.1
  have k1 := hM.1.1.2.1
  obtain ⟨hv, hvt, -⟩ := hV.2.1 i hi
  rw [hq] at hv hvt
  have ht : v / 2 < 144 := by omega
  have l28 : A.2.2 ≤ 288 := by rw [hV.1]; exact cn_le _ _
  have rq : rA σ 39 (nI i) = some (nI v) := (R.q hV hi).trans (by rw [hq])
  have l1 : ¬ gI σ 43 ≤ nI i := by rw [R.2.2.2.2.2.2.2.2.1]; exact nI_ge hi (by omega)
  have n1 : nI i + 1 = nI (i + 1) := nI_add _ 1
  have dv : nI v / 2 = nI (v / 2) := pl_div (n := 2) (by omega) (by decide) (by decide)
  have rm : irm (nI v) 2 = nI (v % 2) := pl_irm (n := 2) (by omega) (by decide) (by decide)
  have ne : ¬ nI v = 2 * nI to := by
    rw [show (2 : Int32) * nI to = nI (2 * to) from pl_lm 2 to]
    exact fun q => hn ((nI_eq (by omega) (by omega)).mp q)
  rw [lX5_runsMore_43, if_neg l1, rq]
  simp only [Option.bind_some, if_neg ne, rm, dv, n1]
  unfold exA
  by_cases c : v % 2 = 1
  · rw [if_pos c, if_pos (by rw [c]; rfl)]
    obtain ⟨s1, e1, e2⟩ := mo_95 (N := N) (y2 := nI to) hN hM R hV hfr hi hq hv
    have hx : ext A (pO F cut flw fr v A 4) := ext_pO 4
    have hV4 := VI_pO (cut := cut) (flw := flw) (a := fr) (u := v) k0 k1 hV 4
    have rq1 : rA s1 39 (nI i) = some (nI v) := (e2.q hV4 (by have := hx.1; omega)).trans (by rw [hx.2.2 i hi, hq])
    rw [e1]
    simp only [Option.bind_some, rA37 ht, e2.2.2.2.2.1 _ ht, rq1]
    refine ex3 (VI_exO k0 k1 hV hv hvt) ?_
    unfold exO
    by_cases q : v / 2 = fr
    · have t2 : ¬ thr (v / 2) = true := by rw [q, ta]; decide
      exact ⟨s1, by rw [if_neg t2]; exact e2, by rw [if_pos (by rw [q])]⟩
    · rw [if_neg (fun z => q ((nI_eq (by omega) (by omega)).mp z))]
      cases e : thr (v / 2) with
      | true =>
        obtain ⟨s2, q1, q2⟩ := mo_comes (N := N) (v := 2 * (v / 2)) (u := v) e2 hV4 (by omega) hv
        exact ⟨s2, by rw [if_pos rfl]; exact q2, by rw [bI_t, if_pos rfl, show (2 : Int32) * nI (v / 2) = nI (2 * (v / 2)) from pl_lm 2 _, q1]; rfl⟩
      | false => exact ⟨s1, by rw [if_neg (by decide)]; exact e2, by rw [bI_f, if_neg (by decide)]⟩
  · have c0 : v % 2 = 0 := by omega
    rw [if_neg c, c0, if_neg (show ¬ nI 0 = 1 by decide)]
    simp only [rA37 ht, Option.bind_some, R.2.2.2.2.1 _ ht, show (2 : Int32) * nI (v / 2) = nI (2 * (v / 2)) from pl_lm 2 _, show nI (2 * (v / 2)) + 1 = nI (2 * (v / 2) + 1) from nI_add _ 1, show 2 * (v / 2) + 1 = v + 1 by omega]
    refine ex3 (VI_exE k0 k1 hV hv c0 hvt) ?_
    unfold exE
    cases e : thr (v / 2) with
    | true =>
      obtain ⟨s1, e1, e2⟩ := mo_224 (N := N) (y1 := nI fr) (y2 := nI to) hN hM R hV hi hq hv
      refine ⟨s1, by rw [if_pos rfl]; exact e2, ?_⟩
      rw [bI_t, if_neg (by decide), Option.bind_some, e1]; rfl
    | false =>
      obtain ⟨s2, q1, q2⟩ := mo_comes (N := N) (v := v + 1) (u := v) R hV (by omega) hv
      have hx : ext A (qpush A (v + 1) v) := ext.push
      obtain ⟨s1, e1, e2⟩ := mo_224 (N := N) (y1 := nI fr) (y2 := nI to) hN hM q2 (hV.push (by omega) (by rw [show (v + 1) / 2 = v / 2 by omega]; exact hvt)) (i := i) (by have := hx.1; omega) (by rw [hx.2.2 i hi]; exact hq) hv
      refine ⟨s1, by rw [if_neg (by decide)]; exact e2, ?_⟩
      rw [bI_f, if_pos rfl, q1]
      simp only [Option.bind_some]
      rw [e1]; rfl
theorem ext_exA : ext A (exA F cut thr flw fr v A) := by
  unfold exA
  by_cases c : v % 2 = 1
  · rw [if_pos c]; exact ext_exO
  · rw [if_neg c]; exact ext_exE
/-- on until the end is taken from the queue -/
theorem mo_go (hN : 200000 ≤ N) (hM : MH (gA σ0 6) F) (hfr : fr < 144) (hto : to < 144) (ta : thr fr = false) : ∀ k i A σ fuel, RM σ0 cut thr flw A σ → VI F A → i + k = pos → k < fuel → pos < A.2.2 → A.2.1 pos = 2 * to → ∃ A' σ', ext A A' ∧ RM σ0 cut thr flw A' σ' ∧ lX5_runsMore_43 N fuel σ (nI fr) (nI to) (nI i) = ((fX5_turned N σ' (nI fr) (nI to)).bind fun r40 => gB r40.1 (some (.inr (r40.1, r40.2)))) := by
  have fin : ∀ i (A : QS) σ m, RM σ0 cut thr flw A σ → VI F A → i < A.2.2 → A.2.1 i = 2 * to → lX5_runsMore_43 N (m + 1) σ (nI fr) (nI to) (nI i) = ((fX5_turned N σ (nI fr) (nI to)).bind fun r40 => gB r40.1 (some (.inr (r40.1, r40.2)))) := fun i A σ m R hV hi hq => by
    have l28 : A.2.2 ≤ 288 := by rw [hV.1]; exact cn_le _ _
    have l1 : ¬ gI σ 43 ≤ nI i := by rw [R.2.2.2.2.2.2.2.2.1]; exact nI_ge hi (by omega)
    rw [lX5_runsMore_43, if_neg l1, R.q hV hi, hq]
    simp only [Option.bind_some]
    rw [if_pos (pl_lm 2 to).symm]
  intro k
  induction k with
  | zero =>
    intro i A σ fuel R hV hik hf hp hq
    obtain ⟨m, rfl⟩ : ∃ m, fuel = m + 1 := ⟨fuel - 1, by omega⟩
    obtain rfl : i = pos := by omega
    exact ⟨A, σ, ext.refl, R, fin _ A σ m R hV hp hq⟩
  | succ k ih =>
    intro i A σ fuel R hV hik hf hp hq
    obtain ⟨m, rfl⟩ : ∃ m, fuel = m + 1 := ⟨fuel - 1, by omega⟩
    by_cases c : A.2.1 i = 2 * to
    · exact ⟨A, σ, ext.refl, R, fin i A σ m R hV (by omega) c⟩
    · obtain ⟨s1, q1, q2, q3⟩ := mo_node (N := N) (m := m) hN hM R hV hfr hto ta (by omega) rfl c
      have hx : ext A (exA F cut thr flw fr (A.2.1 i) A) := ext_exA
      obtain ⟨A', σ', p1, p2, p3⟩ := ih (i + 1) _ s1 m q1 q2 (by omega) (by omega) (by have := hx.1; omega) (by rw [hx.2.2 pos hp]; exact hq)
      exact ⟨A', σ', hx.trans p1, p2, by rw [q3]; exact p3⟩
end PSM
