/-! rows of tufts: a row is laid, both sides -/
def uf (flw : Nat → Nat → Bool) (t d : Nat) (x : Bool) : Nat → Nat → Bool := fun t' d' => if t' = t ∧ d' = d then x else flw t' d'
def ut (thr : Nat → Bool) (t : Nat) (x : Bool) : Nat → Bool := fun t' => if t' = t then x else thr t'
section PSN
variable {h : HS} {g0 g g' : Nat → Nat → Int32} {σ0 σ : MS} {N b ha n fr to i t d o u v : Nat} {F : Nat → Nat} {nm : Nat → Int64} {cut thr : Nat → Bool} {flw flw0 : Nat → Nat → Bool} {A A1 A2 : QS} {x : Bool}
theorem uf_o (hne : t ≠ v) : uf flw v d x t = flw t := by
  funext d'; unfold uf; rw [if_neg (fun q => hne q.1)]
theorem bes_ne (h : bes F t d = some o) : t ≠ o := by
  intro q
  subst q
  unfold bes at h
  split at h
  · split at h
    · have h : t - 12 = t := by injection h
      omega
    · cases h
  · split at h
    · split at h
      · have h : t + 1 = t := by injection h
        omega
      · cases h
    · split at h
      · split at h
        · have h : t + 12 = t := by injection h
          omega
        · cases h
      · split at h
        · have h : t - 1 = t := by injection h
          omega
        · cases h
theorem RC.fl (R : RC b g0 cut thr flw A g) (ht : t < 144) (hd : d < 4) : RC b g0 cut thr (uf flw t d x) A (u2 g (b + 2052 + t) d (bI x)) := by
  obtain ⟨r1, r2, r3, r4, r5, r6, r7, r8, r9⟩ := R
  refine ⟨fun y y1 y2 => by rw [u2_nf (by omega)]; exact r1 y y1 y2, fun k hk => by rw [u2_nf (by omega)]; exact r2 k hk, fun s hs => by rw [u2_nf (by omega)]; exact r3 s hs, fun s hs => by rw [u2_nf (by omega)]; exact r4 s hs, fun s e hs he => ?_, fun w hw => by rw [u2_nf (by omega)]; exact r6 w hw, fun j hj => by rw [u2_nf (by omega)]; exact r7 j hj, by rw [u2_nf (by omega)]; exact r8, r9⟩
  unfold uf
  by_cases q : s = t ∧ e = d
  · rw [if_pos q, q.1, q.2, u2_eq]
  · rw [if_neg q, u2_ne (by omega)]; exact r5 s e hs he
theorem RC.th (R : RC b g0 cut thr flw A g) (ht : t < 144) : RC b g0 cut (ut thr t x) flw A (u2 g (b + 2050) t (bI x)) := by
  obtain ⟨r1, r2, r3, r4, r5, r6, r7, r8, r9⟩ := R
  refine ⟨fun y y1 y2 => by rw [u2_nf (by omega)]; exact r1 y y1 y2, fun k hk => by rw [u2_nf (by omega)]; exact r2 k hk, fun s hs => by rw [u2_nf (by omega)]; exact r3 s hs, fun s hs => ?_, fun s e hs he => by rw [u2_nf (by omega)]; exact r5 s e hs he, fun w hw => by rw [u2_nf (by omega)]; exact r6 w hw, fun j hj => by rw [u2_nf (by omega)]; exact r7 j hj, by rw [u2_nf (by omega)]; exact r8, r9⟩
  unfold ut
  by_cases q : s = t
  · rw [if_pos q, q, u2_eq]
  · rw [if_neg q, u2_ne (Or.inr q)]; exact r4 s hs
theorem RM.fl (R : RM σ0 cut thr flw A σ) (ht : t < 144) (hd : d < 4) : RM σ0 cut thr (uf flw t d x) A (sA σ 36 (4 * t + d) (bI x)) := by
  obtain ⟨r1, r2, r3, r4, r5, r6, r7, r8, r9, r10⟩ := R
  refine ⟨fun j j1 j2 j3 j4 j5 => by rw [gA_so j1]; exact r1 j j1 j2 j3 j4 j5, r2, r3, fun s hs => by rw [gA_so (by decide)]; exact r4 s hs, fun s hs => by rw [gA_so (by decide)]; exact r5 s hs, fun s e hs he => ?_, fun w hw => by rw [gA_so (by decide)]; exact r7 w hw, fun j hj => by rw [gA_so (by decide)]; exact r8 j hj, r9, r10⟩
  rw [gA_ss]
  unfold uf
  by_cases q : s = t ∧ e = d
  · rw [if_pos q, q.1, q.2, pk_us]
  · rw [if_neg q, pk_un (by omega)]; exact r6 s e hs he
theorem RM.th (R : RM σ0 cut thr flw A σ) (ht : t < 144) : RM σ0 cut (ut thr t x) flw A (sA σ 37 t (bI x)) := by
  obtain ⟨r1, r2, r3, r4, r5, r6, r7, r8, r9, r10⟩ := R
  refine ⟨fun j j1 j2 j3 j4 j5 => by rw [gA_so j2]; exact r1 j j1 j2 j3 j4 j5, r2, r3, fun s hs => by rw [gA_so (by decide)]; exact r4 s hs, fun s hs => ?_, fun s e hs he => by rw [gA_so (by decide)]; exact r6 s e hs he, fun w hw => by rw [gA_so (by decide)]; exact r7 w hw, fun j hj => by rw [gA_so (by decide)]; exact r8 j hj, r9, r10⟩
  rw [gA_ss]
  unfold ut
  by_cases q : s = t
  · rw [if_pos q, q, pk_us]
  · rw [if_neg q, pk_un q]; exact r5 s hs
/-- one step back along a row: the component -/
theorem co_lr (hN : 200000 ≤ N) (W : NW h g0 b σ0 F ha) (R : RC b g0 cut thr flw A g) (hv : v < 288) (hr : v ≠ 2 * fr + 1) (hfr : fr < 144) (hb : A.1 v = some u) {m : Nat} :
    (v / 2 = u / 2 → lX1_layRow_2 N (m + 1) (iS h g) b (nI (2 * fr + 1)) (nI v) = lX1_layRow_2 N m (iS h (u2 g (b + 2050) (v / 2) (bI (v % 2 == 1)))) b (nI (2 * fr + 1)) (nI u)) ∧
    (v % 2 = 0 → ∀ d, d < 4 → bes F (u / 2) d = some (v / 2) → lX1_layRow_2 N (m + 1) (iS h g) b (nI (2 * fr + 1)) (nI v) = lX1_layRow_2 N m (iS h (u2 g (b + 2052 + u / 2) d (bI true))) b (nI (2 * fr + 1)) (nI u)) ∧
    (v % 2 = 1 → ∀ d, d < 4 → bes F (v / 2) d = some (u / 2) → lX1_layRow_2 N (m + 1) (iS h g) b (nI (2 * fr + 1)) (nI v) = lX1_layRow_2 N m (iS h (u2 g (b + 2052 + v / 2) d (bI false))) b (nI (2 * fr + 1)) (nI u)) := by
  have k0 := W.mh.1.1.1
  have k1 := W.mh.1.1.2.1
  have hF := W.1
  have W' := R.nw W
  have hu := R.2.2.2.2.2.2.2.2 v u hb
  have hg : ∀ g1 : Nat → Nat → Int32, g1 (b + 2196) = g (b + 2196) → aI (iS h g1) (b + 2196) 31 (nI v) = some (nI u) := fun g1 e => (fx_I25 hF g1 hv).trans (by rw [e, R.2.2.2.2.2.1 v hv, hb]; rfl)
  have ne : ¬ nI v = nI (2 * fr + 1) := fun q => hr ((nI_eq (by omega) (by omega)).mp q)
  have dv : nI v / 2 = nI (v / 2) := pl_div (n := 2) (by omega) (by decide) (by decide)
  have du : nI u / 2 = nI (u / 2) := pl_div (n := 2) (by omega) (by decide) (by decide)
  have rm : irm (nI v) 2 = nI (v % 2) := pl_irm (n := 2) (by omega) (by decide) (by decide)
  have tv : v / 2 < 144 := by omega
  have tu : u / 2 < 144 := by omega
  obtain ⟨X, hX⟩ : ∃ X, lX1_layRow_2 N (m + 1) (iS h g) b (nI (2 * fr + 1)) (nI v) = X := ⟨_, rfl⟩
  have e0 := hX
  rw [lX1_layRow_2, if_neg ne] at e0
  simp only [fx_R25 hF g, Option.bind_some, hg g rfl, dv, du, rm, lt_] at e0
  refine ⟨fun q => ?_, fun q d hd e => ?_, fun q d hd e => ?_⟩
  · rw [hX, ← e0, if_pos (by rw [q])]
    have vp : vp_nar .boolean (if nI (v % 2) = 1 then 1 else 0) = bI (v % 2 == 1) := by
      have c : v % 2 = 0 ∨ v % 2 = 1 := by omega
      rcases c with c | c
      · rw [c]; rfl
      · rw [c]; rfl
    simp only [vp, fx_R23 hF, fx_W23 hF g tv, Option.bind_some, fx_R25 hF, hg (u2 g (b + 2050) (v / 2) (bI (v % 2 == 1))) (u2_nf (by omega))]
  · rw [hX, ← e0, if_neg (fun z => bes_ne e ((nI_eq (by omega) (by omega)).mp z).symm), q]
    simp only [show (nI 0 = 0) = True from eq_true rfl, if_true, co_88 hN W' tu hd e, Option.bind_some, fx_R24 hF, fx_fl hF g tu, show vp_nar .boolean 1 = bI true from rfl, fx_fW hF g tu hd, fx_R25 hF, hg (u2 g (b + 2052 + u / 2) d (bI true)) (u2_nf (by omega))]
  · rw [hX, ← e0, if_neg (fun z => bes_ne e ((nI_eq (by omega) (by omega)).mp z)), q]
    simp only [show (nI 1 = 0) = False from eq_false (by decide), if_false, co_88 hN W' tv hd e, Option.bind_some, fx_R24 hF, fx_fl hF g tv, show vp_nar .boolean 0 = bI false from rfl, fx_fW hF g tv hd, fx_R25 hF, hg (u2 g (b + 2052 + v / 2) d (bI false)) (u2_nf (by omega))]
/-- and the Model -/
theorem mo_lr (hM : MH (gA σ0 6) F) (R : RM σ0 cut thr flw A σ) (hv : v < 288) (hr : v ≠ 2 * fr + 1) (hfr : fr < 144) (hb : A.1 v = some u) {m : Nat} :
    (v / 2 = u / 2 → lX5_turned_4 N (m + 1) σ (nI fr) (nI v) = lX5_turned_4 N m (sA σ 37 (v / 2) (bI (v % 2 == 1))) (nI fr) (nI u)) ∧
    (v % 2 = 0 → ∀ d, d < 4 → bes F (u / 2) d = some (v / 2) → lX5_turned_4 N (m + 1) σ (nI fr) (nI v) = lX5_turned_4 N m (sA σ 36 (4 * (u / 2) + d) (bI true)) (nI fr) (nI u)) ∧
    (v % 2 = 1 → ∀ d, d < 4 → bes F (v / 2) d = some (u / 2) → lX5_turned_4 N (m + 1) σ (nI fr) (nI v) = lX5_turned_4 N m (sA σ 36 (4 * (v / 2) + d) (bI false)) (nI fr) (nI u)) := by
  have hu := R.2.2.2.2.2.2.2.2.2 v u hb
  have n0 : (2 : Int32) * nI fr + 1 = nI (2 * fr + 1) := by rw [pl_lm]; exact nI_add _ 1
  have ne : ¬ nI v = nI (2 * fr + 1) := fun q => hr ((nI_eq (by omega) (by omega)).mp q)
  have dv : nI v / 2 = nI (v / 2) := pl_div (n := 2) (by omega) (by decide) (by decide)
  have du : nI u / 2 = nI (u / 2) := pl_div (n := 2) (by omega) (by decide) (by decide)
  have rm : irm (nI v) 2 = nI (v % 2) := pl_irm (n := 2) (by omega) (by decide) (by decide)
  have tv : v / 2 < 144 := by omega
  have tu : u / 2 < 144 := by omega
  have rb : rA σ 38 (nI v) = some (nI u) := (rA38 hv).trans (by rw [R.2.2.2.2.2.2.1 v hv, hb]; rfl)
  obtain ⟨X, hX⟩ : ∃ X, lX5_turned_4 N (m + 1) σ (nI fr) (nI v) = X := ⟨_, rfl⟩
  have e0 := hX
  rw [lX5_turned_4, n0, if_neg ne, rb] at e0
  simp only [Option.bind_some, dv, du, rm] at e0
  refine ⟨fun q => ?_, fun q d hd e => ?_, fun q d hd e => ?_⟩
  · rw [hX, ← e0, if_pos (by rw [q])]
    have vp : nI (v % 2) = bI (v % 2 == 1) := by
      have c : v % 2 = 0 ∨ v % 2 = 1 := by omega
      rcases c with c | c
      · rw [c]; rfl
      · rw [c]; rfl
    rw [vp, wA37 tv]; rfl
  · have ix : (4 : Int32) * nI (u / 2) + fX5_dirBetween (nI (u / 2)) (nI (v / 2)) = nI (4 * (u / 2) + d) := by rw [dirB_eq tu tv, dirN_B, dirN_b hd e, pl_lm, nI_add]
    rw [hX, ← e0, if_neg (fun z => bes_ne e ((nI_eq (by omega) (by omega)).mp z).symm), q, if_pos (show nI 0 = 0 from rfl), ix, wA36 (by omega)]; rfl
  · have ix : (4 : Int32) * nI (v / 2) + fX5_dirBetween (nI (v / 2)) (nI (u / 2)) = nI (4 * (v / 2) + d) := by rw [dirB_eq tv tu, dirN_B, dirN_b hd e, pl_lm, nI_add]
    rw [hX, ← e0, if_neg (fun z => bes_ne e ((nI_eq (by omega) (by omega)).mp z)), q, if_neg (show ¬ nI 1 = 0 by decide), ix, wA36 (by omega)]; rfl
/-- a row is laid along what was come by: both sides -/
theorem wk_both (hN : 200000 ≤ N) (W : NW h g0 b σ0 F ha) (hQ : QI F cut flw0 fr to A) (x1 : ext A A1) (x2 : ext A A2) (hfr : fr < 144) : ∀ j thr flw g σ n n', j < A.2.2 → j < n → j < n' → RC b g0 cut thr flw A1 g → RM σ0 cut thr flw A2 σ → thr fr = false → (0 < j → ∀ d, d < 4 → flw fr d = flw0 fr d) → (to ≠ fr → ∀ d, d < 4 → flw to d = false) →
    ∃ g' σ' thr' flw', lX1_layRow_2 N n (iS h g) b (nI (2 * fr + 1)) (nI (A.2.1 j)) = some (iS h g') ∧ lX5_turned_4 N n' σ (nI fr) (nI (A.2.1 j)) = some σ' ∧ RC b g0 cut thr' flw' A1 g' ∧ RM σ0 cut thr' flw' A2 σ' ∧ thr' fr = false ∧ (to ≠ fr → ∀ d, d < 4 → flw' to d = false) ∧ ((j = 0 ∧ flw' = flw) ∨ (0 < j ∧ ∃ d, d < 4 ∧ flw0 fr d = false ∧ ∀ d', d' < 4 → flw' fr d' = if d' = d then true else flw fr d')) := by
  have k0 := W.mh.1.1.1
  have k1 := W.mh.1.1.2.1
  intro j
  induction j using Nat.strongRecOn with
  | _ j ih =>
    intro thr flw g σ n n' hj hn hn' R M ta hfl hto
    obtain ⟨m, rfl⟩ : ∃ m, n = m + 1 := ⟨n - 1, by omega⟩
    obtain ⟨m', rfl⟩ : ∃ m, n' = m + 1 := ⟨n' - 1, by omega⟩
    obtain ⟨hV, hR0, hR1, hR2, hR3, hR4, hR5, hR6⟩ := id hQ
    by_cases j0 : j = 0
    · subst j0
      refine ⟨g, σ, thr, flw, ?_, ?_, R, M, ta, hto, Or.inl ⟨rfl, rfl⟩⟩
      · rw [lX1_layRow_2, hR1, if_pos rfl]
      · rw [lX5_turned_4, hR1, if_pos]
        rw [pl_lm]; exact (nI_add _ 1).symm
    · obtain ⟨nr, k, kj, hb, ha'⟩ := hR6 j (by omega) hj
      obtain ⟨hv, hvt, hvs⟩ := hV.2.1 j hj
      obtain ⟨hu, hut, hus⟩ := hV.2.1 k (by omega)
      generalize hvv : A.2.1 j = v at *
      generalize huu : A.2.1 k = u at *
      have b1 : A1.1 v = some u := by rw [x1.2.1 v hvs]; exact hb
      have b2 : A2.1 v = some u := by rw [x2.2.1 v hvs]; exact hb
      obtain ⟨c1, c2, c3⟩ := co_lr (m := m) hN W R hv nr hfr b1
      obtain ⟨m1, m2, m3⟩ := mo_lr (N := N) (m := m') W.mh M hv nr hfr b2
      have kz : k = 0 → u = 2 * fr + 1 := fun z => by rw [← huu, z]; exact hR1
      have kp : 0 < k → u ≠ 2 * fr + 1 := fun z => by rw [← huu]; exact (hR6 k z (by omega)).1
      have v2 : v ≠ 2 * fr := fun z => by rw [z, hR3] at hvs; cases hvs
      have tv : v / 2 < 144 := by omega
      have tu : u / 2 < 144 := by omega
      have tou : to ≠ fr → u ≠ 2 * to + 1 := fun z q => by rw [q, hR5 z] at hus; cases hus
      rcases ha' with ⟨u1, d, o, hd, eo, vo⟩ | ⟨es, en⟩ | ⟨u0, d, o, hd, eo, vo⟩
      · obtain ⟨q1, q2, q3, q4⟩ := cO_tuf k0 eo
        have e : bes F (u / 2) d = some (v / 2) := by rw [show v / 2 = o by omega]; exact ope_bes q1
        have hto' : to ≠ fr → ∀ d', d' < 4 → uf flw (u / 2) d true to d' = false := fun z d' hd' => by
          rw [uf_o (fun q => tou z (by omega))]; exact hto z d' hd'
        by_cases z : u / 2 = fr
        · have k0' : k = 0 := by
            by_cases q : k = 0
            · exact q
            · exact absurd (show u = 2 * fr + 1 by omega) (kp (by omega))
          obtain ⟨g', σ', thr', flw', p1, p2, p3, p4, p5, p6, p7⟩ := ih k kj thr (uf flw (u / 2) d true) _ _ m m' (by omega) (by omega) (by omega) (R.fl (x := true) tu hd) (M.fl (x := true) tu hd) ta (fun q => by omega) hto'
          rw [huu] at p1 p2
          refine ⟨g', σ', thr', flw', by rw [c2 (by omega) d hd e]; exact p1, by rw [m2 (by omega) d hd e]; exact p2, p3, p4, p5, p6, Or.inr ⟨by omega, d, hd, by rw [← z]; exact q4, fun d' hd' => ?_⟩⟩
          rcases p7 with ⟨-, p7⟩ | ⟨p7, -⟩
          · rw [p7, z]
            unfold uf
            by_cases y : d' = d
            · rw [if_pos ⟨rfl, y⟩, if_pos y]
            · rw [if_neg (fun q => y q.2), if_neg y]
          · omega
        · have kpos : 0 < k := by
            by_cases q : k = 0
            · have := kz q; omega
            · omega
          obtain ⟨g', σ', thr', flw', p1, p2, p3, p4, p5, p6, p7⟩ := ih k kj thr (uf flw (u / 2) d true) _ _ m m' (by omega) (by omega) (by omega) (R.fl (x := true) tu hd) (M.fl (x := true) tu hd) ta (fun _ d' hd' => by rw [uf_o (fun q => z q.symm)]; exact hfl (by omega) d' hd') hto'
          rw [huu] at p1 p2
          refine ⟨g', σ', thr', flw', by rw [c2 (by omega) d hd e]; exact p1, by rw [m2 (by omega) d hd e]; exact p2, p3, p4, p5, p6, Or.inr ⟨by omega, ?_⟩⟩
          rcases p7 with ⟨p7, -⟩ | ⟨-, p7⟩
          · omega
          · rw [uf_o (fun q => z q.symm)] at p7; exact p7
      · have kpos : 0 < k := by
          by_cases q : k = 0
          · have := kz q; omega
          · omega
        have ta' : ut thr (v / 2) (v % 2 == 1) fr = false := by unfold ut; rw [if_neg (by omega)]; exact ta
        obtain ⟨g', σ', thr', flw', p1, p2, p3, p4, p5, p6, p7⟩ := ih k kj (ut thr (v / 2) (v % 2 == 1)) flw _ _ m m' (by omega) (by omega) (by omega) (R.th (x := (v % 2 == 1)) tv) (M.th (x := (v % 2 == 1)) tv) ta' (fun _ => hfl (by omega)) hto
        rw [huu] at p1 p2
        refine ⟨g', σ', thr', flw', by rw [c1 es.symm]; exact p1, by rw [m1 es.symm]; exact p2, p3, p4, p5, p6, Or.inr ⟨by omega, ?_⟩⟩
        rcases p7 with ⟨p7, -⟩ | ⟨-, p7⟩
        · omega
        · exact p7
      · obtain ⟨q1, q2, q3⟩ := cE_tuf k0 eo
        have e : bes F (v / 2) ((d + 2) % 4) = some (u / 2) := by rw [show v / 2 = o by omega]; exact bes_sym k0 hut hd q1
        have hd2 : (d + 2) % 4 < 4 := Nat.mod_lt _ (by decide)
        have kpos : 0 < k := by
          by_cases q : k = 0
          · have := kz q; omega
          · omega
        have nf : v / 2 ≠ fr := by omega
        obtain ⟨g', σ', thr', flw', p1, p2, p3, p4, p5, p6, p7⟩ := ih k kj thr (uf flw (v / 2) ((d + 2) % 4) false) _ _ m m' (by omega) (by omega) (by omega) (R.fl (x := false) tv hd2) (M.fl (x := false) tv hd2) ta (fun _ d' hd' => by rw [uf_o (fun q => nf q.symm)]; exact hfl (by omega) d' hd') (fun z d' hd' => by
          unfold uf
          by_cases y : to = v / 2 ∧ d' = (d + 2) % 4
          · rw [if_pos y]
          · rw [if_neg y]; exact hto z d' hd')
        rw [huu] at p1 p2
        refine ⟨g', σ', thr', flw', by rw [c3 (by omega) _ hd2 e]; exact p1, by rw [m3 (by omega) _ hd2 e]; exact p2, p3, p4, p5, p6, Or.inr ⟨by omega, ?_⟩⟩
        rcases p7 with ⟨p7, -⟩ | ⟨-, p7⟩
        · omega
        · rw [uf_o (fun q => nf q.symm)] at p7; exact p7
end PSN
