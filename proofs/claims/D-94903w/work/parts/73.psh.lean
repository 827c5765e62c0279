/-! the least sign: the component's search -/
section PSH
variable {h : HS} {g0 g g' : Nat → Nat → Int32} {σ σ' : MS} {N b a n : Nat} {F : Nat → Nat} {nm : Nat → Int64} {C : Nat → Nat} {dn : Nat → Bool}
/-- what the sign on a tuft is -/
def sgN (f : Nat → Int32) (F : Nat → Nat) (p t : Nat) : Nat := if f (436 + 4 * t) ≤ 0 then F (7 + p) else if f (436 + 4 * t + 1) = nI (F (13 + p)) then 0 else F (7 + p)
theorem sgN_le {f : Nat → Int32} {p t : Nat} (hF : HOK F) (hp : p < F 2) : sgN f F p t ≤ 9 := by
  have := (hF.2.1 p hp).2.1
  unfold sgN
  by_cases c : f (436 + 4 * t) ≤ 0
  · rw [if_pos c]; exact this
  · rw [if_neg c]
    by_cases c2 : f (436 + 4 * t + 1) = nI (F (13 + p))
    · rw [if_pos c2]; omega
    · rw [if_neg c2]; exact this
theorem NW.of (W : NW h g b σ F a) (hg : ∀ q, q ≠ b → (q < b + 2033 ∨ b + 2199 ≤ q) → g' q = g q) (e6 : gA σ' 6 = gA σ 6) (e9 : gJ σ' 9 = gJ σ 9) : NW h g' b σ' F a := by
  obtain ⟨w1, w2, w3, w4, w5, w6, w7, w8⟩ := W
  have K : kept b h h g g' := ⟨Nat.le_refl _, fun q hq => ⟨rfl, rfl, rfl, hg q (by obtain ⟨_, h9⟩ := hq; omega) (by obtain ⟨_, h9⟩ := hq; omega)⟩⟩
  refine ⟨w1, w2.keep K rfl, w3, w4, w5, by rw [e9]; exact w6.keep K, by rw [e6]; exact w7, by rw [e6]; exact w8.of (fun q q1 q2 => hg q (by omega) (by omega)) fun _ _ _ => rfl⟩
theorem co_sign (W : NW h g b σ F a) {p t : Nat} (hp : p < F 2) (ht : t < 144) : fX1_signOf N (iS h g) b (nI p) (nI t) = some (nI (sgN (gA σ 6) F p t)) := by
  unfold fX1_signOf
  simp only [W.r4, Option.bind_some, ru_R5 W.ru g, ru_I5 W.ru g ht, W.r3, ho_R W.ho (k := 5) (by decide) (by decide), ls_g (ho_p W.ho), ls_get (ho_p W.ho) hp, ho_pg W.ho hp, ho_p2 W.ho hp, ho_p1 W.ho hp]
  have h9 := (W.mh.1.2.1 p hp).2.2.1
  unfold sgN
  rcases W.rr.2.2.2.2.2 t ht with ⟨c1, c2, c3, -⟩ | ⟨w, o, d, s, e, ⟨k1, k2, k3, k4, k5⟩, c1, c2, c3, c4, c5, c6, c7, -⟩
  · rw [c3, c1, if_neg (fun q : (-1 : Int32) = nI (F (13 + p)) => (pl_em1 (a := F (13 + p)) (by omega)).mp q.symm), if_pos (show (0 : Int32) ≤ 0 by decide)]
  · rw [c7, c2, c3, if_neg (show ¬ nI (w + 1) ≤ 0 from nI_ge (a := 0) (by omega) (by omega))]
    by_cases z : nI s = nI (F (13 + p))
    · rw [if_pos z, if_pos z]; rfl
    · rw [if_neg z, if_neg z]
theorem mo_sign (hM : MH (gA σ 6) F) {p t : Nat} (hp : p < F 2) (ht : t < 144) : fX5_signOf N σ (nI p) (nI t) = some (nI (sgN (gA σ 6) F p t)) := by
  have k2 := hM.1.1.2.2.1
  have i1 : (436 : Int32) + 4 * nI t = nI (436 + 4 * t) := by rw [pl_lm, pl_la]
  have i2 : nI (436 + 4 * t) + 1 = nI (436 + 4 * t + 1) := nI_add _ 1
  have r1 : rA σ 6 (nI (436 + 4 * t)) = some (gA σ 6 (436 + 4 * t)) := rA6 (by omega)
  have r2 : rA σ 6 (nI (436 + 4 * t + 1)) = some (gA σ 6 (436 + 4 * t + 1)) := rA6 (by omega)
  have r3 : rA σ 6 (7 + nI p) = some (nI (F (7 + p))) := by rw [pl_la]; exact mo_i hM (by show 7 + p < 429; omega)
  have r4 : rA σ 6 (13 + nI p) = some (nI (F (13 + p))) := by rw [pl_la]; exact mo_i hM (by show 13 + p < 429; omega)
  unfold fX5_signOf sgN
  rw [i1, r1]
  simp only [Option.bind_some, i2, r2, r3, r4]
  by_cases c : gA σ 6 (436 + 4 * t) ≤ 0
  · rw [if_pos c, if_pos c]
  · rw [if_neg c, if_neg c]
    by_cases c2 : gA σ 6 (436 + 4 * t + 1) = nI (F (13 + p))
    · rw [if_pos c2, if_pos c2]; rfl
    · rw [if_neg c2, if_neg c2]
/-- the component's arrays: costs, and what is done -/
def CI (b : Nat) (g0 : Nat → Nat → Int32) (C : Nat → Nat) (dn : Nat → Bool) (g : Nat → Nat → Int32) : Prop := (∀ q, q ≠ b + 2046 → q ≠ b + 2047 → g q = g0 q) ∧ (∀ t, t < 144 → g (b + 2046) t = nI (C t) ∧ C t ≤ 100000000) ∧ ∀ t, t < 144 → g (b + 2047) t = if dn t = true then 1 else 0
def nearP (C : Nat → Nat) (dn : Nat → Bool) (i : Nat) (y : Int32) : Prop := (y = -1 ∧ ∀ t, t < i → dn t = false → 100000000 ≤ C t) ∨ ∃ u, u < i ∧ y = nI u ∧ dn u = false ∧ C u < 100000000 ∧ ∀ t, t < i → dn t = false → C u ≤ C t
theorem co_near (hN : 200000 ≤ N) (hF : FX h b) (hI : CI b g0 C dn g) : ∃ y, fX1_nearest N (iS h g) b = some y ∧ nearP C dn 144 y := by
  obtain ⟨-, i2, i3⟩ := hI
  have key : okk (lX1_nearest_4 N (iS h g) N b (-1) (nI 0)) (nearP C dn 144) := by
    refine okf (fun m (y : Int32) i => lX1_nearest_4 N (iS h g) m b y i) 144 (nearP C dn) _ ?_ ?_ 0 (-1) N (by omega) (by omega) (Or.inl ⟨rfl, fun t ht => by omega⟩)
    · intro i y m hi hp
      right
      have l1 : ¬ (144 : Int32) ≤ nI i := nI_ge (b := 144) hi (by decide)
      have n1 : nI i + 1 = nI (i + 1) := nI_add _ 1
      obtain ⟨c1, c2⟩ := i2 i hi
      have d1 := i3 i hi
      rw [lX1_nearest_4, if_neg l1]
      simp only [Option.bind_some, fx_R20 hF g, fx_I20 hF g hi, d1, fx_R19 hF g, fx_I19 hF g hi, c1, n1]
      cases e : dn i with
      | true =>
        refine ⟨y, ?_, by simp only [if_true, one0, if_false]⟩
        rcases hp with ⟨p1, p2⟩ | ⟨u, p1, p2, p3, p4, p5⟩
        · exact Or.inl ⟨p1, fun t ht dt => by
            by_cases q : t = i
            · subst q; rw [e] at dt; cases dt
            · exact p2 t (by omega) dt⟩
        · exact Or.inr ⟨u, by omega, p2, p3, p4, fun t ht dt => by
            by_cases q : t = i
            · subst q; rw [e] at dt; cases dt
            · exact p5 t (by omega) dt⟩
      | false =>
        simp only [Bool.false_eq_true, if_false, if_true]
        by_cases q : C i < 100000000
        · simp (disch := omega) only [pl_lef1, if_false]
          rcases hp with ⟨p1, p2⟩ | ⟨u, p1, p2, p3, p4, p5⟩
          · refine ⟨nI i, Or.inr ⟨i, by omega, rfl, e, q, fun t ht dt => ?_⟩, by rw [p1, if_pos rfl]⟩
            by_cases z : t = i
            · subst z; omega
            · have := p2 t (by omega) dt; omega
          · have u1 : u < 144 := by omega
            rw [p2]
            simp (disch := omega) only [pl_em1, if_false, fx_I19 hF g, Option.bind_some, (i2 u u1).1]
            by_cases z : C u ≤ C i
            · refine ⟨nI u, Or.inr ⟨u, by omega, rfl, p3, p4, fun t ht dt => ?_⟩, by rw [if_pos (nI_le z (by omega))]⟩
              by_cases z2 : t = i
              · subst z2; exact z
              · exact p5 t (by omega) dt
            · refine ⟨nI i, Or.inr ⟨i, by omega, rfl, e, q, fun t ht dt => ?_⟩, by rw [if_neg (nI_ge (by omega) (by omega))]⟩
              by_cases z2 : t = i
              · subst z2; omega
              · have := p5 t (by omega) dt; omega
        · simp (disch := omega) only [pl_let1, if_true]
          refine ⟨y, ?_, rfl⟩
          rcases hp with ⟨p1, p2⟩ | ⟨u, p1, p2, p3, p4, p5⟩
          · exact Or.inl ⟨p1, fun t ht dt => by
              by_cases z : t = i
              · subst z; omega
              · exact p2 t (by omega) dt⟩
          · exact Or.inr ⟨u, by omega, p2, p3, p4, fun t ht dt => by
              by_cases z : t = i
              · subst z; omega
              · exact p5 t (by omega) dt⟩
    · intro y m hp
      exact ⟨y, by rw [lX1_nearest_4, if_pos (by decide)], hp⟩
  obtain ⟨y, e1, e2⟩ := key
  refine ⟨y, ?_, e2⟩
  unfold fX1_nearest
  rw [show lX1_nearest_4 N (iS h g) N b (-1) 0 = some y from e1]; rfl
/-- what goes over a tuft costs, its step told -/
def stN (f : Nat → Int32) (F : Nat → Nat) (p t : Nat) : Nat := 1000 * sgN f F p t + 1
theorem stN_le {f : Nat → Int32} {p t : Nat} (hF : HOK F) (hp : p < F 2) : stN f F p t ≤ 9001 := by
  have := sgN_le (f := f) (t := t) hF hp
  unfold stN; omega
/-- all four sides of a tuft are looked at -/
theorem co_119 (hN : 200000 ≤ N) (W : NW h g0 b σ F a) {p fr c0 u B : Nat} {y3 : Int32} (hp : p < F 2) (hB : B + 9001 < 100000000) (hu : u < 144) (du : dn u = true) (hI : CI b g0 C dn g) (uB : C u ≤ B) (um : ∀ v, v < 144 → dn v = true → C v ≤ C u) (hD : DC F (stN (gA σ 6) F p) fr c0 C dn (B + 9001)) (wu : Wk F (stN (gA σ 6) F p) fr c0 u (C u)) (hA : ∀ v d', v < 144 → d' < 4 → dn v = true → v ≠ u → DE F (stN (gA σ 6) F p) C v d') :
    ∃ g' C', lX1_crosses_119 N N (iS h g) b (nI p) y3 (nI u) 0 = some (iS h g') ∧ CI b g0 C' dn g' ∧ DC F (stN (gA σ 6) F p) fr c0 C' dn (B + 9001) ∧ DA F (stN (gA σ 6) F p) C' dn := by
  have k0 := W.mh.1.1.1
  have k1 := W.mh.1.1.2.1
  have hs : ∀ t, t < 144 → stN (gA σ 6) F p t ≤ 9001 := fun t _ => stN_le W.mh.1 hp
  have key : okk (lX1_crosses_119 N N (iS h g) b (nI p) y3 (nI u) (nI 0)) (fun s => ∃ g' C', s = iS h g' ∧ CI b g0 C' dn g' ∧ DC F (stN (gA σ 6) F p) fr c0 C' dn (B + 9001) ∧ DA F (stN (gA σ 6) F p) C' dn) := by
    refine okf (fun m (s : HS) i => lX1_crosses_119 N m s b (nI p) y3 (nI u) i) 4 (fun d s => ∃ g' C', s = iS h g' ∧ CI b g0 C' dn g' ∧ DC F (stN (gA σ 6) F p) fr c0 C' dn (B + 9001) ∧ C' u = C u ∧ (∀ v, v < 144 → dn v = true → C' v ≤ C' u) ∧ ∀ v d', v < 144 → d' < 4 → dn v = true → (v ≠ u ∨ d' < d) → DE F (stN (gA σ 6) F p) C' v d') _ ?_ ?_ 0 (iS h g) N (by omega) (by omega) ⟨g, C, rfl, hI, hD, rfl, um, fun v d' hv hd' dv hq => hA v d' hv hd' dv (by omega)⟩
    · rintro d s m hd ⟨g', C', rfl, I', D', cu', um', A'⟩
      right
      have W' : NW h g' b σ F a := W.of (fun q _ hq => I'.1 q (by omega) (by omega)) rfl rfl
      have hF := W'.1
      have l1 : ¬ (4 : Int32) ≤ nI d := nI_ge (b := 4) hd (by decide)
      have n1 : nI d + 1 = nI (d + 1) := nI_add _ 1
      rw [lX1_crosses_119, if_neg l1, W'.r3]
      simp only [Option.bind_some, ho_g W'.ho, ho_ope W'.2.1.1 W'.ho hu hd, n1]
      cases e : ope F u d with
      | none =>
        refine ⟨iS h g', ⟨g', C', rfl, I', D', cu', um', fun v d' hv hd' dv hq o eo => ?_⟩, by rw [show oN none = (-1 : Int32) from rfl, if_pos rfl]⟩
        by_cases z : v ≠ u ∨ d' < d
        · exact A' v d' hv hd' dv z o eo
        · have ev : v = u := by omega
          have ed : d' = d := by omega
          subst ev ed
          rw [e] at eo; cases eo
      | some o =>
        have ho := tuf_lt k0 k1 (ope_tuf k0 e).1
        have q1 := I'.2.1 o ho
        have q2 := I'.2.1 u hu
        have sl := sgN_le (f := gA σ 6) (t := o) W.mh.1 hp
        obtain ⟨D2, cu2, kd2, A2⟩ := D'.step k0 k1 hB hs hd hu du (by omega) um' (by rw [cu']; exact wu) e A'
        refine ⟨iS h (u2 g' (b + 2046) o (nI (min (C' o) (C' u + stN (gA σ 6) F p o)))), ⟨_, sv C' o (min (C' o) (C' u + stN (gA σ 6) F p o)), rfl, ⟨fun q z1 z2 => by rw [u2_nf z1]; exact I'.1 q z1 z2, fun t ht => ?_, fun t ht => by rw [u2_nf (by omega)]; exact I'.2.2 t ht⟩, D2, cu2.trans cu', fun v hv dv => by rw [kd2 v hv dv, cu2]; exact um' v hv dv, A2⟩, ?_⟩
        · by_cases z : t = o
          · subst z; rw [u2_eq, sv_eq]; exact ⟨rfl, by omega⟩
          · rw [u2_ne (Or.inr z), sv_ne z]; exact I'.2.1 t ht
        · rw [show oN (some o) = nI o from rfl]
          have ev : nI (C' u) + 1000 * nI (sgN (gA σ 6) F p o) + 1 = nI (C' u + stN (gA σ 6) F p o) := by
            rw [show (1000 : Int32) * nI (sgN (gA σ 6) F p o) = nI (1000 * sgN (gA σ 6) F p o) from pl_lm 1000 _, nI_add, show nI (C' u + 1000 * sgN (gA σ 6) F p o) + 1 = nI (C' u + 1000 * sgN (gA σ 6) F p o + 1) from nI_add _ 1]; rfl
          have im : imin (nI (C' o)) (nI (C' u + stN (gA σ 6) F p o)) = nI (min (C' o) (C' u + stN (gA σ 6) F p o)) := imin_n (by omega) (by have := hs o ho; omega)
          simp (disch := omega) only [pl_em1, if_false, fx_R19 hF g', fx_I19 hF g', Option.bind_some, q1.1, q2.1, fx_g hF, co_sign W' hp ho, ev, im, fx_W19 hF g']
    · rintro s m ⟨g', C', rfl, I', D', cu', um', A'⟩
      exact ⟨_, by rw [lX1_crosses_119, if_pos (by decide)], g', C', rfl, I', D', fun v d hv hd dv => A' v d hv hd dv (Or.inr hd)⟩
  obtain ⟨s, e1, g', C', rfl, e2, e3, e4⟩ := key
  exact ⟨g', C', e1, e2, e3, e4⟩
/-- the whole search -/
theorem co_96 (hN : 200000 ≤ N) (W : NW h g0 b σ F a) {p fr c0 to : Nat} {y : Int32} (hp : p < F 2) (ht : to < 144) (hI : CI b g0 C dn g) (hD : DC F (stN (gA σ 6) F p) fr c0 C dn (9000 + 9001 * cn dn 144)) (hA : DA F (stN (gA σ 6) F p) C dn) (hy : nearP C dn 144 y) :
    ∃ g' C' dn' B, lX1_crosses_96 N N (iS h g) b (nI p) (nI to) y = some (iS h g') ∧ CI b g0 C' dn' g' ∧ DC F (stN (gA σ 6) F p) fr c0 C' dn' B ∧ DA F (stN (gA σ 6) F p) C' dn' ∧ B + 9001 < 100000000 ∧ ((∀ t, t < 144 → dn' t = false → 100000000 ≤ C' t) ∨ (C' to < 100000000 ∧ ∀ t, t < 144 → dn' t = false → C' to ≤ C' t)) := by
  have key : okk (lX1_crosses_96 N N (iS h g) b (nI p) (nI to) y) (fun s => ∃ g' C' dn' B, s = iS h g' ∧ CI b g0 C' dn' g' ∧ DC F (stN (gA σ 6) F p) fr c0 C' dn' B ∧ DA F (stN (gA σ 6) F p) C' dn' ∧ B + 9001 < 100000000 ∧ ((∀ t, t < 144 → dn' t = false → 100000000 ≤ C' t) ∨ (C' to < 100000000 ∧ ∀ t, t < 144 → dn' t = false → C' to ≤ C' t))) := by
    refine okl (fun m (s : HS × Int32) => lX1_crosses_96 N m s.1 b (nI p) (nI to) s.2) (fun k s => ∃ g C dn, s.1 = iS h g ∧ CI b g0 C dn g ∧ DC F (stN (gA σ 6) F p) fr c0 C dn (9000 + 9001 * cn dn 144) ∧ DA F (stN (gA σ 6) F p) C dn ∧ nearP C dn 144 s.2 ∧ k = 144 - cn dn 144) _ ?_ (144 - cn dn 144) (iS h g, y) N (by omega) ⟨g, C, dn, rfl, hI, hD, hA, hy, rfl⟩
    rintro k ⟨s, y⟩ m ⟨g, C, dn, rfl, hI, hD, hA, hy, rfl⟩
    have hF := W.1
    have cl := cn_le dn 144
    show okk (lX1_crosses_96 N (m + 1) (iS h g) b (nI p) (nI to) y) _ ∨ _
    rcases hy with ⟨rfl, y2⟩ | ⟨u, u1, rfl, u3, u4, u5⟩
    · left
      exact ⟨_, by rw [lX1_crosses_96, if_pos rfl], g, C, dn, _, rfl, hI, hD, hA, by omega, Or.inl y2⟩
    · have z1 : ¬ nI u = -1 := fun q => (pl_em1 (a := u) (by omega)).mp q
      by_cases z2 : u = to
      · subst z2
        left
        exact ⟨_, by rw [lX1_crosses_96, if_neg z1, if_pos rfl], g, C, dn, _, rfl, hI, hD, hA, by omega, Or.inr ⟨u4, u5⟩⟩
      · right
        have z3 : ¬ nI u = nI to := fun q => z2 ((nI_eq (by omega) (by omega)).mp q)
        have cu := cn_up u3 144 u1
        have cl2 := cn_le (svB dn u) 144
        have sb : ∀ v, svB dn u v = true → v = u ∨ dn v = true := fun v hv => by
          unfold svB at hv
          by_cases q : v = u
          · exact Or.inl q
          · rw [if_neg q] at hv; exact Or.inr hv
        have sf : ∀ v, svB dn u v = false → v ≠ u ∧ dn v = false := fun v hv => by
          unfold svB at hv
          by_cases q : v = u
          · rw [if_pos q] at hv; cases hv
          · rw [if_neg q] at hv; exact ⟨q, hv⟩
        have suu : svB dn u u = true := by unfold svB; rw [if_pos rfl]
        obtain ⟨h1, h2, h3, h4⟩ := id hD
        have wu : Wk F (stN (gA σ 6) F p) fr c0 u (C u) ∧ C u ≤ 9000 + 9001 * cn dn 144 := (h1 u u1).resolve_left (by omega)
        have um : ∀ v, v < 144 → svB dn u v = true → C v ≤ C u := fun v hv dv => (sb v dv).elim (fun q => by rw [q]; omega) fun q => h4 v u hv u1 q u3
        have I1 : CI b g0 C (svB dn u) (u2 g (b + 2047) u 1) := ⟨fun q q1 q2 => by rw [u2_nf q2]; exact hI.1 q q1 q2, fun t ht => by rw [u2_nf (by omega)]; exact hI.2.1 t ht, fun t ht => by
          by_cases q : t = u
          · rw [q, u2_eq, suu, if_pos rfl]
          · rw [u2_ne (Or.inr q), show svB dn u t = dn t from if_neg q]; exact hI.2.2 t ht⟩
        have D1 : DC F (stN (gA σ 6) F p) fr c0 C (svB dn u) (9000 + 9001 * cn dn 144 + 9001) := ⟨fun t ht => (h1 t ht).elim Or.inl fun q => Or.inr ⟨q.1, by omega⟩, h2, fun v hv dv => (sb v dv).elim (fun q => by rw [q]; omega) fun q => by have := h3 v hv q; omega, fun v w hv hw dv dw => by
          have := sf w dw
          rcases sb v dv with q | q
          · rw [q]; exact u5 w hw this.2
          · exact h4 v w hv hw q this.2⟩
        obtain ⟨g2, C2, e1, I2, D2, A2⟩ := co_119 (y3 := nI to) hN W hp (by omega) u1 suu I1 wu.2 um D1 wu.1 (fun v d' hv hd' dv q => hA v d' hv hd' ((sb v dv).resolve_left q))
        obtain ⟨y2, e2, e3⟩ := co_near (N := N) hN hF I2
        refine ⟨(iS h g2, y2), 144 - cn (svB dn u) 144, by omega, ⟨g2, C2, svB dn u, rfl, I2, by rw [cu, show 9000 + 9001 * (cn dn 144 + 1) = 9000 + 9001 * cn dn 144 + 9001 by omega]; exact D2, A2, e3, rfl⟩, ?_⟩
        show lX1_crosses_96 N (m + 1) (iS h g) b (nI p) (nI to) (nI u) = lX1_crosses_96 N m (iS h g2) b (nI p) (nI to) y2
        rw [lX1_crosses_96, if_neg z1, if_neg z3]
        simp only [Option.bind_some, fx_R20 hF g, show vp_nar .boolean 1 = 1 from rfl, fx_W20 hF g u1, e1, fx_g hF, e2]
  obtain ⟨s, e1, g', C', dn', B, rfl, e2⟩ := key
  exact ⟨g', C', dn', B, e1, e2⟩
end PSH
