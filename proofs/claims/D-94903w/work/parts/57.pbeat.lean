/-! operation: beat -/
section PBT
variable {h : HS} {g : Nat → Nat → Int32} {σ : MS} {N b a n : Nat} {F : Nat → Nat} {nm : Nat → Int64}
theorem imin_n {a b : Nat} (ha : a < 2147483648) (hb : b < 2147483648) : imin (nI a) (nI b) = nI (min a b) := by
  unfold imin
  by_cases c : b < a
  · rw [if_pos (nI_lt c ha), show min a b = b by omega]
  · rw [if_neg (nI_nlt (by omega) hb), show min a b = a by omega]
theorem imax_n {a b : Nat} (ha : a < 2147483648) (hb : b < 2147483648) : imax (nI a) (nI b) = nI (max a b) := by
  unfold imax
  by_cases c : a < b
  · rw [if_pos (nI_lt c hb), show max a b = b by omega]
  · rw [if_neg (nI_nlt (by omega) ha), show max a b = a by omega]
/-- both sides beat one tuft -/
theorem beat_one (hN : 200000 ≤ N) (hX : FX h b) (hR : RugS h (b + 8)) {t : Nat} (ht : t < 144) {s1 : HS} {s2 : MS} (hP : RP h g σ b F s1 s2) : ∃ t1 t2 v e, RP h g σ b F t1 t2 ∧ fR s1 b 1 1 4 = some (b + 8) ∧ fR s1 (b + 8) 3 3 7 = some (b + 8 + 2022) ∧ aI s1 (b + 8 + 2022) 31 (nI t) = some v ∧ (∀ y : Int32, (if v = -1 then y else y + 1) = y + e) ∧ (∀ {α : Type} (x : Option α), gT s1 (b + 8) 3 3 x = x) ∧ fX3_clean N s1 (b + 8) (nI t) = some t1 ∧ fX5_beats N s2 (nI t) = some (e, t2) := by
  obtain ⟨g', f', rfl, rfl, p1, p2, p3⟩ := hP
  obtain ⟨g1, e1, c1⟩ := co_clean (N := N) (g := g') hN hR ht
  have e2 := mo_beats (N := N) (σ := aS σ 6 f') hN ht
  rw [gA_same, aS_aS] at e2
  refine ⟨iS h g1, aS σ 6 (clF f' t), _, _, ⟨g1, clF f' t, rfl, rfl, p1.clean ht c1, fun j hj => ?_, fun x hx => ?_⟩, fx_R4 hX g', ru_R7 hR g', ru_I7 hR g' ht, fun y => ?_, fun x => ru_g hR g', e1, e2⟩
  · rw [clF_o (by omega) (by omega)]; exact p2 j hj
  · rw [c1.1 x (by omega) (by omega)]; exact p3 x hx
  · rcases p1.2.2.2.2.2 t ht with ⟨a1, -, -, -, a5, -⟩ | ⟨w, o, d, s, e, ⟨w6, oF, dn, s9, e4⟩, b1, b2, b3, b4, b5, b6, b7, b8, b9, b10⟩
    · rw [a5, a1, if_pos rfl, if_pos (by decide), Int32.add_zero]
    · have o9 : o < 2147483648 := by omega
      rw [b9, b2]
      simp (disch := omega) only [pl_let, pl_lef, pl_ltt, pl_ltf, pl_eqf, pl_let1, pl_lef1, pl_ltt1, pl_ltf1, pl_eqf1, pl_let2, pl_lef2, pl_ltt2, pl_ltf2, pl_em1, if_true, if_false, ite_self]
theorem beat_row (hN : 200000 ≤ N) (hX : FX h b) (hR : RugS h (b + 8)) {t u r c0 : Nat} {y6 : Int32} (ht : t < 144) (hu : u < 144) (hr : r < 12) (hc : c0 ≤ max (t % 12) (u % 12)) {s1 : HS} {s2 : MS} {y : Int32} (hP : RP h g σ b F s1 s2) : ∃ (q : HS × Int32) (q' : MS × Int32), lX1_beat_72 N N s1 b (nI t) (nI u) y (nI r) (nI c0) = some q ∧ lX5_beat_118 N N s2 (nI c0) (nI (max (t % 12) (u % 12))) y6 y (nI r) (nI c0) = some q' ∧ RP h g σ b F q.1 q'.1 ∧ q.2 = q'.2 := by
  have m9 : imax (irm (nI t) 12) (irm (nI u) 12) = nI (max (t % 12) (u % 12)) := by
    rw [show irm (nI t) 12 = nI (t % 12) from pl_irm (n := 12) (by omega) (by decide) (by decide), show irm (nI u) 12 = nI (u % 12) from pl_irm (n := 12) (by omega) (by decide) (by decide), imax_n (by omega) (by omega)]
  have cm : max (t % 12) (u % 12) < 12 := by omega
  obtain ⟨M, eM⟩ : ∃ M, M = max (t % 12) (u % 12) := ⟨_, rfl⟩
  rw [← eM] at m9 cm hc
  rw [← eM]
  exact lp_two (fun m (x : HS × Int32) i => lX1_beat_72 N m x.1 b (nI t) (nI u) x.2 (nI r) i) (fun m (x : MS × Int32) i => lX5_beat_118 N m x.1 (nI c0) (nI M) y6 x.2 (nI r) i) (M + 1) (fun i x z => RP h g σ b F x.1 z.1 ∧ x.2 = z.2) (fun x z => RP h g σ b F x.1 z.1 ∧ x.2 = z.2) (fun m i x z hi hxz => by
    obtain ⟨s, v⟩ := x
    obtain ⟨s', v'⟩ := z
    obtain ⟨hxz, rfl⟩ : RP h g σ b F s s' ∧ v = v' := hxz
    obtain ⟨t1, t2, w, e, b1, b2, b3, b4, b5, b6, b7, b8⟩ := beat_one (N := N) (t := 12 * r + i) hN hX hR (by omega) hxz
    have n1 : 12 * nI r + nI i = nI (12 * r + i) := by simp only [pl_la, pl_al, pl_lm, pl_ml, nI_add, pk_mul, pl_sl, pl_m1]
    have n2 : nI i + 1 = nI (i + 1) := nI_add _ 1
    have l1 : ¬ nI M < nI i := nI_nlt (by omega) (by omega)
    right
    refine ⟨(t1, v + e), (t2, v + e), ⟨b1, rfl⟩, ?_, ?_⟩
    · show lX1_beat_72 N (m + 1) s b (nI t) (nI u) v (nI r) (nI i) = lX1_beat_72 N m t1 b (nI t) (nI u) (v + e) (nI r) (nI (i + 1))
      rw [lX1_beat_72, m9, if_neg l1]
      simp only [b2, b3, n1, b4, b6, b7, Option.bind_some, lt_, b5, n2]
    · show lX5_beat_118 N (m + 1) s' (nI c0) (nI M) y6 v (nI r) (nI i) = lX5_beat_118 N m t2 (nI c0) (nI M) y6 (v + e) (nI r) (nI (i + 1))
      rw [lX5_beat_118, if_neg l1]
      simp only [n1, b8, Option.bind_some, n2]) (fun m x z hxz => by
    have l1 : nI M < nI (M + 1) := nI_lt (by omega) (by omega)
    refine ⟨x, z, ?_, ?_, hxz⟩
    · show lX1_beat_72 N (m + 1) x.1 b (nI t) (nI u) x.2 (nI r) (nI (M + 1)) = some x
      rw [lX1_beat_72, m9, if_pos l1]
    · show lX5_beat_118 N (m + 1) z.1 (nI c0) (nI M) y6 z.2 (nI r) (nI (M + 1)) = some z
      rw [lX5_beat_118, if_pos l1]) (M + 1 - c0) c0 (s1, y) (s2, y) N (by omega) (by omega) ⟨hP, rfl⟩
theorem beat_all (hN : 200000 ≤ N) (hX : FX h b) (hR : RugS h (b + 8)) {t u : Nat} (ht : t < 144) (hu : u < 144) {s1 : HS} {s2 : MS} (hP : RP h g σ b F s1 s2) : ∃ (q : HS × Int32) (q' : MS × Int32), lX1_beat_43 N N s1 b (nI t) (nI u) 0 (nI (min (t / 12) (u / 12))) = some q ∧ lX5_beat_108 N N s2 (nI (min (t % 12) (u % 12))) (nI (max (t % 12) (u % 12))) (nI (max (t / 12) (u / 12))) 0 (nI (min (t / 12) (u / 12))) = some q' ∧ RP h g σ b F q.1 q'.1 ∧ q.2 = q'.2 := by
  have m9 : imax (nI t / 12) (nI u / 12) = nI (max (t / 12) (u / 12)) := by
    rw [show nI t / 12 = nI (t / 12) from pl_div (n := 12) (by omega) (by decide) (by decide), show nI u / 12 = nI (u / 12) from pl_div (n := 12) (by omega) (by decide) (by decide), imax_n (by omega) (by omega)]
  have m8 : imin (irm (nI t) 12) (irm (nI u) 12) = nI (min (t % 12) (u % 12)) := by
    rw [show irm (nI t) 12 = nI (t % 12) from pl_irm (n := 12) (by omega) (by decide) (by decide), show irm (nI u) 12 = nI (u % 12) from pl_irm (n := 12) (by omega) (by decide) (by decide), imin_n (by omega) (by omega)]
  have cm : max (t / 12) (u / 12) < 12 := by omega
  obtain ⟨M, eM⟩ : ∃ M, M = max (t / 12) (u / 12) := ⟨_, rfl⟩
  obtain ⟨m0, em⟩ : ∃ m0, m0 = min (t / 12) (u / 12) := ⟨_, rfl⟩
  have hm : m0 ≤ M := by omega
  rw [← eM] at m9 cm
  rw [← eM, ← em]
  exact lp_two (fun m (x : HS × Int32) i => lX1_beat_43 N m x.1 b (nI t) (nI u) x.2 i) (fun m (x : MS × Int32) i => lX5_beat_108 N m x.1 (nI (min (t % 12) (u % 12))) (nI (max (t % 12) (u % 12))) (nI M) x.2 i) (M + 1) (fun i x z => RP h g σ b F x.1 z.1 ∧ x.2 = z.2) (fun x z => RP h g σ b F x.1 z.1 ∧ x.2 = z.2) (fun m i x z hi hxz => by
    obtain ⟨s, v⟩ := x
    obtain ⟨s', v'⟩ := z
    obtain ⟨hxz, rfl⟩ : RP h g σ b F s s' ∧ v = v' := hxz
    obtain ⟨⟨q, w⟩, ⟨q', w'⟩, b1, b2, b3, b4⟩ := beat_row (N := N) (r := i) (c0 := min (t % 12) (u % 12)) (y := v) (y6 := nI M) hN hX hR ht hu (by omega) (by omega) hxz
    obtain rfl : w = w' := b4
    have n2 : nI i + 1 = nI (i + 1) := nI_add _ 1
    have l1 : ¬ nI M < nI i := nI_nlt (by omega) (by omega)
    right
    refine ⟨(q, w), (q', w), ⟨b3, rfl⟩, ?_, ?_⟩
    · show lX1_beat_43 N (m + 1) s b (nI t) (nI u) v (nI i) = lX1_beat_43 N m q b (nI t) (nI u) w (nI (i + 1))
      rw [lX1_beat_43, m9, if_neg l1, m8]
      simp only [b1, Option.bind_some, lt_, n2]
    · show lX5_beat_108 N (m + 1) s' (nI (min (t % 12) (u % 12))) (nI (max (t % 12) (u % 12))) (nI M) v (nI i) = lX5_beat_108 N m q' (nI (min (t % 12) (u % 12))) (nI (max (t % 12) (u % 12))) (nI M) w (nI (i + 1))
      rw [lX5_beat_108, if_neg l1]
      simp only [b2, Option.bind_some, n2]) (fun m x z hxz => by
    have l1 : nI M < nI (M + 1) := nI_lt (by omega) (by omega)
    refine ⟨x, z, ?_, ?_, hxz⟩
    · show lX1_beat_43 N (m + 1) x.1 b (nI t) (nI u) x.2 (nI (M + 1)) = some x
      rw [lX1_beat_43, m9, if_pos l1]
    · show lX5_beat_108 N (m + 1) z.1 (nI (min (t % 12) (u % 12))) (nI (max (t % 12) (u % 12))) (nI M) z.2 (nI (M + 1)) = some z
      rw [lX5_beat_108, if_pos l1]) (M + 1 - m0) m0 (s1, 0) (s2, 0) N (by omega) (by omega) ⟨hP, rfl⟩
theorem op_beat (hN : 200000 ≤ N) : LO_beat N b (LR b) := by
  intro n h σ x y hL
  obtain ⟨F, a, hf⟩ := hL.less.f
  have W := hf.nw
  have k0 := W.mh.1.1.1
  have k1 := W.mh.1.1.2.1
  have W0 := W.th 0
  have G := fun {α : Type} (x : Option α) => (fx_g W.1 (kI h) : gT (iS h (kI h)) b 1 1 x = x)
  have R3 := W.r3
  have T := fun x => ho_tuft (N := N) W.ho x
  have Gh := fun {α : Type} (x : Option α) => (ho_g W.ho : gT (iS h (kI h)) a 2 2 x = x)
  simp only [iS_k] at G R3 T Gh
  unfold fX1_beat fX5_beat
  simp only [lt_, R3, T, Gh, Option.bind_some, W0.mt]
  rcases tfN_cs F k0 k1 x with h1 | ⟨h1, t, ht, -, rfl⟩
  · simp only [h1, eq_self, if_true]; exact ⟨-1, h, sI σ 0 0, rfl, rfl, hL.less.thrown 0⟩
  simp only [h1, one0, if_false]
  rcases tfN_cs F k0 k1 y with h2 | ⟨h2, u, hu, -, rfl⟩
  · simp only [h2, eq_self, if_true]; exact ⟨-1, h, sI σ 0 0, rfl, rfl, hL.less.thrown 0⟩
  simp only [h2, one0, if_false, G]
  obtain ⟨h', σ', e1, e2, hf', -, -⟩ := snap hN (hf.th 0)
  have W' := hf'.nw
  rw [e1, e2]
  have hP0 : RP h' (kI h') σ' b F h' σ' := ⟨kI h', gA σ' 6, rfl, (aS_id σ' 6).symm, W'.rr, fun _ _ => rfl, fun _ _ => rfl⟩
  obtain ⟨⟨q, v⟩, ⟨q', v'⟩, b1, b2, b3, b4⟩ := beat_all (N := N) hN W'.1 W'.ru ht hu hP0
  obtain rfl : v = v' := b4
  have d1 : nI t / 12 = nI (t / 12) := pl_div (n := 12) (by omega) (by decide) (by decide)
  have d2 : nI u / 12 = nI (u / 12) := pl_div (n := 12) (by omega) (by decide) (by decide)
  have r1 : irm (nI t) 12 = nI (t % 12) := pl_irm (n := 12) (by omega) (by decide) (by decide)
  have r2 : irm (nI u) 12 = nI (u % 12) := pl_irm (n := 12) (by omega) (by decide) (by decide)
  have m0 : imin (nI (t / 12)) (nI (u / 12)) = nI (min (t / 12) (u / 12)) := imin_n (by omega) (by omega)
  refine ⟨v, q, q', ?_, ?_, (hf'.rug b3.w).lr⟩
  · simp only [Option.bind_some, d1, d2, m0, b1]
  · simp only [Option.bind_some, d1, d2, r1, r2, nI_add]
    have s1 : nI (t % 12 + u % 12) - nI (u % 12) = nI (t % 12) := by rw [pk_sub (by omega), Nat.add_sub_cancel]
    have s2 : nI (t % 12 + u % 12) - nI (t % 12) = nI (u % 12) := by rw [pk_sub (by omega), Nat.add_sub_cancel_left]
    have s3 : nI (t / 12 + u / 12) - nI (u / 12) = nI (t / 12) := by rw [pk_sub (by omega), Nat.add_sub_cancel]
    have s4 : nI (t / 12 + u / 12) - nI (t / 12) = nI (u / 12) := by rw [pk_sub (by omega), Nat.add_sub_cancel_left]
    rw [s1, s2, s3, s4]
    by_cases c1 : u % 12 ≤ t % 12
    · rw [if_pos (nI_le c1 (by omega))]
      rw [show min (t % 12) (u % 12) = u % 12 by omega, show max (t % 12) (u % 12) = t % 12 by omega] at b2
      by_cases c2 : u / 12 ≤ t / 12
      · rw [if_pos (nI_le c2 (by omega))]
        rw [show min (t / 12) (u / 12) = u / 12 by omega, show max (t / 12) (u / 12) = t / 12 by omega] at b2
        rw [b2]; rfl
      · rw [if_neg (nI_ge (by omega) (by omega))]
        rw [show min (t / 12) (u / 12) = t / 12 by omega, show max (t / 12) (u / 12) = u / 12 by omega] at b2
        rw [b2]; rfl
    · rw [if_neg (nI_ge (by omega) (by omega))]
      rw [show min (t % 12) (u % 12) = t % 12 by omega, show max (t % 12) (u % 12) = u % 12 by omega] at b2
      by_cases c2 : u / 12 ≤ t / 12
      · rw [if_pos (nI_le c2 (by omega))]
        rw [show min (t / 12) (u / 12) = u / 12 by omega, show max (t / 12) (u / 12) = t / 12 by omega] at b2
        rw [b2]; rfl
      · rw [if_neg (nI_ge (by omega) (by omega))]
        rw [show min (t / 12) (u / 12) = t / 12 by omega, show max (t / 12) (u / 12) = u / 12 by omega] at b2
        rw [b2]; rfl
end PBT
