/-! the least sign: the operations -/
section PSJ
variable {h : HS} {g0 g : Nat → Nat → Int32} {σ : MS} {N b a n : Nat} {F : Nat → Nat} {nm : Nat → Int64}
theorem co_fill2 (hN : 200000 ≤ N) {a n : Nat} (h1 : kT h a = 33) (h2 : kN h a = n) (h3 : n < 1000) (h4 : kG h 0 ≤ a) : fJ3_fill_2 N (iS h g) a 0 = some (iS h (flG g a n 0)) := by
  unfold fJ3_fill_2
  rw [aL_n (h := iS h g) (Nat.le_of_eq h1.symm) (Nat.le_of_eq h1), kN_iS, h2]
  simp only [Option.bind_some]
  have e := lp_fold (fun m (s : HS) i => lJ3_fill_2_5 N m s a 0 i (nI n)) (fun i => iS h (flG g a i 0)) n (iS h (flG g a n 0)) (fun m i hi => by
    rw [lJ3_fill_2_5]
    simp (disch := omega) only [pl_let, pl_lef, pl_ltt, pl_ltf, pl_eqf, pl_let1, pl_lef1, pl_ltt1, pl_ltf1, pl_eqf1, pl_let2, pl_lef2, pl_ltt2, pl_ltf2, pl_em1, if_true, if_false, ite_self]
    rw [wI_n (h := iS h (flG g a i 0)) h1 (by rw [kN_iS, h2]; exact hi) (by rw [kN_iS, h2]; omega) h4, tI_iS, nI_1, show vp_nar .boolean 0 = 0 from rfl]
    simp only [Option.bind_some]
    congr 2
    funext x j
    unfold flG
    by_cases c1 : x = a
    · subst c1
      by_cases c2 : j = i
      · subst c2; rw [u2_eq, if_pos ⟨rfl, by omega⟩]
      · rw [u2_ne (Or.inr c2)]
        by_cases c3 : j < i
        · rw [if_pos ⟨rfl, c3⟩, if_pos ⟨rfl, by omega⟩]
        · rw [if_neg (fun q => c3 q.2), if_neg (by omega)]
    · rw [u2_nf c1, if_neg (fun q => c1 q.1), if_neg (fun q => c1 q.1)]) (fun m => by
    rw [lJ3_fill_2_5]
    simp (disch := omega) only [pl_let, pl_lef, pl_ltt, pl_ltf, pl_eqf, pl_let1, pl_lef1, pl_ltt1, pl_ltf1, pl_eqf1, pl_let2, pl_lef2, pl_ltt2, pl_ltf2, pl_em1, if_true, if_false, ite_self]) n 0 N (by omega) (by omega)
  have e0 : flG g a 0 0 = g := by
    funext x j; unfold flG; rw [if_neg (by omega)]
  simp only [e0] at e
  rw [show lJ3_fill_2_5 N N (iS h g) a 0 0 (nI n) = some _ from e]; rfl
theorem flG_o {a n x : Nat} {v : Int32} (hx : x ≠ a) : flG g a n v x = g x := by
  funext j; unfold flG; rw [if_neg (fun q => hx q.1)]
theorem flG_i {a n j : Nat} {v : Int32} (hj : j < n) : flG g a n v a j = v := by
  unfold flG; rw [if_pos ⟨rfl, hj⟩]
theorem cn_0 : ∀ n, cn (fun _ => false) n = 0
  | 0 => rfl
  | n + 1 => by unfold cn; rw [cn_0 n]; rfl
/-- the component's crossing, from its first cost on -/
theorem co_cross (hN : 200000 ≤ N) (W : NW h g b σ F a) {p fr to : Nat} (hp : p < F 2) (hf : fr < 144) (ht : to < 144) : ∃ g' C dn B, ((fR (iS h g) b 1 1 19).bind fun a17 => ((fJ3_fill N (iS h g) a17 100000000).bind fun r18 => ((fR r18 b 1 1 20).bind fun a19 => ((fJ3_fill_2 N r18 a19 0).bind fun r20 => ((fR r20 b 1 1 19).bind fun a21 => gT r20 b 1 1 (((fX1_signOf N r20 b (nI p) (nI fr)).bind fun r22 => ((wI r20 a21 31 (nI fr) (1000 * r22)).bind fun σ23 => gT σ23 b 1 1 (((fX1_nearest N σ23 b).bind fun r24 => ((lX1_crosses_96 N N σ23 b (nI p) (nI to) r24).bind fun q43 => ((fR q43 b 1 1 19).bind fun a44 => ((aI q43 a44 31 (nI to)).bind fun v45 => (if 100000000 ≤ v45 then (some ((-1), q43)) else ((fR q43 b 1 1 19).bind fun a47 => ((aI q43 a47 31 (nI to)).bind fun v48 => some (v48, q43))))))))))))))))) = some (if C to < 100000000 then nI (C to) else -1, iS h g') ∧ CI b g C dn g' ∧ DC F (stN (gA σ 6) F p) fr (1000 * sgN (gA σ 6) F p fr) C dn B ∧ DA F (stN (gA σ 6) F p) C dn ∧ B + 9001 < 100000000 ∧ ((∀ t, t < 144 → dn t = false → 100000000 ≤ C t) ∨ (C to < 100000000 ∧ ∀ t, t < 144 → dn t = false → C to ≤ C t)) := by
  have hF := W.1
  obtain ⟨g1, e1⟩ : ∃ g1, g1 = flG g (b + 2046) 144 (nI 100000000) := ⟨_, rfl⟩
  obtain ⟨g2, e2⟩ : ∃ g2, g2 = flG g1 (b + 2047) 144 0 := ⟨_, rfl⟩
  obtain ⟨g3, e3⟩ : ∃ g3, g3 = u2 g2 (b + 2046) fr (nI (1000 * sgN (gA σ 6) F p fr)) := ⟨_, rfl⟩
  have x2 : ∀ q, q ≠ b + 2046 → q ≠ b + 2047 → g2 q = g q := fun q q1 q2 => by rw [e2, flG_o q2, e1, flG_o q1]
  have W2 : NW h g2 b σ F a := W.of (fun q _ hq => x2 q (by omega) (by omega)) rfl rfl
  have sl := sgN_le (f := gA σ 6) (t := fr) W.mh.1 hp
  obtain ⟨t19, l19⟩ := hF.2.2.2.2.1 2046 31 144 rfl
  obtain ⟨t20, l20⟩ := hF.2.2.2.2.1 2047 33 144 rfl
  have f1 : fJ3_fill N (iS h g) (b + 2046) 100000000 = some (iS h g1) := by rw [e1]; exact co_fill hN t19 l19 (by decide) (Nat.le_trans hF.2.1 (Nat.le_add_right _ _))
  have f2 : fJ3_fill_2 N (iS h g1) (b + 2047) 0 = some (iS h g2) := by rw [e2]; exact co_fill2 hN t20 l20 (by decide) (Nat.le_trans hF.2.1 (Nat.le_add_right _ _))
  have f3 : wI (iS h g2) (b + 2046) 31 (nI fr) (1000 * nI (sgN (gA σ 6) F p fr)) = some (iS h g3) := by rw [e3, show (1000 : Int32) * nI (sgN (gA σ 6) F p fr) = nI (1000 * sgN (gA σ 6) F p fr) from pl_lm 1000 _]; exact fx_W19 hF g2 hf
  have I3 : CI b g (sv (fun _ => 100000000) fr (1000 * sgN (gA σ 6) F p fr)) (fun _ => false) g3 := by
    refine ⟨fun q q1 q2 => by rw [e3, u2_nf q1]; exact x2 q q1 q2, fun t ht => ?_, fun t ht => by rw [e3, u2_nf (by omega), e2, flG_i ht]; rfl⟩
    by_cases z : t = fr
    · rw [z, e3, u2_eq, sv_eq]; exact ⟨rfl, by omega⟩
    · rw [e3, u2_ne (Or.inr z), sv_ne z, e2, flG_o (by omega), e1, flG_i ht]; exact ⟨rfl, Nat.le_refl _⟩
  have D3 : DC F (stN (gA σ 6) F p) fr (1000 * sgN (gA σ 6) F p fr) (sv (fun _ => 100000000) fr (1000 * sgN (gA σ 6) F p fr)) (fun _ => false) (9000 + 9001 * cn (fun _ => false) 144) := by
    refine ⟨fun t ht => ?_, by rw [sv_eq]; exact Nat.le_refl _, fun v _ q => (by cases q), fun v u _ _ q => (by cases q)⟩
    by_cases z : t = fr
    · rw [z, sv_eq]; exact Or.inr ⟨Wk.st, by omega⟩
    · rw [sv_ne z]; exact Or.inl rfl
  obtain ⟨y, n1, n2⟩ := co_near (N := N) hN hF I3
  obtain ⟨g', C, dn, B, r1, r2⟩ := co_96 (to := to) hN W hp ht I3 D3 (fun v d _ _ q => by cases q) n2
  refine ⟨g', C, dn, B, ?_, r2⟩
  have vC : aI (iS h g') (b + 2046) 31 (nI to) = some (nI (C to)) := (fx_I19 hF g' ht).trans (by rw [(r2.1.2.1 to ht).1])
  have bC := (r2.1.2.1 to ht).2
  simp only [fx_R19 hF, fx_R20 hF, Option.bind_some, f1, f2, fx_g hF, co_sign W2 hp hf, f3, n1, r1, vC]
  by_cases q : C to < 100000000
  · rw [if_pos q]; simp (disch := omega) only [pl_lef1, if_false]
  · rw [if_neg q]; simp (disch := omega) only [pl_let1, if_true]
theorem mo_cross (hN : 1000000000000 ≤ N) (hM : MH (gA σ 6) F) {p fr to : Nat} (hp : p < F 2) (hf : fr < 144) (ht : to < 144) : ∃ f C, ((lX5_crosses_55 N N σ (nI p) (nI fr) (nI to) 0).bind fun q13 => ((fX5_signOf N q13 (nI p) (nI fr)).bind fun r14 => ((wA q13 30 (nI fr) (1000 * r14)).bind fun σ15 => ((lX5_crosses_98 N N σ15 (nI p) (nI to) 1).bind fun q33 => ((rA q33 30 (nI to)).bind fun v34 => (if 1000000000 ≤ v34 then (some ((-1), q33)) else ((rA q33 30 (nI to)).bind fun v36 => some (v36, q33)))))))) = some (if C to < 1000000000 then nI (C to) else -1, aS σ 30 f) ∧ repC f C ∧ MC F (stN (gA σ 6) F p) fr (1000 * sgN (gA σ 6) F p fr) C ∧ ∀ t d, t < 144 → d < 4 → MF F (stN (gA σ 6) F p) C t d := by
  obtain ⟨f1, s1, s2⟩ := mo_55 (N := N) (σ := σ) (y1 := nI p) (y2 := nI fr) (y3 := nI to) (by omega)
  have hMa : MH (gA (aS σ 30 f1) 6) F := by rw [gA_o (by decide)]; exact hM
  have sg : fX5_signOf N (aS σ 30 f1) (nI p) (nI fr) = some (nI (sgN (gA σ 6) F p fr)) := (mo_sign hMa hp hf).trans (by rw [gA_o (by decide)])
  have sl := sgN_le (f := gA σ 6) (t := fr) hM.1 hp
  have wr : wA (aS σ 30 f1) 30 (nI fr) (1000 * nI (sgN (gA σ 6) F p fr)) = some (aS σ 30 (upd f1 fr (nI (1000 * sgN (gA σ 6) F p fr)))) := by
    rw [show (1000 : Int32) * nI (sgN (gA σ 6) F p fr) = nI (1000 * sgN (gA σ 6) F p fr) from pl_lm 1000 _]
    exact (wA30 hf).trans (by rw [sA_6])
  have m1 : MC F (stN (gA σ 6) F p) fr (1000 * sgN (gA σ 6) F p fr) (sv (fun _ => 1000000000) fr (1000 * sgN (gA σ 6) F p fr)) := by
    refine ⟨fun t ht => ?_, by rw [sv_eq]; exact Nat.le_refl _⟩
    by_cases z : t = fr
    · rw [z, sv_eq]; exact ⟨by omega, Or.inr Wk.st⟩
    · rw [sv_ne z]; exact ⟨Nat.le_refl _, Or.inl rfl⟩
  obtain ⟨f', C', r1, r2⟩ := mo_98 (y3 := nI to) hN hM hp s2.sv m1
  refine ⟨f', C', ?_, r2⟩
  have bM := (r2.2.1.1 to ht).1
  rw [s1, Option.bind_some, sg, Option.bind_some, wr, Option.bind_some, r1]
  simp only [Option.bind_some, r30 r2.1 ht]
  by_cases q : C' to < 1000000000
  · rw [if_pos q]; simp (disch := omega) only [pl_lef1, if_false]
  · rw [if_neg q]; simp (disch := omega) only [pl_let1, if_true]
theorem cr_both (hN : 1000000000000 ≤ N) (hL : LRF b n h σ F a) (x1 x2 x3 : Int32) : ∃ v h' σ', fX1_crosses N h b x1 x2 x3 = some (v, h') ∧ fX5_crosses N σ x1 x2 x3 = some (v, σ') ∧ LRF b n h' σ' F a ∧ (v = -1 ∨ ∃ k, k < 100000000 ∧ v = nI k) := by
  have W := hL.nw
  have hF := W.1
  have hM := W.mh
  have k0 := hM.1.1.1
  have k1 := hM.1.1.2.1
  have hN' : 200000 ≤ N := by omega
  have cT := fun x => ho_tuft (N := N) W.ho x
  show ∃ v h' σ', fX1_crosses N (iS h (kI h)) b x1 x2 x3 = some (v, h') ∧ _
  unfold fX1_crosses fX5_crosses
  rw [fx_g hF, W.cP, W.mP]
  simp only [Option.bind_some]
  rcases isIn_cs x1 (n := F 2) (by have := hM.1.1.2.2.1; omega) with ⟨q, -⟩ | ⟨q, p, hp, rfl⟩
  · rw [q, if_pos rfl, if_pos rfl]; exact ⟨-1, h, σ, rfl, rfl, hL, Or.inl rfl⟩
  rw [q, if_neg (show ¬ (1 : Int32) = 0 by decide), if_neg (show ¬ (1 : Int32) = 0 by decide), W.r3, W.mt]
  simp only [Option.bind_some, ho_g W.ho, cT]
  rcases tfN_cs F k0 k1 x2 with q2 | ⟨q2, fr, hf, -, rfl⟩
  · rw [q2, if_pos rfl, if_pos rfl]; exact ⟨-1, h, σ, rfl, rfl, hL, Or.inl rfl⟩
  rw [q2, if_neg (show ¬ (1 : Int32) = 0 by decide), if_neg (show ¬ (1 : Int32) = 0 by decide), W.mt]
  simp only [Option.bind_some]
  rcases tfN_cs F k0 k1 x3 with q3 | ⟨q3, to, ht, -, rfl⟩
  · rw [q3, if_pos rfl, if_pos rfl]; exact ⟨-1, h, σ, rfl, rfl, hL, Or.inl rfl⟩
  have w1 : rA σ 6 (25 + nI fr) = some (nI (F (25 + fr))) := by rw [pl_la]; exact mo_i hM (by show 25 + fr < 429; omega)
  have w2 : rA σ 6 (25 + nI to) = some (nI (F (25 + to))) := by rw [pl_la]; exact mo_i hM (by show 25 + to < 429; omega)
  rw [q3, if_neg (show ¬ (1 : Int32) = 0 by decide), if_neg (show ¬ (1 : Int32) = 0 by decide), w1, ho_R W.ho (k := 8) (by decide) (by decide)]
  simp only [Option.bind_some, ho_wall W.ho hf, ho_wall W.ho ht, w2]
  have wl1 := hM.1.2.2.2.1 fr hf
  have wl2 := hM.1.2.2.2.1 to ht
  have c1 : F (25 + fr) = 0 ∨ F (25 + fr) = 1 := by omega
  have c2 : F (25 + to) = 0 ∨ F (25 + to) = 1 := by omega
  rcases c1 with c1 | c1
  case inr => rw [c1, if_neg (show ¬ nI 1 = 0 by decide), if_pos (show nI 1 = 1 from rfl)]; exact ⟨-1, h, σ, rfl, rfl, hL, Or.inl rfl⟩
  rw [c1, if_pos (show nI 0 = 0 from rfl), if_neg (show ¬ nI 0 = 1 by decide)]
  rcases c2 with c2 | c2
  case inr => rw [c2, if_neg (show ¬ nI 1 = 0 by decide), if_pos (show nI 1 = 1 from rfl)]; exact ⟨-1, h, σ, rfl, rfl, hL, Or.inl rfl⟩
  rw [c2, if_pos (show nI 0 = 0 from rfl), if_neg (show ¬ nI 0 = 1 by decide)]
  obtain ⟨g', C, dn, B, e1, e2, e3, e4, e5, e6⟩ := co_cross (N := N) (to := to) hN' W hp hf ht
  obtain ⟨f, Cm, s1, s2, s3, s4⟩ := mo_cross (N := N) (to := to) hN hM hp hf ht
  have sl := sgN_le (f := gA σ 6) (t := fr) hM.1 hp
  have fin := cr_eq k0 k1 hf ht (fun t _ => stN_le hM.1 hp) (by omega) s3 s4 e3 e4 e5 e6
  have LE : LRF b n (iS h g') (aS σ 30 f) F a := by
    obtain ⟨-, -, hLt, -, -, hR, -⟩ := id hL
    have hg : ∀ q, q ≠ b + 2046 → q ≠ b + 2047 → g' q = kI h q := e2.1
    have ga : ∀ j, j ≠ 30 → gA (aS σ 30 f) j = gA σ j := fun j hj => gA_o hj
    have eb := hg b (by omega) (by omega)
    exact hL.chg (fun q q1 q2 => hg q (by omega) (by omega)) (by rw [eb]) (hLt.of (by rw [eb]) (by rw [eb]) (hg _ (by omega) (by omega)) rfl rfl (ga _ (by decide))) (hR.of (by rw [eb]) (by rw [eb]) (by rw [eb]) ⟨hg _ (by omega) (by omega), hg _ (by omega) (by omega), hg _ (by omega) (by omega), hg _ (by omega) (by omega)⟩ ⟨rfl, rfl, rfl, rfl⟩ ⟨ga _ (by decide), ga _ (by decide), ga _ (by decide), ga _ (by decide)⟩) (ga _ (by decide)) rfl rfl rfl (ga _ (by decide)) (ga _ (by decide)) (ga _ (by decide)) rfl
  have bC := (e2.2.1 to ht).2
  have bM := (s3.1 to ht).1
  refine ⟨if C to < 100000000 then nI (C to) else -1, iS h g', aS σ 30 f, e1, s1.trans ?_, LE, ?_⟩
  · rcases fin with ⟨q, q'⟩ | ⟨q, q'⟩
    · rw [if_pos q, q', if_pos (by omega)]
    · rw [if_neg (by omega), if_neg (by omega)]
  · by_cases q : C to < 100000000
    · rw [if_pos q]; exact Or.inr ⟨C to, q, rfl⟩
    · rw [if_neg q]; exact Or.inl rfl
theorem op_sign (hN : 1000000000000 ≤ N) : LO_sign N b (LR b) := by
  intro n h σ x1 x2 x3 hL
  obtain ⟨F, a, hL⟩ := hL.f
  have hL := hL.less.th 0
  obtain ⟨v, h', σ', e1, e2, e3, e4⟩ := cr_both hN hL x1 x2 x3
  have hF := hL.nw.1
  unfold fX5_sign_2
  refine ⟨if v = -1 then -1 else v / 1000, h', σ', ?_, ?_, e3.lr⟩
  · show fX1_sign N (iS h (kI h)) b x1 x2 x3 = _
    unfold fX1_sign
    rw [fx_g hF, show fX1_crosses N (iS h (kI h)) b x1 x2 x3 = _ from e1]
    by_cases q : v = -1
    · simp only [Option.bind_some, if_pos q]
    · simp only [Option.bind_some, if_neg q]
  · simp only [lt_, e2, Option.bind_some]
    rcases e4 with q | ⟨k, hk, q⟩
    · rw [q, if_neg (by decide), if_pos rfl]
    · rw [q, if_pos (show (0 : Int32) ≤ nI k from nI_le (a := 0) (by omega) (by omega)), if_neg (fun q => (pl_em1 (a := k) (by omega)).mp q)]
theorem op_steps (hN : 1000000000000 ≤ N) : LO_steps N b (LR b) := by
  intro n h σ x1 x2 x3 hL
  obtain ⟨F, a, hL⟩ := hL.f
  have hL := hL.less.th 0
  obtain ⟨v, h', σ', e1, e2, e3, e4⟩ := cr_both hN hL x1 x2 x3
  have hF := hL.nw.1
  unfold fX5_steps
  refine ⟨if v = -1 then -1 else irm v 1000, h', σ', ?_, ?_, e3.lr⟩
  · show fX1_steps N (iS h (kI h)) b x1 x2 x3 = _
    unfold fX1_steps
    rw [fx_g hF, show fX1_crosses N (iS h (kI h)) b x1 x2 x3 = _ from e1]
    by_cases q : v = -1
    · simp only [Option.bind_some, if_pos q]
    · simp only [Option.bind_some, if_neg q]
  · simp only [lt_, e2, Option.bind_some]
    rcases e4 with q | ⟨k, hk, q⟩
    · rw [q, if_neg (by decide), if_pos rfl]
    · rw [q, if_pos (show (0 : Int32) ≤ nI k from nI_le (a := 0) (by omega) (by omega)), if_neg (fun q => (pl_em1 (a := k) (by omega)).mp q)]
end PSJ
