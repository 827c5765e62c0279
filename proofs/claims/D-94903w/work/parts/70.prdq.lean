/-! readings: the component's tables, and the whole -/
section PRQ
variable {h : HS} {g : Nat → Nat → Int32} {σ : MS} {N b a n K : Nat} {F : Nat → Nat} {nm : Nat → Int64}
/-- only what is looked for changes -/
theorem LRF.chg (hL : LRF b n h σ F a) {g' : Nat → Nat → Int32} {σ' : MS} (hg : ∀ q, q ≠ b → (q < b + 2033 ∨ b + 2199 ≤ q) → g' q = kI h q) (h7 : g' b 7 = kI h b 7) (hT : LRt b g' σ') (hR : LRr b g' σ') (e6 : gA σ' 6 = gA σ 6) (e9 : gJ σ' 9 = gJ σ 9) (e10 : gJ σ' 10 = gJ σ 10) (e53 : gJ σ' 53 = gJ σ 53) (e22 : gA σ' 22 = gA σ 22) (e52 : gA σ' 52 = gA σ 52) (e54 : gA σ' 54 = gA σ 54) (e23 : gI σ' 23 = gI σ 23) : LRF b n (iS h g') σ' F a := by
  obtain ⟨⟨hF, hO, hz⟩, hC, -, ⟨hH, hU⟩, hK, -, hM⟩ := hL
  have K : kept b h (iS h g') (kI h) g' := ⟨Nat.le_refl _, fun q hq => ⟨rfl, rfl, rfl, hg q (by obtain ⟨_, h9⟩ := hq; omega) (by obtain ⟨_, h9⟩ := hq; omega)⟩⟩
  refine ⟨⟨hF, hO, hz⟩, hC.keep K rfl, hT, ⟨?_, hU.of h7 rfl (fun q q1 q2 => ⟨hg q (by omega) (by omega), rfl⟩) e23 e22⟩, hK.of K (fun q q1 q2 => ⟨hg q (by omega) (by omega), rfl⟩) e54 e52 e53, hR, fun k hk => by rw [e10]; exact hM k hk⟩
  show HRS (iS h g') g' b (b + 8) (kR h b 3) (kR h b 5) (gJ σ' 9) (gA σ' 6) F a
  rw [e9, e6]
  exact hH.keep K rfl (fun q q1 q2 => hg q (by omega) (by omega)) (fun _ _ => rfl)
theorem ho_ct (hH : HouR h g b a F nm) (hN : 200000 ≤ N) {w t : Nat} (hw : w < F 3) (ht : t < 2147483648) : fX11_times N (iS h g) (le h (rf h a 6) w) (nI t) = some (nI (cnt F w t (F (177 + w)))) := by
  obtain ⟨kw1, kw2, kw3⟩ := hH.1.2.2.2.2.2 w hw
  unfold fX11_times
  have e := lp_fold (fun m s i => lX11_times_4 N (iS h g) m (le h (rf h a 6) w) (nI t) s i) (fun i => nI (cnt F w t i)) (F (177 + w)) (nI (cnt F w t (F (177 + w)))) (fun m i hi => by
    rw [lX11_times_4]
    simp (disch := omega) only [ho_w3 hH hw, ho_w1 hH hw, Option.bind_some, ho_wt hH hw hi, pl_let, pl_lef, pl_ltt, pl_ltf, pl_eqf, pl_let1, pl_lef1, pl_ltt1, pl_ltf1, pl_eqf1, pl_let2, pl_lef2, pl_ltt2, pl_ltf2, pl_em1, if_true, if_false, ite_self, pl_la, pl_al, pl_lm, pl_ml, nI_add, pk_mul, pl_sl, pl_m1]
    by_cases c : F (183 + 41 * w + i) = t
    · rw [if_pos (congrArg nI c), cnt_y c]
    · rw [if_neg (fun q => c ((nI_eq (by have := tuf_lt hH.1.1.1 hH.1.1.2.1 (kw3 i hi); omega) ht).mp q)), cnt_n c]) (fun m => by
    rw [lX11_times_4]
    simp (disch := omega) only [ho_w3 hH hw, Option.bind_some, pl_let, pl_lef, pl_ltt, pl_ltf, pl_eqf, pl_let1, pl_lef1, pl_ltt1, pl_ltf1, pl_eqf1, pl_let2, pl_lef2, pl_ltt2, pl_ltf2, pl_em1, if_true, if_false, ite_self]) (F (177 + w)) 0 N (by omega) (by omega)
  rw [show lX11_times_4 N (iS h g) N (le h (rf h a 6) w) (nI t) 0 0 = some _ from e]; rfl
theorem tk_96 (hN : 200000 ≤ N) (hF : FX h b) (hT : ∀ i, i < 940 → g (b + 1) i = gA σ 1 i) (hK : g b 15 = nI K) (K8 : K ≤ 8) : ∃ g2, lX1_takeTold_96 N N (iS h g) b 0 = some (iS h g2) ∧ (∀ q, q ≠ b + 2033 → q ≠ b + 2034 → q ≠ b + 2035 → g2 q = g q) ∧ ∀ k, k < K → g2 (b + 2033) k = nI (12 * ocN σ (4 * k + 1) + ocN σ (4 * k)) ∧ g2 (b + 2034) k = nI (ocN σ (4 * k + 2)) ∧ g2 (b + 2035) k = nI (ocN σ (4 * k + 3)) := by
  have key : okk (lX1_takeTold_96 N N (iS h g) b (nI 0)) (fun s => ∃ g2, s = iS h g2 ∧ (∀ q, q ≠ b + 2033 → q ≠ b + 2034 → q ≠ b + 2035 → g2 q = g q) ∧ ∀ k, k < K → g2 (b + 2033) k = nI (12 * ocN σ (4 * k + 1) + ocN σ (4 * k)) ∧ g2 (b + 2034) k = nI (ocN σ (4 * k + 2)) ∧ g2 (b + 2035) k = nI (ocN σ (4 * k + 3))) := by
    refine okf (fun m (s : HS) i => lX1_takeTold_96 N m s b i) K (fun i s => ∃ g2, s = iS h g2 ∧ (∀ q, q ≠ b + 2033 → q ≠ b + 2034 → q ≠ b + 2035 → g2 q = g q) ∧ ∀ k, k < i → g2 (b + 2033) k = nI (12 * ocN σ (4 * k + 1) + ocN σ (4 * k)) ∧ g2 (b + 2034) k = nI (ocN σ (4 * k + 2)) ∧ g2 (b + 2035) k = nI (ocN σ (4 * k + 3))) _ ?_ ?_ 0 (iS h g) N (by omega) (by omega) ⟨g, rfl, fun _ _ _ _ => rfl, fun k hk => by omega⟩
    · rintro i s m hi ⟨g2, rfl, q1, q2⟩
      right
      have i8 : i < 8 := by omega
      have tp : ∀ gx : Nat → Nat → Int32, gx (b + 1) = g (b + 1) → ∀ j, j < 940 → fX1_onTape N (iS h gx) b (nI j) = some (nI (ocN σ j)) := fun gx ex j hj => by rw [co_tape hF gx hj, ex, hT j hj]; exact congrArg some (oc_n j).1
      have n0 : (4 : Int32) * nI i = nI (4 * i) := pl_lm 4 i
      have n1 : nI (4 * i) + 1 = nI (4 * i + 1) := nI_add _ 1
      have n2 : nI (4 * i) + 2 = nI (4 * i + 2) := nI_add _ 2
      have n3 : nI (4 * i) + 3 = nI (4 * i + 3) := nI_add _ 3
      obtain ⟨ga, ea⟩ : ∃ ga, ga = u2 g2 (b + 2033) i (nI (12 * ocN σ (4 * i + 1) + ocN σ (4 * i))) := ⟨_, rfl⟩
      obtain ⟨gb, eb⟩ : ∃ gb, gb = u2 ga (b + 2034) i (nI (ocN σ (4 * i + 2))) := ⟨_, rfl⟩
      obtain ⟨gc, ec⟩ : ∃ gc, gc = u2 gb (b + 2035) i (nI (ocN σ (4 * i + 3))) := ⟨_, rfl⟩
      have x2 : g2 (b + 1) = g (b + 1) := q1 _ (by omega) (by omega) (by omega)
      have xa : ga (b + 1) = g (b + 1) := by rw [ea, u2_nf (by omega)]; exact x2
      have xb : gb (b + 1) = g (b + 1) := by rw [eb, u2_nf (by omega)]; exact xa
      have o1 := tp g2 x2 (4 * i + 1) (by omega)
      have o0 := tp g2 x2 (4 * i) (by omega)
      have o2 := tp ga xa (4 * i + 2) (by omega)
      have o3 := tp gb xb (4 * i + 3) (by omega)
      have wa : wI (iS h g2) (b + 2033) 31 (nI i) (nI (12 * ocN σ (4 * i + 1) + ocN σ (4 * i))) = some (iS h ga) := by rw [ea]; exact fx_W8 hF g2 i8
      have wb : wI (iS h ga) (b + 2034) 31 (nI i) (nI (ocN σ (4 * i + 2))) = some (iS h gb) := by rw [eb]; exact fx_W9 hF ga i8
      have wc : wI (iS h gb) (b + 2035) 31 (nI i) (nI (ocN σ (4 * i + 3))) = some (iS h gc) := by rw [ec]; exact fx_W10 hF gb i8
      have l1 : ¬ nI K ≤ nI i := nI_ge hi (by omega)
      have e15 : oI (iS h g2) b 1 1 15 = some (nI K) := (fx_b hF g2).trans (by rw [q1 b (by omega) (by omega) (by omega), hK])
      refine ⟨iS h gc, ⟨gc, rfl, fun q p1 p2 p3 => ?_, fun k hk => ?_⟩, ?_⟩
      · rw [ec, u2_nf p3, eb, u2_nf p2, ea, u2_nf p1]; exact q1 q p1 p2 p3
      · have w1 : gc (b + 2033) = ga (b + 2033) := by rw [ec, u2_nf (by omega), eb, u2_nf (by omega)]
        have w2 : gc (b + 2034) = gb (b + 2034) := by rw [ec, u2_nf (by omega)]
        have v2 : ga (b + 2034) = g2 (b + 2034) := by rw [ea, u2_nf (by omega)]
        have v3 : gb (b + 2035) = g2 (b + 2035) := by rw [eb, u2_nf (by omega), ea, u2_nf (by omega)]
        rw [w1, w2]
        by_cases e : k = i
        · rw [e]
          exact ⟨by rw [ea, u2_eq], by rw [eb, u2_eq], by rw [ec, u2_eq]⟩
        · have := q2 k (by omega)
          refine ⟨by rw [ea, u2_ne (Or.inr e)]; exact this.1, by rw [eb, u2_ne (Or.inr e), v2]; exact this.2.1, by rw [ec, u2_ne (Or.inr e), v3]; exact this.2.2⟩
      · rw [lX1_takeTold_96, e15]
        simp only [Option.bind_some, if_neg l1, fx_R8 hF g2, fx_g hF, n0, n1, n2, n3, o1, o0, show (12 : Int32) * nI (ocN σ (4 * i + 1)) = nI (12 * ocN σ (4 * i + 1)) from pl_lm 12 _, nI_add, wa, fx_R9 hF ga, o2, wb, fx_R10 hF gb, o3, wc, show nI i + 1 = nI (i + 1) from nI_add _ 1]
    · rintro s m ⟨g2, rfl, q1, q2⟩
      have e15 : oI (iS h g2) b 1 1 15 = some (nI K) := (fx_b hF g2).trans (by rw [q1 b (by omega) (by omega) (by omega), hK])
      exact ⟨_, by rw [lX1_takeTold_96, e15]; simp only [Option.bind_some]; rw [if_pos (Int32.le_refl _)], g2, rfl, q1, q2⟩
  obtain ⟨x, e1, g2, rfl, q1, q2⟩ := key
  exact ⟨g2, e1, q1, q2⟩
theorem rd_27 (hN : 200000 ≤ N) (hF : FX h b) (hH : HouR h g b a F nm) (h3 : kR h b 3 = some a) (hK : g b 15 = nI K) (K8 : K ≤ 8) {tt : Nat → Nat} (ht : ∀ k, k < K → g (b + 2033) k = nI (tt k) ∧ tt k < 144) {w : Nat} (hw : w < F 3) (rec : HS → Nat → Int32 → Option HS) : ∃ g2, lX1_readings_27 N rec N (iS h g) b (nI w) 0 = some (iS h g2) ∧ (∀ q, q ≠ b + 2040 + w → g2 q = g q) ∧ ∀ k, k < K → g2 (b + 2040 + w) k = nI (cnt F w (tt k) (F (177 + w))) := by
  have k3 : F 3 ≤ 6 := hH.1.1.2.2.2.1
  have w6 : w < 6 := by omega
  have key : okk (lX1_readings_27 N rec N (iS h g) b (nI w) (nI 0)) (fun s => ∃ g2, s = iS h g2 ∧ (∀ q, q ≠ b + 2040 + w → g2 q = g q) ∧ ∀ k, k < K → g2 (b + 2040 + w) k = nI (cnt F w (tt k) (F (177 + w)))) := by
    refine okf (fun m (s : HS) i => lX1_readings_27 N rec m s b (nI w) i) K (fun i s => ∃ g2, s = iS h g2 ∧ (∀ q, q ≠ b + 2040 + w → g2 q = g q) ∧ ∀ k, k < i → g2 (b + 2040 + w) k = nI (cnt F w (tt k) (F (177 + w)))) _ ?_ ?_ 0 (iS h g) N (by omega) (by omega) ⟨g, rfl, fun _ _ => rfl, fun k hk => by omega⟩
    · rintro i s m hi ⟨g2, rfl, q1, q2⟩
      right
      have i8 : i < 8 := by omega
      have l1 : ¬ nI K ≤ nI i := nI_ge hi (by omega)
      have e15 : oI (iS h g2) b 1 1 15 = some (nI K) := (fx_b hF g2).trans (by rw [q1 b (by omega), hK])
      have hH2 : HouR h g2 b a F nm := hH.keep ⟨Nat.le_refl _, fun q hq => ⟨rfl, rfl, rfl, q1 q (by obtain ⟨_, h9⟩ := hq; omega)⟩⟩
      have R3 : fR (iS h g2) b 1 1 3 = some a := (fx_f hF g2).trans h3
      have i8' : aI (iS h g2) (b + 2033) 31 (nI i) = some (nI (tt i)) := (fx_I8 hF g2 i8).trans (by rw [q1 _ (by omega), (ht i hi).1])
      have tm := ho_ct (N := N) hH2 hN hw (t := tt i) (by have := (ht i hi).2; omega)
      refine ⟨iS h (u2 g2 (b + 2040 + w) i (nI (cnt F w (tt i) (F (177 + w))))), ⟨_, rfl, fun q p1 => by rw [u2_nf p1]; exact q1 q p1, fun k hk => ?_⟩, ?_⟩
      · by_cases e : k = i
        · subst e; rw [u2_eq]
        · rw [u2_ne (Or.inr e)]; exact q2 k (by omega)
      · rw [lX1_readings_27, e15]
        simp only [Option.bind_some, if_neg l1, fx_R14 hF g2, fx_ov hF g2 w6, R3, ho_R hH2 (k := 6) (by decide) (by decide), ls_g (ho_w hH2), ls_get (ho_w hH2) hw, ho_wg hH2 hw, fx_R8 hF g2, i8', tm, fx_oW hF g2 w6 i8, show nI i + 1 = nI (i + 1) from nI_add _ 1]
    · rintro s m ⟨g2, rfl, q1, q2⟩
      have e15 : oI (iS h g2) b 1 1 15 = some (nI K) := (fx_b hF g2).trans (by rw [q1 b (by omega), hK])
      exact ⟨_, by rw [lX1_readings_27, e15]; simp only [Option.bind_some]; rw [if_pos (Int32.le_refl _)], g2, rfl, q1, q2⟩
  obtain ⟨x, e1, g2, rfl, q1, q2⟩ := key
  exact ⟨g2, e1, q1, q2⟩
theorem rd_11 (hN : 200000 ≤ N) (hF : FX h b) (hH : HouR h g b a F nm) (h3 : kR h b 3 = some a) (hK : g b 15 = nI K) (K8 : K ≤ 8) {tt : Nat → Nat} (ht : ∀ k, k < K → g (b + 2033) k = nI (tt k) ∧ tt k < 144) (rec : HS → Nat → Int32 → Option HS) : ∃ g2, lX1_readings_11 N rec N (iS h g) b 0 = some (iS h g2) ∧ (∀ q, (q < b + 2040 ∨ b + 2046 ≤ q) → g2 q = g q) ∧ ∀ w k, w < F 3 → k < K → g2 (b + 2040 + w) k = nI (cnt F w (tt k) (F (177 + w))) := by
  have k3 : F 3 ≤ 6 := hH.1.1.2.2.2.1
  have key : okk (lX1_readings_11 N rec N (iS h g) b (nI 0)) (fun s => ∃ g2, s = iS h g2 ∧ (∀ q, (q < b + 2040 ∨ b + 2046 ≤ q) → g2 q = g q) ∧ ∀ w k, w < F 3 → k < K → g2 (b + 2040 + w) k = nI (cnt F w (tt k) (F (177 + w)))) := by
    refine okf (fun m (s : HS) i => lX1_readings_11 N rec m s b i) (F 3) (fun i s => ∃ g2, s = iS h g2 ∧ (∀ q, (q < b + 2040 ∨ b + 2046 ≤ q) → g2 q = g q) ∧ ∀ w k, w < i → k < K → g2 (b + 2040 + w) k = nI (cnt F w (tt k) (F (177 + w)))) _ ?_ ?_ 0 (iS h g) N (by omega) (by omega) ⟨g, rfl, fun _ _ => rfl, fun w k hw => by omega⟩
    · rintro i s m hi ⟨g2, rfl, q1, q2⟩
      right
      have hH2 : HouR h g2 b a F nm := hH.keep ⟨Nat.le_refl _, fun q hq => ⟨rfl, rfl, rfl, q1 q (by obtain ⟨_, h9⟩ := hq; omega)⟩⟩
      have R3 : fR (iS h g2) b 1 1 3 = some a := (fx_f hF g2).trans h3
      have l1 : ¬ nI (F 3) ≤ nI i := nI_ge hi (by omega)
      obtain ⟨g4, e1, e2, e3⟩ := rd_27 (tt := tt) hN hF hH2 h3 (by rw [q1 b (by omega)]; exact hK) K8 (fun k hk => by rw [q1 _ (by omega)]; exact ht k hk) hi rec
      refine ⟨iS h g4, ⟨g4, rfl, fun q p1 => by rw [e2 q (by omega)]; exact q1 q p1, fun w k hw hk => ?_⟩, ?_⟩
      · by_cases e : w = i
        · subst e; exact e3 k hk
        · rw [e2 _ (by omega)]; exact q2 w k (by omega) hk
      · rw [lX1_readings_11, R3]
        simp only [Option.bind_some, ho_R hH2 (k := 6) (by decide) (by decide), ls_g (ho_w hH2), ls_size (N := N) (ho_w hH2), if_neg l1, e1, show nI i + 1 = nI (i + 1) from nI_add _ 1]
    · rintro s m ⟨g2, rfl, q1, q2⟩
      have hH2 : HouR h g2 b a F nm := hH.keep ⟨Nat.le_refl _, fun q hq => ⟨rfl, rfl, rfl, q1 q (by obtain ⟨_, h9⟩ := hq; omega)⟩⟩
      have R3 : fR (iS h g2) b 1 1 3 = some a := (fx_f hF g2).trans h3
      exact ⟨_, by rw [lX1_readings_11, R3]; simp only [Option.bind_some, ho_R hH2 (k := 6) (by decide) (by decide), ls_g (ho_w hH2), ls_size (N := N) (ho_w hH2)]; rw [if_pos (Int32.le_refl _)], g2, rfl, q1, q2⟩
  obtain ⟨x, e1, g2, rfl, q1, q2⟩ := key
  exact ⟨g2, e1, q1, q2⟩
theorem mo_231 (hN : 200000 ≤ N) (y : Int32) : ∃ f, lX5_readings_231 N N σ y 0 = some (aS σ 25 f) ∧ ∀ w, w < 6 → f w = 0 := by
  have key : okk (lX5_readings_231 N N σ y (nI 0)) (fun s => ∃ f, s = aS σ 25 f ∧ ∀ w, w < 6 → f w = 0) := by
    refine okf (fun m (s : MS) i => lX5_readings_231 N m s y i) 6 (fun i s => ∃ f, s = aS σ 25 f ∧ ∀ w, w < i → f w = 0) _ ?_ ?_ 0 σ N (by omega) (by omega) ⟨gA σ 25, (aS_id σ 25).symm, fun w hw => by omega⟩
    · rintro i s m hi ⟨f, rfl, q⟩
      right
      have l1 : ¬ (6 : Int32) ≤ nI i := nI_ge (b := 6) (by omega) (by omega)
      have wr : wA (aS σ 25 f) 25 (nI i) 0 = some (aS σ 25 (upd f i 0)) := (wA25 hi).trans (by rw [sA_aS, gA_same, aS_aS])
      refine ⟨aS σ 25 (upd f i 0), ⟨_, rfl, fun w hw => ?_⟩, ?_⟩
      · by_cases e : w = i
        · subst e; rw [pk_us]
        · rw [pk_un e]; exact q w (by omega)
      · rw [lX5_readings_231, if_neg l1, wr]
        simp only [Option.bind_some, show nI i + 1 = nI (i + 1) from nI_add _ 1]
    · rintro s m ⟨f, rfl, q⟩
      exact ⟨_, by rw [lX5_readings_231, if_pos (by decide)], f, rfl, q⟩
  obtain ⟨x, e1, f, rfl, q⟩ := key
  exact ⟨f, e1, q⟩
end PRQ
