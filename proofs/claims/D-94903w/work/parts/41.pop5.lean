/-! operations that only look: ways, both, spot -/
/-- how often a way goes over a tuft -/
def cnt (F : Nat → Nat) (w t : Nat) : Nat → Nat
  | 0 => 0
  | n + 1 => cnt F w t n + (if F (183 + 41 * w + n) = t then 1 else 0)
theorem cnt_le (F : Nat → Nat) (w t : Nat) : ∀ n, cnt F w t n ≤ n
  | 0 => Nat.le_refl _
  | n + 1 => by
    have := cnt_le F w t n
    unfold cnt
    split <;> omega
theorem cnt_y {F : Nat → Nat} {w t n : Nat} (c : F (183 + 41 * w + n) = t) : cnt F w t (n + 1) = cnt F w t n + 1 := by
  show cnt F w t n + (if F (183 + 41 * w + n) = t then 1 else 0) = _
  rw [if_pos c]
theorem cnt_n {F : Nat → Nat} {w t n : Nat} (c : ¬ F (183 + 41 * w + n) = t) : cnt F w t (n + 1) = cnt F w t n := by
  show cnt F w t n + (if F (183 + 41 * w + n) = t then 1 else 0) = _
  rw [if_neg c]; rfl
/-- the set of the ways below n that are in q -/
def wst (q : Nat → Bool) : Nat → Int32
  | 0 => 0
  | n + 1 => if q n = true then wst q n ||| (1 <<< (nI n &&& 31)) else wst q n
def wsb (q0 q1 q2 q3 q4 q5 : Bool) (n : Nat) : Int32 := wst (fun i => if i = 0 then q0 else if i = 1 then q1 else if i = 2 then q2 else if i = 3 then q3 else if i = 4 then q4 else q5) n
theorem wst_b (q : Nat → Bool) (n : Nat) (hn : n ≤ 6) : wst q n = wsb (q 0) (q 1) (q 2) (q 3) (q 4) (q 5) n := by
  unfold wsb
  have : n = 0 ∨ n = 1 ∨ n = 2 ∨ n = 3 ∨ n = 4 ∨ n = 5 ∨ n = 6 := by omega
  rcases this with rfl | rfl | rfl | rfl | rfl | rfl | rfl <;> simp [wst]
theorem wsb_all : ∀ (q0 q1 q2 q3 q4 q5 : Bool), ∀ n, n < 7 → (∃ v, v < 64 ∧ wsb q0 q1 q2 q3 q4 q5 n = nI v) ∧ ∀ k, k < n → fX5_bitOf (wsb q0 q1 q2 q3 q4 q5 n) (nI k) = if (if k = 0 then q0 else if k = 1 then q1 else if k = 2 then q2 else if k = 3 then q3 else if k = 4 then q4 else q5) = true then 1 else 0 := by decide +kernel
theorem wst_v (q : Nat → Bool) (n : Nat) (hn : n ≤ 6) : ∃ v, v < 64 ∧ wst q n = nI v := by
  rw [wst_b q n hn]; exact (wsb_all _ _ _ _ _ _ n (by omega)).1
theorem wst_bit (q : Nat → Bool) (n : Nat) (hn : n ≤ 6) {k : Nat} (hk : k < n) : fX5_bitOf (wst q n) (nI k) = if q k = true then 1 else 0 := by
  rw [wst_b q n hn, (wsb_all _ _ _ _ _ _ n (by omega)).2 k hk]
  have : k = 0 ∨ k = 1 ∨ k = 2 ∨ k = 3 ∨ k = 4 ∨ k = 5 := by omega
  rcases this with rfl | rfl | rfl | rfl | rfl | rfl <;> rfl
theorem bits_F (N M : Nat) : ∀ k a v, lX5_bits_4 N k a v = lX5_bits_4 M k a v
  | 0, _, _ => rfl
  | k + 1, a, v => by rw [lX5_bits_4, lX5_bits_4, bits_F N M k]
theorem bits_up (N : Nat) : ∀ k j a v r, lX5_bits_4 N k a v = some r → lX5_bits_4 N (k + j) a v = some r
  | 0, _, _, _, r, e => by cases (show (none : Option Int32) = some r from e)
  | k + 1, j, a, v, r, e => by
    rw [show k + 1 + j = (k + j) + 1 by omega]
    rw [lX5_bits_4] at e ⊢
    by_cases c : v = 0
    · rw [if_pos c] at e ⊢; exact e
    · rw [if_neg c] at e ⊢; exact bits_up N k j _ _ r e
theorem bits_64 : ∀ v, v < 64 → lX5_bits_4 0 7 0 (nI v) = some (fJ16_bitCount (nI v)) ∧ ¬ fJ16_bitCount (nI v) < 0 ∧ (fJ16_bitCount (nI v) = 0 ↔ v = 0) := by decide +kernel
section PO5
variable {b N n a : Nat} {h : HS} {g : Nat → Nat → Int32} {σ : MS} {F : Nat → Nat}
theorem mo_bits (hN : 200000 ≤ N) {v : Nat} (hv : v < 64) : fX5_bits N (nI v) = some (fJ16_bitCount (nI v)) := by
  unfold fX5_bits
  have := bits_up N 7 (N - 7) 0 (nI v) _ (by rw [bits_F N 0]; exact (bits_64 v hv).1)
  rw [show 7 + (N - 7) = N by omega] at this
  rw [this]; rfl
theorem NW.ct (W : NW h g b σ F a) (hN : 200000 ≤ N) {w t : Nat} (hw : w < F 3) (ht : t < 2147483648) (hF : ∀ i, i < F (177 + w) → F (183 + 41 * w + i) < 2147483648) : fX11_times N (iS h g) (le h (rf h a 6) w) (nI t) = some (nI (cnt F w t (F (177 + w)))) := by
  obtain ⟨kw1, kw2, -⟩ := W.mh.1.2.2.2.2.2 w hw
  unfold fX11_times
  have e := lp_fold (fun m s i => lX11_times_4 N (iS h g) m (le h (rf h a 6) w) (nI t) s i) (fun i => nI (cnt F w t i)) (F (177 + w)) (nI (cnt F w t (F (177 + w)))) (fun m i hi => by
    rw [lX11_times_4]
    simp (disch := omega) only [ho_w3 W.ho hw, ho_w1 W.ho hw, Option.bind_some, ho_wt W.ho hw hi, pl_let, pl_lef, pl_ltt, pl_ltf, pl_eqf, pl_let1, pl_lef1, pl_ltt1, pl_ltf1, pl_eqf1, pl_let2, pl_lef2, pl_ltt2, pl_ltf2, pl_em1, if_true, if_false, ite_self, pl_la, pl_al, pl_lm, pl_ml, nI_add, pk_mul, pl_sl, pl_m1]
    by_cases c : F (183 + 41 * w + i) = t
    · rw [if_pos (congrArg nI c), cnt_y c]
    · rw [if_neg (fun q => c ((nI_eq (hF i hi) ht).mp q)), cnt_n c]) (fun m => by
    rw [lX11_times_4]
    simp (disch := omega) only [ho_w3 W.ho hw, Option.bind_some, pl_let, pl_lef, pl_ltt, pl_ltf, pl_eqf, pl_let1, pl_lef1, pl_ltt1, pl_ltf1, pl_eqf1, pl_let2, pl_lef2, pl_ltt2, pl_ltf2, pl_em1, if_true, if_false, ite_self]) (F (177 + w)) 0 N (by omega) (by omega)
  rw [show lX11_times_4 N (iS h g) N (le h (rf h a 6) w) (nI t) 0 0 = some _ from e]; rfl
def ovq (F : Nat → Nat) (t : Nat) (w : Nat) : Bool := decide (0 < cnt F w t (F (177 + w)))
theorem NW.tl (W : NW h g b σ F a) {w i : Nat} (hw : w < F 3) (hi : i < F (177 + w)) : F (183 + 41 * w + i) < 144 := tuf_lt W.mh.1.1.1 W.mh.1.1.2.1 ((W.mh.1.2.2.2.2.2 w hw).2.2 i hi)
theorem NW.co (W : NW h g b σ F a) (hN : 200000 ≤ N) {w t : Nat} (hw : w < F 3) (ht : t < 144) : fX11_isOver N (iS h g) (le h (rf h a 6) w) (nI t) = some (if ovq F t w = true then 1 else 0) := by
  unfold fX11_isOver
  rw [ho_wg W.ho hw, W.ct hN hw (by omega) (fun i hi => by have := W.tl hw hi; omega)]
  simp only [Option.bind_some]
  have := cnt_le F w t (F (177 + w))
  have := (W.mh.1.2.2.2.2.2 w hw).2.1
  unfold ovq
  by_cases c : 0 < cnt F w t (F (177 + w))
  · rw [if_neg (nI_nle c (by omega)), decide_eq_true c]; rfl
  · rw [show cnt F w t (F (177 + w)) = 0 by omega]; rfl
theorem NW.cwo (W : NW h g b σ F a) (hN : 200000 ≤ N) {t : Nat} (ht : t < 144) : fX1_waysOver N (iS h g) b (nI t) = some (wst (ovq F t) (F 3)) := by
  have k3 : F 3 ≤ 6 := W.mh.1.1.2.2.2.1
  unfold fX1_waysOver
  have e := lp_fold (fun m s i => lX1_waysOver_4 N (iS h g) m b (nI t) s i) (wst (ovq F t)) (F 3) (wst (ovq F t) (F 3)) (fun m i hi => by
    rw [lX1_waysOver_4]
    simp (disch := omega) only [W.r3, Option.bind_some, ho_R W.ho, ls_g (ho_w W.ho), ls_size (ho_w W.ho), ls_get (ho_w W.ho) hi, ho_wg W.ho hi, W.co hN hi ht, pl_let, pl_lef, pl_ltt, pl_ltf, pl_eqf, pl_let1, pl_lef1, pl_ltt1, pl_ltf1, pl_eqf1, pl_let2, pl_lef2, pl_ltt2, pl_ltf2, pl_em1, if_true, if_false, ite_self, pl_la, pl_al, pl_lm, pl_ml, nI_add, pk_mul, pl_sl, pl_m1, lt_]
    by_cases c : ovq F t i = true
    · rw [if_pos c, show wst (ovq F t) (i + 1) = wst (ovq F t) i ||| (1 <<< (nI i &&& 31)) from if_pos c]; rfl
    · rw [if_neg c, show wst (ovq F t) (i + 1) = wst (ovq F t) i from if_neg c]; rfl) (fun m => by
    rw [lX1_waysOver_4]
    simp (disch := omega) only [W.r3, Option.bind_some, ho_R W.ho, ls_g (ho_w W.ho), ls_size (ho_w W.ho), pl_let, pl_lef, pl_ltt, pl_ltf, pl_eqf, pl_let1, pl_lef1, pl_ltt1, pl_ltf1, pl_eqf1, pl_let2, pl_lef2, pl_ltt2, pl_ltf2, pl_em1, if_true, if_false, ite_self]) (F 3) 0 N (by omega) (by omega)
  rw [show lX1_waysOver_4 N (iS h g) N b (nI t) 0 0 = some _ from e]; rfl
theorem NW.mwo (W : NW h g b σ F a) (hN : 200000 ≤ N) {t : Nat} (ht : t < 144) : fX5_waysOver N σ (nI t) = some (wst (ovq F t) (F 3)) := by
  have k3 : F 3 ≤ 6 := W.mh.1.1.2.2.2.1
  have inner : ∀ (w : Nat) (acc : Int32), w < F 3 → lX5_waysOver_17 N σ N (nI t) acc (nI w) 0 = some (if ovq F t w = true then acc ||| (1 <<< (nI w &&& 31)) else acc) := by
    intro w acc hw
    obtain ⟨kw1, kw2, -⟩ := W.mh.1.2.2.2.2.2 w hw
    have e := lp_fold (fun m s i => lX5_waysOver_17 N σ m (nI t) s (nI w) i) (fun i => if 0 < cnt F w t i then acc ||| (1 <<< (nI w &&& 31)) else acc) (F (177 + w)) (if 0 < cnt F w t (F (177 + w)) then acc ||| (1 <<< (nI w &&& 31)) else acc) (fun m i hi => by
      have := W.tl hw hi
      rw [lX5_waysOver_17]
      simp (disch := omega) only [pl_la, pl_al, pl_lm, pl_ml, nI_add, pk_mul, pl_sl, pl_m1, mo_i W.mh, Option.bind_some, pl_let, pl_lef, pl_ltt, pl_ltf, pl_eqf, pl_let1, pl_lef1, pl_ltt1, pl_ltf1, pl_eqf1, pl_let2, pl_lef2, pl_ltt2, pl_ltf2, pl_em1, if_true, if_false, ite_self, lt_]
      by_cases c : F (183 + 41 * w + i) = t
      · rw [if_pos (congrArg nI c), cnt_y c, if_pos (show 0 < cnt F w t i + 1 by omega)]
        by_cases c2 : 0 < cnt F w t i
        · rw [if_pos c2, Int32.or_assoc, Int32.or_self]
        · rw [if_neg c2]
      · rw [if_neg (fun q => c ((nI_eq (by omega) (by omega)).mp q)), cnt_n c]) (fun m => by
      rw [lX5_waysOver_17]
      simp (disch := omega) only [pl_la, pl_al, pl_lm, pl_ml, nI_add, pk_mul, pl_sl, pl_m1, mo_i W.mh, Option.bind_some, pl_let, pl_lef, pl_ltt, pl_ltf, pl_eqf, pl_let1, pl_lef1, pl_ltt1, pl_ltf1, pl_eqf1, pl_let2, pl_lef2, pl_ltt2, pl_ltf2, pl_em1, if_true, if_false, ite_self]) (F (177 + w)) 0 N (by omega) (by omega)
    refine (show lX5_waysOver_17 N σ N (nI t) acc (nI w) 0 = some _ from e).trans ?_
    unfold ovq
    by_cases c : 0 < cnt F w t (F (177 + w))
    · rw [if_pos c, decide_eq_true c]; rfl
    · rw [if_neg c, decide_eq_false c]; rfl
  unfold fX5_waysOver
  have e := lp_fold (fun m s i => lX5_waysOver_4 N σ m (nI t) s i) (wst (ovq F t)) (F 3) (wst (ovq F t) (F 3)) (fun m i hi => by
    rw [lX5_waysOver_4, inner i _ hi]
    simp (disch := omega) only [mo_3 W.mh, Option.bind_some, pl_let, pl_lef, pl_ltt, pl_ltf, pl_eqf, pl_let1, pl_lef1, pl_ltt1, pl_ltf1, pl_eqf1, pl_let2, pl_lef2, pl_ltt2, pl_ltf2, pl_em1, if_true, if_false, ite_self, pl_la, pl_al, pl_lm, pl_ml, nI_add, pk_mul, pl_sl, pl_m1]
    rfl) (fun m => by
    rw [lX5_waysOver_4]
    simp (disch := omega) only [mo_3 W.mh, Option.bind_some, pl_let, pl_lef, pl_ltt, pl_ltf, pl_eqf, pl_let1, pl_lef1, pl_ltt1, pl_ltf1, pl_eqf1, pl_let2, pl_lef2, pl_ltt2, pl_ltf2, pl_em1, if_true, if_false, ite_self]) (F 3) 0 N (by omega) (by omega)
  rw [show lX5_waysOver_4 N σ N (nI t) 0 0 = some _ from e]; rfl
theorem op_ways (hN : 200000 ≤ N) : LO_ways N b (LR b) := by
  intro n h σ x hL
  obtain ⟨F, a, W⟩ := hL.nw
  have W0 := W.th 0
  rw [show fX1_ways N h b x = fX1_ways N (iS h (kI h)) b x from rfl]
  unfold fX1_ways fX5_ways
  simp only [lt_, W.r3, Option.bind_some, ho_g W.ho, ho_tuft W.ho, W0.mt, fx_g W.1]
  rcases tfN_cs F W.mh.1.1.1 W.mh.1.1.2.1 x with q | ⟨q, t, ht, htf, rfl⟩
  · simp only [q, eq_self, if_true]
    exact ⟨-1, sI σ 0 0, rfl, rfl, hL.less.thrown 0⟩
  · simp only [q, one0, if_false, W.cwo hN ht, W0.mwo hN ht, Option.bind_some]
    exact ⟨_, sI σ 0 0, rfl, rfl, hL.less.thrown 0⟩
theorem op_both (hN : 200000 ≤ N) : LO_both N b (LR b) := by
  intro n h σ x y hL
  obtain ⟨F, a, W⟩ := hL.nw
  have W0 := W.th 0
  have k3 : F 3 ≤ 6 := W.mh.1.1.2.2.2.1
  rw [show fX1_both N h b x y = fX1_both N (iS h (kI h)) b x y from rfl]
  unfold fX1_both fX5_both
  simp only [lt_, fx_g W.1, W.cW, W0.mW, Option.bind_some]
  rcases isIn_cs x (n := F 3) (by omega) with ⟨h9, -⟩ | ⟨h9, w, hw, rfl⟩
  · simp only [h9, eq_self, if_true]
    exact ⟨-1, sI σ 0 0, rfl, rfl, hL.less.thrown 0⟩
  · simp only [h9, one0, if_false]
    rcases isIn_cs y (n := F 3) (by omega) with ⟨h8, -⟩ | ⟨h8, v, hv, rfl⟩
    · simp only [h8, eq_self, if_true]
      exact ⟨-1, sI σ 0 0, rfl, rfl, hL.less.thrown 0⟩
    · simp only [h8, one0, if_false]
      refine exE2 (lp_two (fun m s i => lX1_both_23 N (iS h (kI h)) m b (nI w) (nI v) s i) (fun m s i => lX5_both_28 N (sI σ 0 0) m (nI w) (nI v) s i) 144 (fun i s s' => s = s') (fun r r' => r = r') ?_ ?_ 144 0 0 0 N rfl (by omega) rfl) fun r r' e1 e2 hq => ?_
      · rintro m i s _ hi rfl
        right
        rw [lX1_both_23, lX5_both_28, W0.mwo hN hi]
        simp (disch := omega) only [W.r3, Option.bind_some, ho_R W.ho, ls_g (ho_w W.ho), ls_get (ho_w W.ho) hw, ls_get (ho_w W.ho) hv, ho_wg W.ho hw, ho_wg W.ho hv, W.co hN hw hi, W.co hN hv hi, wst_bit _ _ k3 hw, wst_bit _ _ k3 hv, pl_let, pl_lef, pl_ltt, pl_ltf, pl_eqf, pl_let1, pl_lef1, pl_ltt1, pl_ltf1, pl_eqf1, pl_let2, pl_lef2, pl_ltt2, pl_ltf2, pl_em1, if_true, if_false, ite_self, pl_la, pl_al, pl_lm, pl_ml, nI_add, pk_mul, pl_sl, pl_m1]
        by_cases c1 : ovq F i w = true <;> by_cases c2 : ovq F i v = true <;> simp only [c1, c2, if_true, if_false, one0, eq_self, Int32.add_zero] <;> exact ⟨_, _, rfl, rfl, rfl⟩
      · rintro m s _ rfl
        rw [lX1_both_23, lX5_both_28]
        exact ⟨_, _, rfl, rfl, rfl⟩
      · obtain rfl := hq
        have e1 : lX1_both_23 N (iS h (kI h)) N b (nI w) (nI v) 0 0 = some r := e1
        have e2 : lX5_both_28 N (sI σ 0 0) N (nI w) (nI v) 0 0 = some r := e2
        simp only [e1, e2, Option.bind_some]
        exact ⟨r, sI σ 0 0, rfl, rfl, hL.less.thrown 0⟩
theorem op_spot (hN : 200000 ≤ N) : LO_spot N b (LR b) := by
  intro n h σ hL
  obtain ⟨F, a, W⟩ := hL.nw
  have W0 := W.th 0
  have k3 : F 3 ≤ 6 := W.mh.1.1.2.2.2.1
  rw [show fX1_spot N h b = fX1_spot N (iS h (kI h)) b from rfl]
  unfold fX1_spot fX5_spot
  refine exE2 (lp_two (fun m s i => lX1_spot_4 N (iS h (kI h)) m b s i) (fun m (s : Int32 × Int32) i => lX5_spot_11 N (sI σ 0 0) m s.1 s.2 i) 144 (fun i s s' => s = s'.1 ∧ ((s = -1 ∧ s'.2 = 0) ∨ ∃ j, j < 144 ∧ s = nI j ∧ s'.2 = fJ16_bitCount (wst (ovq F j) (F 3)) ∧ 0 < s'.2)) (fun r r' => r = r') ?_ ?_ 144 0 (-1) (-1, 0) N rfl (by omega) ⟨rfl, Or.inl ⟨rfl, rfl⟩⟩) fun r r' e1 e2 hq => ?_
  · rintro m i s ⟨s1, s2⟩ hi ⟨rfl, hs⟩
    right
    simp only at hs ⊢
    obtain ⟨v, hv, ev⟩ := wst_v (ovq F i) (F 3) k3
    obtain ⟨b1, b2, b3⟩ := bits_64 v hv
    rw [lX1_spot_4, lX5_spot_11, W0.mwo hN hi]
    simp (disch := omega) only [pl_let, pl_lef, pl_ltt, pl_ltf, pl_eqf, pl_let1, pl_lef1, pl_ltt1, pl_ltf1, pl_eqf1, pl_let2, pl_lef2, pl_ltt2, pl_ltf2, pl_em1, if_true, if_false, ite_self, pl_la, pl_al, pl_lm, pl_ml, nI_add, pk_mul, pl_sl, pl_m1, Option.bind_some, fx_g W.1, W.cwo hN hi, ev, mo_bits hN hv]
    have hz : nI v = 0 ↔ v = 0 := nI_eq (b := 0) (by omega) (by omega)
    rcases hs with ⟨rfl, rfl⟩ | ⟨j, hj, rfl, rfl, hpos⟩
    · by_cases c : v = 0
      · rw [if_pos (hz.mpr c), if_neg (by rw [b3.mpr c]; decide)]
        exact ⟨-1, (-1, 0), ⟨rfl, Or.inl ⟨rfl, rfl⟩⟩, rfl, rfl⟩
      · have : 0 < fJ16_bitCount (nI v) := Int32.lt_of_le_of_ne (Int32.not_lt.mp b2) (fun e => c (b3.mp e.symm))
        rw [if_neg (fun e => c (hz.mp e)), if_pos rfl, if_pos this]
        exact ⟨nI i, (nI i, fJ16_bitCount (nI v)), ⟨rfl, Or.inr ⟨i, hi, rfl, (congrArg fJ16_bitCount ev).symm, this⟩⟩, rfl, rfl⟩
    · rw [W.cwo hN hj]
      simp (disch := omega) only [pl_em1, if_false, Option.bind_some]
      by_cases c : v = 0
      · rw [if_pos (hz.mpr c), if_neg (by rw [b3.mpr c]; exact Int32.not_lt.mpr (Int32.le_of_lt hpos))]
        exact ⟨nI j, (nI j, _), ⟨rfl, Or.inr ⟨j, hj, rfl, rfl, hpos⟩⟩, rfl, rfl⟩
      · have : 0 < fJ16_bitCount (nI v) := Int32.lt_of_le_of_ne (Int32.not_lt.mp b2) (fun e => c (b3.mp e.symm))
        rw [if_neg (fun e => c (hz.mp e))]
        by_cases c2 : fJ16_bitCount (nI v) ≤ fJ16_bitCount (wst (ovq F j) (F 3))
        · rw [if_pos c2, if_neg (Int32.not_lt.mpr c2)]
          exact ⟨nI j, (nI j, _), ⟨rfl, Or.inr ⟨j, hj, rfl, rfl, hpos⟩⟩, rfl, rfl⟩
        · rw [if_neg c2, if_pos (Int32.not_le.mp c2)]
          exact ⟨nI i, (nI i, fJ16_bitCount (nI v)), ⟨rfl, Or.inr ⟨i, hi, rfl, (congrArg fJ16_bitCount ev).symm, this⟩⟩, rfl, rfl⟩
  · rintro m s ⟨s1, s2⟩ ⟨rfl, hs⟩
    simp only
    rw [lX1_spot_4, lX5_spot_11]
    exact ⟨_, _, rfl, rfl, rfl⟩
  · obtain rfl := hq
    have e1 : lX1_spot_4 N (iS h (kI h)) N b (-1) 0 = some r := e1
    have e2 : lX5_spot_11 N (sI σ 0 0) N (-1) 0 0 = some r := e2
    simp only [lt_, e1, e2, Option.bind_some]
    exact ⟨r, sI σ 0 0, rfl, rfl, hL.less.thrown 0⟩
end PO5
