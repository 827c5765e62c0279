/-! sums; what a rug's rows say: both sides -/
def sm (f : Nat → Int32) : Nat → Int32
  | 0 => 0
  | n + 1 => sm f n + f n
theorem sm_ext {f f' : Nat → Int32} {n : Nat} (h : ∀ i, i < n → f i = f' i) : sm f n = sm f' n := by
  induction n with
  | zero => rfl
  | succ n ih => unfold sm; rw [ih fun i hi => h i (by omega), h n (by omega)]
theorem sm_zero {f : Nat → Int32} {n : Nat} (h : ∀ i, i < n → f i = 0) : sm f n = 0 := by
  induction n with
  | zero => rfl
  | succ n ih => unfold sm; rw [ih fun i hi => h i (by omega), h n (by omega)]; rfl
theorem sm_cut {f : Nat → Int32} {n m : Nat} (hnm : n ≤ m) (h : ∀ i, n ≤ i → i < m → f i = 0) : sm f m = sm f n := by
  induction m with
  | zero => rw [show n = 0 by omega]
  | succ m ih =>
    by_cases e : n = m + 1
    · rw [e]
    · show sm f m + f m = _
      rw [ih (by omega) (fun i h1 h2 => h i h1 (by omega)), h m (by omega) (by omega), Int32.add_zero]
theorem sm_add (f f' : Nat → Int32) (n : Nat) : sm (fun i => f i + f' i) n = sm f n + sm f' n := by
  induction n with
  | zero => rfl
  | succ n ih => unfold sm; rw [ih]; ac_rfl
theorem sm_mul (f : Nat → Int32) (c : Int32) (n : Nat) : sm (fun i => f i * c) n = sm f n * c := by
  induction n with
  | zero => unfold sm; rw [Int32.zero_mul]
  | succ n ih => unfold sm; rw [ih, Int32.add_mul]
theorem sm_comm (f : Nat → Nat → Int32) (n m : Nat) : sm (fun i => sm (fun j => f i j) m) n = sm (fun j => sm (fun i => f i j) n) m := by
  induction n with
  | zero => exact (sm_zero fun _ _ => rfl).symm
  | succ n ih =>
    show sm (fun i => sm (fun j => f i j) m) n + sm (fun j => f n j) m = sm (fun j => sm (fun i => f i j) n + f n j) m
    rw [ih, sm_add]
/-- a loop that counts, its states told -/
theorem lp_fold {α β : Type} (l : Nat → α → Int32 → Option β) (st : Nat → α) (n : Nat) (r : β) (hs : ∀ m i, i < n → l (m + 1) (st i) (nI i) = l m (st (i + 1)) (nI (i + 1))) (he : ∀ m, l (m + 1) (st n) (nI n) = some r) : ∀ k i fuel, i + k = n → k < fuel → l fuel (st i) (nI i) = some r := by
  intro k
  induction k with
  | zero =>
    intro i fuel hi hf
    obtain ⟨m, rfl⟩ : ∃ m, fuel = m + 1 := ⟨fuel - 1, by omega⟩
    rw [show i = n by omega]
    exact he m
  | succ k ih =>
    intro i fuel hi hf
    obtain ⟨m, rfl⟩ : ∃ m, fuel = m + 1 := ⟨fuel - 1, by omega⟩
    rw [hs m i (by omega)]
    exact ih (i + 1) m (by omega) (by omega)
theorem lp_sum (l : Nat → Int32 → Int32 → Option Int32) (f : Nat → Int32) (n : Nat) (hs : ∀ m acc i, i < n → l (m + 1) acc (nI i) = l m (acc + f i) (nI (i + 1))) (he : ∀ m acc, l (m + 1) acc (nI n) = some acc) (fuel : Nat) (acc : Int32) (hf : n < fuel) : l fuel acc 0 = some (acc + sm f n) := by
  have := lp_fold l (fun i => acc + sm f i) n (acc + sm f n) (fun m i hi => by rw [hs m _ i hi, Int32.add_assoc]; rfl) (fun m => he m _) n 0 fuel (by omega) hf
  rw [show acc + sm f 0 = acc from Int32.add_zero acc] at this
  exact this
theorem lp_sum0 (l : Nat → Int32 → Int32 → Option Int32) (f : Nat → Int32) (n : Nat) (hs : ∀ m acc i, i < n → l (m + 1) acc (nI i) = l m (acc + f i) (nI (i + 1))) (he : ∀ m acc, l (m + 1) acc (nI n) = some acc) (fuel : Nat) (hf : n < fuel) : l fuel 0 0 = some (sm f n) := by
  rw [lp_sum l f n hs he fuel 0 hf, Int32.zero_add]
def TM (f : Nat → Int32) (t p a : Nat) : Int32 := f (2308 + (6 * t + p) * 9 + a)
def FM (f : Nat → Int32) (t a : Nat) : Int32 := f (1012 + 9 * t + a)
/-- treads of a rug at r: as they lie (c = 3), as if nothing was beaten (c = 1012) -/
def TC (g : Nat → Nat → Int32) (r c : Nat) (t p a : Nat) : Int32 := g (r + c + 7 * t + p) a
def lo (T : Nat → Nat → Nat → Int32) (t p : Nat) : Int32 := sm (fun a => T t p a) 9
def dp (T : Nat → Nat → Nat → Int32) (F : Nat → Nat) (t : Nat) : Int32 := sm (fun p => sm (fun a => (T t p a * nI (F (7 + p))) * (nI (F 6) - nI a)) (F 6)) (F 2)
def fdp (T : Nat → Nat → Int32) (F : Nat → Nat) (t : Nat) : Int32 := sm (fun a => T t a * (nI (F 6) - nI a)) (F 6)
/-- the Model's house -/
def MH (f : Nat → Int32) (F : Nat → Nat) : Prop := HOK F ∧ ∀ i, i < 429 → f i = nI (F i)
section PRS
variable {σ : MS} {N t p : Nat} {F : Nat → Nat}
theorem mo_lies {a : Nat} (ht : t < 144) (hp : p < 6) (ha : a < 9) : fX5_lies N σ (nI t) (nI p) (nI a) = some (TM (gA σ 6) t p a) := by
  unfold fX5_lies
  simp (disch := omega) only [pl_la, pl_al, pl_lm, pl_ml, nI_add, pk_mul, pl_sl, pl_m1, rA6, Option.bind_some]
  rfl
theorem mo_liesOf (hN : 200000 ≤ N) (ht : t < 144) (hp : p < 6) : fX5_liesOf N σ (nI t) (nI p) = some (lo (TM (gA σ 6)) t p) := by
  unfold fX5_liesOf
  rw [lp_sum0 (fun m s i => lX5_liesOf_5 N σ m (nI t) (nI p) s i) (fun a => TM (gA σ 6) t p a) 9 (fun m acc i hi => ?_) (fun m acc => ?_) N (by omega)]
  · rfl
  · rw [lX5_liesOf_5, mo_lies ht hp hi]
    simp (disch := omega) only [pl_let, pl_lef, pl_ltt, pl_ltf, pl_eqf, pl_let1, pl_lef1, pl_ltt1, pl_ltf1, pl_eqf1, pl_let2, pl_lef2, pl_ltt2, pl_ltf2, pl_em1, if_true, if_false, ite_self, pl_la, pl_al, pl_lm, pl_ml, nI_add, pk_mul, pl_sl, pl_m1, Option.bind_some]
  · rw [lX5_liesOf_5]; rfl
theorem mo_2 (hF : MH (gA σ 6) F) : rA σ 6 2 = some (nI (F 2)) := by rw [rL6 (by decide)]; exact congrArg some (hF.2 2 (by decide))
theorem mo_3 (hF : MH (gA σ 6) F) : rA σ 6 3 = some (nI (F 3)) := by rw [rL6 (by decide)]; exact congrArg some (hF.2 3 (by decide))
theorem mo_5 (hF : MH (gA σ 6) F) : rA σ 6 5 = some (nI (F 5)) := by rw [rL6 (by decide)]; exact congrArg some (hF.2 5 (by decide))
theorem mo_6 (hF : MH (gA σ 6) F) : rA σ 6 6 = some (nI (F 6)) := by rw [rL6 (by decide)]; exact congrArg some (hF.2 6 (by decide))
theorem mo_i (hF : MH (gA σ 6) F) {i : Nat} (hi : i < 429) : rA σ 6 (nI i) = some (nI (F i)) := by rw [rA6 (by omega), hF.2 i hi]
theorem mo_treads (hN : 200000 ≤ N) (hF : MH (gA σ 6) F) (ht : t < 144) : fX5_treads N σ (nI t) = some (sm (fun p => lo (TM (gA σ 6)) t p) (F 2)) := by
  have k2 : F 2 ≤ 6 := hF.1.1.2.2.1
  unfold fX5_treads
  rw [lp_sum0 (fun m s i => lX5_treads_4 N σ m (nI t) s i) (fun p => lo (TM (gA σ 6)) t p) (F 2) (fun m acc i hi => ?_) (fun m acc => ?_) N (by omega)]
  · rfl
  · rw [lX5_treads_4, mo_2 hF, mo_liesOf hN ht (show i < 6 by omega)]
    simp (disch := omega) only [pl_let, pl_lef, pl_ltt, pl_ltf, pl_eqf, pl_let1, pl_lef1, pl_ltt1, pl_ltf1, pl_eqf1, pl_let2, pl_lef2, pl_ltt2, pl_ltf2, pl_em1, if_true, if_false, ite_self, pl_la, pl_al, pl_lm, pl_ml, nI_add, pk_mul, pl_sl, pl_m1, Option.bind_some]
  · rw [lX5_treads_4, mo_2 hF]
    simp (disch := omega) only [pl_let, pl_lef, pl_ltt, pl_ltf, pl_eqf, pl_let1, pl_lef1, pl_ltt1, pl_ltf1, pl_eqf1, pl_let2, pl_lef2, pl_ltt2, pl_ltf2, pl_em1, if_true, if_false, ite_self, Option.bind_some]
theorem mo_depth (hN : 200000 ≤ N) (hF : MH (gA σ 6) F) (ht : t < 144) : fX5_depth N σ (nI t) = some (dp (TM (gA σ 6)) F t) := by
  have k2 : F 2 ≤ 6 := hF.1.1.2.2.1
  have k6 : F 6 ≤ 9 := hF.1.1.2.2.2.2.2.2.2
  have inner : ∀ (p : Nat) (acc : Int32), p < 6 → lX5_depth_17 N σ N (nI t) acc (nI p) 0 = some (acc + sm (fun a => (TM (gA σ 6) t p a * nI (F (7 + p))) * (nI (F 6) - nI a)) (F 6)) := by
    intro p acc hp
    refine lp_sum (fun m s i => lX5_depth_17 N σ m (nI t) s (nI p) i) _ (F 6) (fun m acc i hi => ?_) (fun m acc => ?_) N acc (by omega)
    · rw [lX5_depth_17, mo_6 hF, mo_lies ht hp (show i < 9 by omega)]
      simp (disch := omega) only [pl_let, pl_lef, pl_ltt, pl_ltf, pl_eqf, pl_let1, pl_lef1, pl_ltt1, pl_ltf1, pl_eqf1, pl_let2, pl_lef2, pl_ltt2, pl_ltf2, pl_em1, if_true, if_false, ite_self, pl_la, pl_al, pl_lm, pl_ml, nI_add, pk_mul, pl_sl, pl_m1, Option.bind_some, mo_i hF, lt_]
    · rw [lX5_depth_17, mo_6 hF]
      simp (disch := omega) only [pl_let, pl_lef, pl_ltt, pl_ltf, pl_eqf, pl_let1, pl_lef1, pl_ltt1, pl_ltf1, pl_eqf1, pl_let2, pl_lef2, pl_ltt2, pl_ltf2, pl_em1, if_true, if_false, ite_self, Option.bind_some]
  unfold fX5_depth
  rw [lp_sum0 (fun m s i => lX5_depth_4 N σ m (nI t) s i) (fun p => sm (fun a => (TM (gA σ 6) t p a * nI (F (7 + p))) * (nI (F 6) - nI a)) (F 6)) (F 2) (fun m acc i hi => ?_) (fun m acc => ?_) N (by omega)]
  · rfl
  · rw [lX5_depth_4, mo_2 hF, inner i _ (by omega)]
    simp (disch := omega) only [pl_let, pl_lef, pl_ltt, pl_ltf, pl_eqf, pl_let1, pl_lef1, pl_ltt1, pl_ltf1, pl_eqf1, pl_let2, pl_lef2, pl_ltt2, pl_ltf2, pl_em1, if_true, if_false, ite_self, pl_la, pl_al, pl_lm, pl_ml, nI_add, pk_mul, pl_sl, pl_m1, Option.bind_some]
  · rw [lX5_depth_4, mo_2 hF]
    simp (disch := omega) only [pl_let, pl_lef, pl_ltt, pl_ltf, pl_eqf, pl_let1, pl_lef1, pl_ltt1, pl_ltf1, pl_eqf1, pl_let2, pl_lef2, pl_ltt2, pl_ltf2, pl_em1, if_true, if_false, ite_self, Option.bind_some]
theorem mo_fdepth (hN : 200000 ≤ N) (hF : MH (gA σ 6) F) (ht : t < 144) : fX5_fullDepth N σ (nI t) = some (fdp (FM (gA σ 6)) F t) := by
  have k6 : F 6 ≤ 9 := hF.1.1.2.2.2.2.2.2.2
  unfold fX5_fullDepth
  rw [lp_sum0 (fun m s i => lX5_fullDepth_4 N σ m (nI t) s i) (fun a => FM (gA σ 6) t a * (nI (F 6) - nI a)) (F 6) (fun m acc i hi => ?_) (fun m acc => ?_) N (by omega)]
  · rfl
  · rw [lX5_fullDepth_4, mo_6 hF]
    simp (disch := omega) only [pl_let, pl_lef, pl_ltt, pl_ltf, pl_eqf, pl_let1, pl_lef1, pl_ltt1, pl_ltf1, pl_eqf1, pl_let2, pl_lef2, pl_ltt2, pl_ltf2, pl_em1, if_true, if_false, ite_self, pl_la, pl_al, pl_lm, pl_ml, nI_add, pk_mul, pl_sl, pl_m1, Option.bind_some, rA6, lt_]
    rfl
  · rw [lX5_fullDepth_4, mo_6 hF]
    simp (disch := omega) only [pl_let, pl_lef, pl_ltt, pl_ltf, pl_eqf, pl_let1, pl_lef1, pl_ltt1, pl_ltf1, pl_eqf1, pl_let2, pl_lef2, pl_ltt2, pl_ltf2, pl_em1, if_true, if_false, ite_self, Option.bind_some]
end PRS
section PRC
variable {h : HS} {g : Nat → Nat → Int32} {b r a N t p : Nat} {F : Nat → Nat} {nm : Nat → Int64}
theorem ru_tr {i : Nat} (hR : RugS h r) (ht : t < 144) (hp : p < 6) (hi : i < 9) : ((fR (iS h g) r 3 3 2).bind fun a6 => ((fA (iS h g) a6 35 (nI t)).bind fun a7 => ((fA (iS h g) a7 34 (nI p)).bind fun a8 => (aI (iS h g) a8 31 (nI i))))) = some (TC g r 3 t p i) := by
  have hA := hR.2.2.2.2.1
  simp only [ru_R2 hR, Option.bind_some, a3_1 hA g ht, a3_2 hA g ht hp, a3_r hA g ht hp hi]
  unfold TC
  rw [show r + 1 + 2 + 7 * t + p = r + 3 + 7 * t + p by omega]
theorem co_rowIn (hN : 200000 ≤ N) (hR : RugS h r) (ht : t < 144) (hp : p < 6) {y : Int32} (hy : y = -1 ∨ y = nI p) (acc : Int32) : lX3_treadsOn_15 N (iS h g) N r (nI t) y acc (nI p) 0 = some (acc + lo (TC g r 3) t p) := by
  have hA := hR.2.2.2.2.1
  refine lp_sum (fun m s i => lX3_treadsOn_15 N (iS h g) m r (nI t) y s (nI p) i) (fun a => TC g r 3 t p a) 9 (fun m acc i hi => ?_) (fun m acc => ?_) N acc (by omega)
  · rw [lX3_treadsOn_15]
    have hq : (if y = -1 then true else if y = nI p then true else false) = true := by rcases hy with rfl | rfl <;> simp
    simp (disch := omega) only [pl_let, pl_lef, pl_ltt, pl_ltf, pl_eqf, pl_let1, pl_lef1, pl_ltt1, pl_ltf1, pl_eqf1, pl_let2, pl_lef2, pl_ltt2, pl_ltf2, pl_em1, if_true, if_false, ite_self, pl_la, pl_al, pl_lm, pl_ml, nI_add, pk_mul, pl_sl, pl_m1, hq, lt_, ru_R2 hR, Option.bind_some, a3_1 hA, a3_2 hA, a3_r hA]
    unfold TC
    rw [show r + 1 + 2 + 7 * t + p = r + 3 + 7 * t + p by omega]
  · rw [lX3_treadsOn_15]; rfl
theorem co_rowNo (hN : 200000 ≤ N) {y z : Int32} (h1 : ¬ y = -1) (h2 : ¬ y = z) (acc : Int32) {x : Int32} {hh : HS} : lX3_treadsOn_15 N hh N r x y acc z 0 = some acc := by
  obtain ⟨m, rfl⟩ : ∃ m, N = m + 1 := ⟨N - 1, by omega⟩
  rw [lX3_treadsOn_15]
  simp [h1, h2, lt_]
/-- treads of all on a tuft, of one -/
theorem co_onAll (hN : 200000 ≤ N) (hR : RugS h r) (ht : t < 144) : fX3_treadsOn N (iS h g) r (nI t) (-1) = some (sm (fun p => lo (TC g r 3) t p) 6) := by
  unfold fX3_treadsOn
  rw [lp_sum0 (fun m s i => lX3_treadsOn_5 N (iS h g) m r (nI t) (-1) s i) (fun p => lo (TC g r 3) t p) 6 (fun m acc i hi => ?_) (fun m acc => ?_) N (by omega)]
  · rfl
  · rw [lX3_treadsOn_5, co_rowIn hN hR ht hi (Or.inl rfl)]
    simp (disch := omega) only [pl_let, pl_lef, pl_ltt, pl_ltf, pl_eqf, pl_let1, pl_lef1, pl_ltt1, pl_ltf1, pl_eqf1, pl_let2, pl_lef2, pl_ltt2, pl_ltf2, pl_em1, if_true, if_false, ite_self, pl_la, pl_al, pl_lm, pl_ml, nI_add, pk_mul, pl_sl, pl_m1, Option.bind_some]
  · rw [lX3_treadsOn_5]; rfl
theorem co_on (hN : 200000 ≤ N) (hR : RugS h r) (ht : t < 144) (hp : p < 6) : fX3_treadsOn N (iS h g) r (nI t) (nI p) = some (lo (TC g r 3) t p) := by
  unfold fX3_treadsOn
  have e : lX3_treadsOn_5 N (iS h g) N r (nI t) (nI p) 0 0 = some (lo (TC g r 3) t p) := by
    refine lp_fold (fun m s i => lX3_treadsOn_5 N (iS h g) m r (nI t) (nI p) s i) (fun i => if i ≤ p then 0 else lo (TC g r 3) t p) 6 _ (fun m i hi => ?_) (fun m => ?_) 6 0 N rfl (by omega)
    · rw [lX3_treadsOn_5]
      by_cases e : i = p
      · subst e
        rw [co_rowIn hN hR ht hi (Or.inr rfl), if_pos (Nat.le_refl _), if_neg (show ¬ i + 1 ≤ i by omega), Int32.zero_add]
        simp (disch := omega) only [pl_let, pl_lef, pl_ltt, pl_ltf, pl_eqf, pl_let1, pl_lef1, pl_ltt1, pl_ltf1, pl_eqf1, pl_let2, pl_lef2, pl_ltt2, pl_ltf2, pl_em1, if_true, if_false, ite_self, pl_la, pl_al, pl_lm, pl_ml, nI_add, pk_mul, pl_sl, pl_m1, Option.bind_some]
      · rw [co_rowNo hN (fun e9 => by rw [pl_em1 (show p < 2147483648 by omega)] at e9; exact e9) (fun e9 => by rw [pl_eqf (a := p) (b := i) (by omega) (by omega) (by omega)] at e9; exact e9)]
        simp (disch := omega) only [pl_let, pl_lef, pl_ltt, pl_ltf, pl_eqf, pl_let1, pl_lef1, pl_ltt1, pl_ltf1, pl_eqf1, pl_let2, pl_lef2, pl_ltt2, pl_ltf2, pl_em1, if_true, if_false, ite_self, pl_la, pl_al, pl_lm, pl_ml, nI_add, pk_mul, pl_sl, pl_m1, Option.bind_some]
        by_cases q : i ≤ p
        · rw [if_pos q, if_pos (by omega)]
        · rw [if_neg q, if_neg (by omega)]
    · rw [lX3_treadsOn_5, if_neg (show ¬ 6 ≤ p by omega)]; rfl
  rw [e]; rfl
theorem co_of (hN : 200000 ≤ N) (hR : RugS h r) (hp : p < 6) : fX3_treadsOf N (iS h g) r (nI p) = some (sm (fun t => lo (TC g r 3) t p) 144) := by
  unfold fX3_treadsOf
  rw [lp_sum0 (fun m s i => lX3_treadsOf_4 N (iS h g) m r (nI p) s i) (fun t => lo (TC g r 3) t p) 144 (fun m acc i hi => ?_) (fun m acc => ?_) N (by omega)]
  · rfl
  · rw [lX3_treadsOf_4, co_on hN hR hi hp]
    simp (disch := omega) only [pl_let, pl_lef, pl_ltt, pl_ltf, pl_eqf, pl_let1, pl_lef1, pl_ltt1, pl_ltf1, pl_eqf1, pl_let2, pl_lef2, pl_ltt2, pl_ltf2, pl_em1, if_true, if_false, ite_self, pl_la, pl_al, pl_lm, pl_ml, nI_add, pk_mul, pl_sl, pl_m1, Option.bind_some, ru_g hR]
  · rw [lX3_treadsOf_4]; rfl
def pos1 (x : Int32) : Int32 := if x ≤ 0 then 0 else 1
theorem co_tuftsOf (hN : 200000 ≤ N) (hR : RugS h r) (hp : p < 6) : fX3_tuftsOf N (iS h g) r (nI p) = some (sm (fun t => pos1 (lo (TC g r 3) t p)) 144) := by
  unfold fX3_tuftsOf
  rw [lp_sum0 (fun m s i => lX3_tuftsOf_4 N (iS h g) m r (nI p) s i) (fun t => pos1 (lo (TC g r 3) t p)) 144 (fun m acc i hi => ?_) (fun m acc => ?_) N (by omega)]
  · rfl
  · rw [lX3_tuftsOf_4, co_on hN hR hi hp]
    simp (disch := omega) only [pl_let, pl_lef, pl_ltt, pl_ltf, pl_eqf, pl_let1, pl_lef1, pl_ltt1, pl_ltf1, pl_eqf1, pl_let2, pl_lef2, pl_ltt2, pl_ltf2, pl_em1, if_true, if_false, ite_self, pl_la, pl_al, pl_lm, pl_ml, nI_add, pk_mul, pl_sl, pl_m1, Option.bind_some, ru_g hR]
    unfold pos1
    by_cases q : lo (TC g r 3) i p ≤ 0
    · rw [if_pos q, if_pos q, Int32.add_zero]
    · rw [if_neg q, if_neg q]
  · rw [lX3_tuftsOf_4]; rfl
theorem co_dIn (hN : 200000 ≤ N) (hR : RugS h r) (hH : HouR h g b a F nm) (hk : kR h r 0 = some a) {q c : Nat} (hA : Arr3 h (r + q)) (hq : c = q + 2) (ht : t < 144) (hp : p < F 2) (acc : Int32) : lX3_depthOf_21 N (iS h g) N r (r + q + 1 + 7 * t) acc (nI p) 0 = some (acc + sm (fun i => (TC g r c t p i * nI (F (7 + p))) * (nI (F 6) - nI i)) (F 6)) := by
  subst hq
  have k2 : F 2 ≤ 6 := hH.1.1.2.2.1
  have k6 : F 6 ≤ 9 := hH.1.1.2.2.2.2.2.2.2
  refine lp_sum (fun m s i => lX3_depthOf_21 N (iS h g) m r (r + q + 1 + 7 * t) s (nI p) i) _ (F 6) (fun m acc i hi => ?_) (fun m acc => ?_) N acc (by omega)
  · rw [lX3_depthOf_21]
    simp (disch := omega) only [pl_let, pl_lef, pl_ltt, pl_ltf, pl_eqf, pl_let1, pl_lef1, pl_ltt1, pl_ltf1, pl_eqf1, pl_let2, pl_lef2, pl_ltt2, pl_ltf2, pl_em1, if_true, if_false, ite_self, pl_la, pl_al, pl_lm, pl_ml, nI_add, pk_mul, pl_sl, pl_m1, Option.bind_some, ru_f hR, hk, ho_2 hH, a3_2 hA, a3_r hA, ho_R hH, ls_g (ho_p hH), ls_get (ho_p hH), ho_pg hH, ho_p1 hH, lt_]
    unfold TC
    rw [show r + q + 2 + 7 * t + p = r + (q + 2) + 7 * t + p by omega]
  · rw [lX3_depthOf_21]
    simp (disch := omega) only [pl_let, pl_lef, pl_ltt, pl_ltf, pl_eqf, pl_let1, pl_lef1, pl_ltt1, pl_ltf1, pl_eqf1, pl_let2, pl_lef2, pl_ltt2, pl_ltf2, pl_em1, if_true, if_false, ite_self, Option.bind_some, ru_f hR, hk, ho_2 hH]
theorem co_dOf (hN : 200000 ≤ N) (hR : RugS h r) (hH : HouR h g b a F nm) (hk : kR h r 0 = some a) {q c : Nat} (hA : Arr3 h (r + q)) (hq : c = q + 2) (ht : t < 144) : fX3_depthOf N (iS h g) r (r + q + 1 + 7 * t) = some (dp (TC g r c) F t) := by
  have k2 : F 2 ≤ 6 := hH.1.1.2.2.1
  unfold fX3_depthOf
  rw [lp_sum0 (fun m s i => lX3_depthOf_4 N (iS h g) m r (r + q + 1 + 7 * t) s i) (fun p => sm (fun i => (TC g r c t p i * nI (F (7 + p))) * (nI (F 6) - nI i)) (F 6)) (F 2) (fun m acc i hi => ?_) (fun m acc => ?_) N (by omega)]
  · rfl
  · rw [lX3_depthOf_4, co_dIn hN hR hH hk hA hq ht hi]
    simp (disch := omega) only [pl_let, pl_lef, pl_ltt, pl_ltf, pl_eqf, pl_let1, pl_lef1, pl_ltt1, pl_ltf1, pl_eqf1, pl_let2, pl_lef2, pl_ltt2, pl_ltf2, pl_em1, if_true, if_false, ite_self, pl_la, pl_al, pl_lm, pl_ml, nI_add, pk_mul, pl_sl, pl_m1, Option.bind_some, ru_f hR, hk, ho_R hH, ls_g (ho_p hH), ls_size (ho_p hH)]
  · rw [lX3_depthOf_4]
    simp (disch := omega) only [pl_let, pl_lef, pl_ltt, pl_ltf, pl_eqf, pl_let1, pl_lef1, pl_ltt1, pl_ltf1, pl_eqf1, pl_let2, pl_lef2, pl_ltt2, pl_ltf2, pl_em1, if_true, if_false, ite_self, Option.bind_some, ru_f hR, hk, ho_R hH, ls_g (ho_p hH), ls_size (ho_p hH)]
theorem co_depth (hN : 200000 ≤ N) (hR : RugS h r) (hH : HouR h g b a F nm) (hk : kR h r 0 = some a) (ht : t < 144) : fX3_depth N (iS h g) r (nI t) = some (dp (TC g r 3) F t) := by
  have hA := hR.2.2.2.2.1
  unfold fX3_depth
  simp only [ru_R2 hR, Option.bind_some, a3_1 hA g ht, ru_g hR, co_dOf hN hR hH hk hA (c := 3) rfl ht]
theorem co_missing (hN : 200000 ≤ N) (hR : RugS h r) (hH : HouR h g b a F nm) (hk : kR h r 0 = some a) (ht : t < 144) : fX3_missing N (iS h g) r (nI t) = some (dp (TC g r 1012) F t - dp (TC g r 3) F t) := by
  have hA := hR.2.2.2.2.2
  unfold fX3_missing
  simp only [ru_R3 hR, Option.bind_some, a3_1 hA g ht, ru_g hR, co_dOf hN hR hH hk hA (c := 1012) rfl ht, co_depth hN hR hH hk ht]
end PRC
theorem dp_ext {T T' : Nat → Nat → Nat → Int32} {F : Nat → Nat} {t : Nat} (k2 : F 2 ≤ 6) (k6 : F 6 ≤ 9) (h : ∀ p, p < 6 → ∀ i, i < 9 → T t p i = T' t p i) : dp T F t = dp T' F t := by
  unfold dp
  exact sm_ext fun p hp => sm_ext fun i hi => by rw [h p (by omega) i (by omega)]
theorem lo_ext {T T' : Nat → Nat → Nat → Int32} {t p : Nat} (h : ∀ i, i < 9 → T t p i = T' t p i) : lo T t p = lo T' t p := sm_ext h
/-- the full depth is the depth of what would lie -/
theorem dp_full {T : Nat → Nat → Nat → Int32} {U : Nat → Nat → Int32} {F : Nat → Nat} {t : Nat} (hF : HOK F) (h : ∀ i, i < 9 → U t i = sm (fun p => T t p i * nI (F (7 + p))) 6) : fdp U F t = dp T F t := by
  obtain ⟨⟨-, -, k2, -, -, -, -, k6⟩, -, hz, -⟩ := hF
  unfold fdp dp
  rw [sm_comm]
  refine sm_ext fun i hi => ?_
  rw [h i (by omega), ← sm_mul]
  refine sm_cut k2 fun p h1 h2 => ?_
  rw [hz p h1 h2, nI_0, Int32.mul_zero, Int32.zero_mul]
