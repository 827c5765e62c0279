/-! readings: one reading is tried on both sides -/
section PRH
variable {h : HS} {g : Nat → Nat → Int32} {σ : MS} {N b a n K : Nat} {F : Nat → Nat} {nm : Nat → Int64} {ov : Nat → Nat → Nat} {A : Nat → Nat}
/-- a walker: the Model's number less one -/
def wk (v : Nat) : Int32 := if v = 0 then -1 else nI (v - 1)
theorem wk_0 : wk 0 = -1 := rfl
theorem wk_s (v : Nat) : wk (v + 1) = nI v := by unfold wk; rw [if_neg (by omega), Nat.add_sub_cancel]
theorem wk_p {v : Nat} : wk v + 1 = wk (v + 1) := by
  rw [wk_s]
  cases v with
  | zero => rfl
  | succ v => rw [wk_s]; exact nI_add _ 1
theorem wk_m {v : Nat} : nI v - 1 = wk v := by
  cases v with
  | zero => rfl
  | succ v => rw [wk_s, show nI (v + 1) - 1 = nI (v + 1 - 1) from pl_sl (n := 1) (by show 1 ≤ v + 1; omega), Nat.add_sub_cancel]
theorem wk_e {v w : Nat} (hv : v < 1000) (hw : w < 1000) (e : wk v = wk w) : v = w := by
  have : wk v + 1 = wk w + 1 := by rw [e]
  rw [wk_p, wk_p, wk_s, wk_s] at this
  exact (nI_eq (by omega) (by omega)).mp this
/-- what the trial of a reading sees -/
def RK (h : HS) (g : Nat → Nat → Int32) (b a K : Nat) (F : Nat → Nat) (nm : Nat → Int64) (ov : Nat → Nat → Nat) (A : Nat → Nat) (σ : MS) : Prop :=
  FX h b ∧ HouR h g b a F nm ∧ kR h b 3 = some a ∧ MH (gA σ 6) F ∧ (g b 15 = nI K ∧ K ≤ 8) ∧ (∀ k, k < K → g (b + 2034) k = gA σ 1 (4 * k + 2) &&& 255 ∧ g (b + 2035) k = gA σ 1 (4 * k + 3) &&& 255) ∧
  (∀ k w, k < K → w < F 3 → ov k w ≤ 41 ∧ g (b + 2040 + w) k = nI (ov k w) ∧ gA σ 24 (6 * k + w) = nI (ov k w)) ∧ ∀ w, w < F 3 → A w ≤ F 2 ∧ gA σ 25 w = nI (A w) ∧ g (b + 2036) w = wk (A w)
theorem fx_ov (hF : FX h b) (g : Nat → Nat → Int32) {w : Nat} (hw : w < 6) : fA (iS h g) (b + 2039) 34 (nI w) = some (b + 2040 + w) := by
  obtain ⟨t1, t2⟩ := hF.2.2.2.2.1 2039 34 6 rfl
  exact (fA_n (h := iS h g) t1 (by rw [kN_iS, t2]; exact hw) (by rw [kN_iS, t2]; decide)).trans (hF.2.2.2.2.2.1 w hw).1
theorem fx_oI (hF : FX h b) (g : Nat → Nat → Int32) {w k : Nat} (hw : w < 6) (hk : k < 8) : aI (iS h g) (b + 2040 + w) 31 (nI k) = some (g (b + 2040 + w) k) := by
  obtain ⟨-, t1, t2⟩ := hF.2.2.2.2.2.1 w hw
  exact aI_n (h := iS h g) t1 (by rw [kN_iS, t2]; exact hk) (by rw [kN_iS, t2]; decide)
theorem fx_oW (hF : FX h b) (g : Nat → Nat → Int32) {w k : Nat} {v : Int32} (hw : w < 6) (hk : k < 8) : wI (iS h g) (b + 2040 + w) 31 (nI k) v = some (iS h (u2 g (b + 2040 + w) k v)) := by
  obtain ⟨-, t1, t2⟩ := hF.2.2.2.2.2.1 w hw
  exact wI_n (h := iS h g) t1 (by rw [kN_iS, t2]; exact hk) (by rw [kN_iS, t2]; decide) (by rw [kG_iS]; have := hF.2.1; omega)
theorem so_c (R : RK h g b a K F nm ov A σ) {k w m : Nat} {s1 s2 : Int32} (hk : k < K) (hw : w < F 3) (w6 : w < 6) : lX1_isSo_7 N (iS h g) (m + 1) b (nI k) s1 s2 (nI w) = if A w = 0 ∨ ov k w = 0 then lX1_isSo_7 N (iS h g) m b (nI k) s1 s2 (nI (w + 1)) else lX1_isSo_7 N (iS h g) m b (nI k) (s1 + nI (ov k w) * nI (F (7 + (A w - 1))) * nI (F 6)) (nI (F (13 + (A w - 1)))) (nI (w + 1)) := by
  obtain ⟨hF, hH, h3, hM, ⟨hK, K8⟩, hT, hO, hA⟩ := R
  obtain ⟨o1, o2, o3⟩ := hO k w hk hw
  obtain ⟨a1, a2, a3⟩ := hA w hw
  have R3 : fR (iS h g) b 1 1 3 = some a := (fx_f hF g).trans h3
  have H6 := ho_R hH (k := 6) (by decide) (by decide)
  have H5 := ho_R hH (k := 5) (by decide) (by decide)
  have sz := ls_size (N := N) (ho_w hH)
  have l1 : ¬ nI (F 3) ≤ nI w := nI_ge hw (by have := hM.1.1.2.2.2.1; omega)
  have n1 : nI w + 1 = nI (w + 1) := nI_add _ 1
  rw [lX1_isSo_7, R3]
  simp only [Option.bind_some, H6, ls_g (ho_w hH), sz, if_neg l1, fx_R11 hF g, fx_I11 hF g w6, a3, n1]
  cases e : A w with
  | zero => rw [wk_0, if_pos rfl, if_pos (Or.inl rfl)]
  | succ p =>
    have hp : p < F 2 := by omega
    have z : ¬ nI p = -1 := fun q => (pl_em1 (a := p) (by have := hM.1.1.2.2.1; omega)).mp q
    rw [wk_s, if_neg z]
    simp only [Option.bind_some, H5, ls_g (ho_p hH), ls_get (ho_p hH) hp, ho_pg hH hp, fx_R14 hF g, fx_ov hF g w6, fx_oI hF g w6 (Nat.lt_of_lt_of_le hk K8), o2, ho_p1 hH hp, ho_p2 hH hp, ho_2 hH, lt_, Nat.add_sub_cancel]
    by_cases c : ov k w = 0
    · rw [c, if_pos (by decide), if_pos (Or.inr rfl), show nI 0 = (0 : Int32) from rfl, Int32.zero_mul, Int32.zero_mul, Int32.add_zero]
    · have z2 : ¬ nI (ov k w) ≤ 0 := nI_ge (a := 0) (by omega) (by omega)
      rw [if_neg z2, if_neg (by omega)]
theorem so_m (R : RK h g b a K F nm ov A σ) {k w m : Nat} {y1 s1 s2 : Int32} (hk : k < K) (hw : w < F 3) (w6 : w < 6) : lX5_isReading_15 N σ (m + 1) y1 (nI k) s1 s2 (nI w) = if A w = 0 ∨ ov k w = 0 then lX5_isReading_15 N σ m y1 (nI k) s1 s2 (nI (w + 1)) else lX5_isReading_15 N σ m y1 (nI k) (s1 + nI (ov k w) * nI (F (7 + (A w - 1))) * nI (F 6)) (nI (F (13 + (A w - 1)))) (nI (w + 1)) := by
  obtain ⟨hF, hH, h3, hM, ⟨hK, K8⟩, hT, hO, hA⟩ := R
  obtain ⟨o1, o2, o3⟩ := hO k w hk hw
  obtain ⟨a1, a2, a3⟩ := hA w hw
  have k2 := hM.1.1.2.2.1
  have r3 : rA σ 6 3 = some (nI (F 3)) := mo_i (i := 3) hM (by decide)
  have l1 : ¬ nI (F 3) ≤ nI w := nI_ge hw (by have := hM.1.1.2.2.2.1; omega)
  have n1 : nI w + 1 = nI (w + 1) := nI_add _ 1
  have r25 : rA σ 25 (nI w) = some (nI (A w)) := (rA25 w6).trans (congrArg some a2)
  have r24 : rA σ 24 (6 * nI k + nI w) = some (nI (ov k w)) := by rw [pl_lm, nI_add, rA24 (by show 6 * k + w < 48; omega)]; exact congrArg some o3
  rw [lX5_isReading_15, r3]
  simp only [Option.bind_some, if_neg l1, r25, n1]
  by_cases e : A w = 0
  · rw [if_pos (by rw [e]; rfl), if_pos (Or.inl e)]
  · have z : ¬ nI (A w) = 0 := fun q => e ((nI_eq (b := 0) (by omega) (by decide)).mp q)
    rw [if_neg z, r24]
    simp only [Option.bind_some]
    by_cases c : ov k w = 0
    · rw [if_pos (by rw [c]; rfl), if_pos (Or.inr c)]
    · have z2 : ¬ nI (ov k w) = 0 := fun q => c ((nI_eq (b := 0) (by omega) (by decide)).mp q)
      have r7 : rA σ 6 (7 + nI (A w) - 1) = some (nI (F (7 + (A w - 1)))) := by
        rw [pl_la, pl_sl (n := 1) (by show 1 ≤ 7 + A w; omega), show (OfNat.ofNat 7 + A w - OfNat.ofNat 1 : Nat) = 7 + (A w - 1) from by show 7 + A w - 1 = _; omega]; exact mo_i hM (by omega)
      have r13 : rA σ 6 (13 + nI (A w) - 1) = some (nI (F (13 + (A w - 1)))) := by
        rw [pl_la, pl_sl (n := 1) (by show 1 ≤ 13 + A w; omega), show (OfNat.ofNat 13 + A w - OfNat.ofNat 1 : Nat) = 13 + (A w - 1) from by show 13 + A w - 1 = _; omega]; exact mo_i hM (by omega)
      rw [if_neg z2, if_neg (by omega), r7, mo_6 hM, r13]
      simp only [Option.bind_some, lt_]
theorem so_eq (hN : 200000 ≤ N) (R : RK h g b a K F nm ov A σ) {k : Nat} {y1 : Int32} (hk : k < K) : ∃ s, lX1_isSo_7 N (iS h g) N b (nI k) 0 (-1) 0 = some s ∧ lX5_isReading_15 N σ N y1 (nI k) 0 (-1) 0 = some s := by
  have k3 : F 3 ≤ 6 := R.2.2.2.1.1.1.2.2.2.1
  refine exE2 (lp_two (fun m (x : Int32 × Int32) i => lX1_isSo_7 N (iS h g) m b (nI k) x.1 x.2 i) (fun m (x : Int32 × Int32) i => lX5_isReading_15 N σ m y1 (nI k) x.1 x.2 i) (F 3) (fun i x y => x = y) (fun x y => x = y) ?_ ?_ (F 3) 0 (0, -1) (0, -1) N (by omega) (by omega) rfl) fun r r' e1 e2 hq => ⟨r, e1, by rw [hq]; exact e2⟩
  · rintro m i ⟨s1, s2⟩ _ hi rfl
    right
    have c1 := so_c (N := N) (m := m) (s1 := s1) (s2 := s2) R hk hi (by omega)
    have c2 := so_m (N := N) (m := m) (y1 := y1) (s1 := s1) (s2 := s2) R hk hi (by omega)
    by_cases c : A i = 0 ∨ ov k i = 0
    · rw [if_pos c] at c1 c2
      exact ⟨(s1, s2), (s1, s2), rfl, c1, c2⟩
    · rw [if_neg c] at c1 c2
      exact ⟨(_, _), (_, _), rfl, c1, c2⟩
  · rintro m ⟨s1, s2⟩ _ rfl
    obtain ⟨hF, hH, h3, hM, -⟩ := R
    refine ⟨(s1, s2), (s1, s2), ?_, ?_, rfl⟩
    · show lX1_isSo_7 N (iS h g) (m + 1) b (nI k) s1 s2 (nI (F 3)) = _
      have R3 : fR (iS h g) b 1 1 3 = some a := (fx_f hF g).trans h3
      rw [lX1_isSo_7, R3]
      simp only [Option.bind_some, ho_R hH (k := 6) (by decide) (by decide), ls_g (ho_w hH), ls_size (N := N) (ho_w hH)]
      rw [if_pos (Int32.le_refl _)]
    · show lX5_isReading_15 N σ (m + 1) y1 (nI k) s1 s2 (nI (F 3)) = _
      rw [lX5_isReading_15, show rA σ 6 3 = some (nI (F 3)) from mo_i (i := 3) hM (by decide)]
      simp only [Option.bind_some]
      rw [if_pos (Int32.le_refl _)]
/-- a told tuft: both say the same -/
theorem so_one (hN : 200000 ≤ N) (R : RK h g b a K F nm ov A σ) {k : Nat} (hk : k < K) : (fX1_isSo N (iS h g) b (nI k) = some 1 ∧ ∀ m, lX5_isReading_2 N σ (m + 1) (nI K) (nI k) = lX5_isReading_2 N σ m (nI K) (nI (k + 1))) ∨ (fX1_isSo N (iS h g) b (nI k) = some 0 ∧ ∀ m, lX5_isReading_2 N σ (m + 1) (nI K) (nI k) = some (.inr 0)) := by
  obtain ⟨⟨s1, s2⟩, e1, e2⟩ := so_eq (y1 := nI K) hN R hk
  obtain ⟨hF, hH, h3, hM, ⟨hK, K8⟩, hT, hO, hA⟩ := R
  obtain ⟨t1, t2⟩ := hT k hk
  have l1 : ¬ nI K ≤ nI k := nI_ge hk (by omega)
  have n1 : nI k + 1 = nI (k + 1) := nI_add _ 1
  have o2 : fX5_octet N σ (4 * nI k + 2) = some (gA σ 1 (4 * k + 2) &&& 255) := by rw [pl_lm, pl_al]; exact mo_octet (by show 4 * k + 2 < 940; omega)
  have o3 : fX5_octet N σ (4 * nI k + 3) = some (gA σ 1 (4 * k + 3) &&& 255) := by rw [pl_lm, pl_al]; exact mo_octet (by show 4 * k + 3 < 940; omega)
  have C : fX1_isSo N (iS h g) b (nI k) = if s1 = gA σ 1 (4 * k + 2) &&& 255 then (if gA σ 1 (4 * k + 3) &&& 255 = 255 then some 1 else if gA σ 1 (4 * k + 3) &&& 255 = s2 then some 1 else some 0) else some 0 := by
    unfold fX1_isSo
    rw [e1]
    simp (disch := omega) only [Option.bind_some, fx_R9 hF g, fx_I9 hF g, fx_R10 hF g, fx_I10 hF g, t1, t2]
  have M : ∀ m, lX5_isReading_2 N σ (m + 1) (nI K) (nI k) = if s1 = gA σ 1 (4 * k + 2) &&& 255 then (if gA σ 1 (4 * k + 3) &&& 255 = 255 then lX5_isReading_2 N σ m (nI K) (nI (k + 1)) else if gA σ 1 (4 * k + 3) &&& 255 = s2 then lX5_isReading_2 N σ m (nI K) (nI (k + 1)) else some (.inr 0)) else some (.inr 0) := fun m => by
    rw [lX5_isReading_2, if_neg l1, e2]
    simp only [Option.bind_some, o2, o3, n1]
  rw [C]
  simp only [M]
  by_cases c1 : s1 = gA σ 1 (4 * k + 2) &&& 255
  · simp only [if_pos c1]
    by_cases c2 : gA σ 1 (4 * k + 3) &&& 255 = 255
    · simp only [if_pos c2]; exact Or.inl ⟨trivial, fun _ => trivial⟩
    · simp only [if_neg c2]
      by_cases c3 : gA σ 1 (4 * k + 3) &&& 255 = s2
      · simp only [if_pos c3]; exact Or.inl ⟨trivial, fun _ => trivial⟩
      · simp only [if_neg c3]; exact Or.inr ⟨trivial, fun _ => trivial⟩
  · simp only [if_neg c1]; exact Or.inr ⟨trivial, fun _ => trivial⟩
theorem so_all (hN : 200000 ≤ N) (R : RK h g b a K F nm ov A σ) (rec : HS → Nat → Int32 → Option HS) : (lX1_tryWays_53 N rec (iS h g) N b 0 = some (.inl ()) ∧ fX5_isReading N σ (nI K) = some 1) ∨ (lX1_tryWays_53 N rec (iS h g) N b 0 = some (.inr (iS h g)) ∧ fX5_isReading N σ (nI K) = some 0) := by
  obtain ⟨hF, hH, h3, hM, ⟨hK, K8⟩, -⟩ := id R
  have hb : oI (iS h g) b 1 1 15 = some (nI K) := (fx_b hF g).trans (congrArg some hK)
  refine exE2 (lp_two (fun m (_ : Unit) i => lX1_tryWays_53 N rec (iS h g) m b i) (fun m (_ : Unit) i => lX5_isReading_2 N σ m (nI K) i) K (fun i x y => True) (fun x y => (x = .inl () ∧ y = .inl ()) ∨ (x = .inr (iS h g) ∧ y = .inr 0)) ?_ ?_ K 0 () () N (by omega) (by omega) trivial) fun r r' e1 e2 hq => ?_
  · intro m i _ _ hi _
    have l1 : ¬ nI K ≤ nI i := nI_ge hi (by omega)
    have n1 : nI i + 1 = nI (i + 1) := nI_add _ 1
    rcases so_one hN R hi with ⟨q1, q2⟩ | ⟨q1, q2⟩
    · right
      refine ⟨(), (), trivial, ?_, q2 m⟩
      rw [lX1_tryWays_53, hb]
      simp only [Option.bind_some, if_neg l1, fx_g hF g, q1, one0, if_false, n1]
    · left
      refine ⟨_, _, ?_, q2 m, Or.inr ⟨rfl, rfl⟩⟩
      rw [lX1_tryWays_53, hb]
      simp only [Option.bind_some, if_neg l1, fx_g hF g, q1, eq_self, if_true]
  · intro m _ _ _
    refine ⟨.inl (), .inl (), ?_, ?_, Or.inl ⟨rfl, rfl⟩⟩
    · rw [lX1_tryWays_53, hb]
      simp only [Option.bind_some]
      rw [if_pos (Int32.le_refl _)]
    · rw [lX5_isReading_2, if_pos (Int32.le_refl _)]
  · have e1 : lX1_tryWays_53 N rec (iS h g) N b 0 = some r := e1
    have e2 : lX5_isReading_2 N σ N (nI K) 0 = some r' := e2
    unfold fX5_isReading
    rw [e1, e2]
    rcases hq with ⟨rfl, rfl⟩ | ⟨rfl, rfl⟩
    · exact Or.inl ⟨rfl, rfl⟩
    · exact Or.inr ⟨rfl, rfl⟩
end PRH
