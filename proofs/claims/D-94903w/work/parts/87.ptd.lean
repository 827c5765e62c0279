/-! strings: where one stands in another one; names -/
section PTD
variable {S : Nat → Prop} {h h' : HS} {σ : MS} {N b : Nat} {l T P : List Nat} {aT aP : Nat}
/-- the bytes of an array -/
def BA (h : HS) (a : Nat) (T : List Nat) : Prop := kT h a = 32 ∧ kN h a = T.length ∧ T.length < 1000 ∧ (∀ i, i < T.length → kI h a i = nI (T.getD i 0)) ∧ ∀ c, c ∈ T → c < 256
theorem BA.r (hB : BA h aT T) {i : Nat} (hi : i < T.length) : aI h aT 32 (nI i) = some (nI (T.getD i 0)) := by
  obtain ⟨t1, t2, t3, t4, -⟩ := hB
  rw [aI_n t1 (by rw [t2]; exact hi) (by rw [t2]; omega), t4 i hi]
theorem BA.by8 (hB : BA h aT T) (i : Nat) : T.getD i 0 < 256 := by
  by_cases hi : i < T.length
  · exact hB.2.2.2.2 _ (getD_mem hi)
  · rw [List.getD_eq_getElem?_getD, List.getElem?_eq_none (by omega)]; decide
theorem BA.len (hB : BA h aT T) : aL h aT 32 32 = some (nI T.length) := by rw [aL_n (Nat.le_of_eq hB.1.symm) (Nat.le_of_eq hB.1), hB.2.1]
/-- the next place of the first byte -/
theorem idx_30 (hT : BA h aT T) {m f y2 : Nat} {y3 : Int32} (hm : m < T.length) (hf : f < 256) : ∀ k i fuel, i + k = m → k < fuel → ∃ q, lJ10_indexOf_2_30 N h fuel aT y2 y3 (nI f) (nI m) (nI i) = some (nI q) ∧ i < q ∧ q ≤ m + 1 ∧ (q ≤ m → T.getD q 0 = f) ∧ ∀ j, i < j → j < q → T.getD j 0 ≠ f := by
  have tl := hT.2.2.1
  intro k
  induction k with
  | zero =>
    intro i fuel hi hf'
    obtain ⟨n, rfl⟩ : ∃ n, fuel = n + 1 := ⟨fuel - 1, by omega⟩
    refine ⟨i + 1, ?_, by omega, by omega, fun z => by omega, fun j j1 j2 => by omega⟩
    rw [lJ10_indexOf_2_30, show nI i + 1 = nI (i + 1) from nI_add _ 1, if_pos (nI_lt (by omega) (by omega))]
  | succ k ih =>
    intro i fuel hi hf'
    obtain ⟨n, rfl⟩ : ∃ n, fuel = n + 1 := ⟨fuel - 1, by omega⟩
    rw [lJ10_indexOf_2_30, show nI i + 1 = nI (i + 1) from nI_add _ 1, if_neg (nI_nlt (by omega) (by omega)), hT.r (show i + 1 < T.length by omega)]
    simp only [Option.bind_some]
    by_cases c : T.getD (i + 1) 0 = f
    · rw [if_pos (by rw [c])]
      exact ⟨i + 1, rfl, by omega, by omega, fun _ => c, fun j j1 j2 => by omega⟩
    · rw [if_neg (fun z => c ((nI_eq (by have := hT.by8 (i + 1); omega) (by omega)).mp z))]
      obtain ⟨q, e1, e2, e3, e4, e5⟩ := ih (i + 1) n (by omega) (by omega)
      refine ⟨q, e1, by omega, e3, e4, fun j j1 j2 => ?_⟩
      by_cases z : j = i + 1
      · rw [z]; exact c
      · exact e5 j (by omega) j2
/-- the rest is looked at -/
theorem idx_76 (hT : BA h aT T) (hP : BA h aP P) {q : Nat} {y3 y5 y6 y7 : Int32} (hq : q + P.length ≤ T.length) : ∀ k i fuel, i + k = P.length → k < fuel → ∃ j, lJ10_indexOf_2_76 N h fuel aT aP y3 y5 y6 y7 (nI (q + i)) (nI (q + P.length)) (nI i) = some (nI j) ∧ j ≤ q + P.length ∧ (j = q + P.length ↔ ∀ t, i ≤ t → t < P.length → T.getD (q + t) 0 = P.getD t 0) := by
  have tl := hT.2.2.1
  have pl := hP.2.2.1
  intro k
  induction k with
  | zero =>
    intro i fuel hi hf
    obtain ⟨n, rfl⟩ : ∃ n, fuel = n + 1 := ⟨fuel - 1, by omega⟩
    have ei : i = P.length := by omega
    refine ⟨q + i, ?_, by omega, ⟨fun _ t t1 t2 => by omega, fun _ => by omega⟩⟩
    rw [lJ10_indexOf_2_76, if_pos (by rw [ei]; exact Int32.le_refl _)]
  | succ k ih =>
    intro i fuel hi hf
    obtain ⟨n, rfl⟩ : ∃ n, fuel = n + 1 := ⟨fuel - 1, by omega⟩
    rw [lJ10_indexOf_2_76, if_neg (nI_ge (by omega) (by omega)), hT.r (show q + i < T.length by omega), hP.r (show i < P.length by omega)]
    simp only [Option.bind_some, show nI (q + i) + 1 = nI (q + (i + 1)) from nI_add _ 1, show nI i + 1 = nI (i + 1) from nI_add _ 1]
    by_cases c : T.getD (q + i) 0 = P.getD i 0
    · rw [if_pos (by rw [c])]
      obtain ⟨j, e1, e2, e3⟩ := ih (i + 1) n (by omega) (by omega)
      refine ⟨j, e1, e2, e3.trans ⟨fun z t t1 t2 => ?_, fun z t t1 t2 => z t (by omega) t2⟩⟩
      by_cases y : t = i
      · rw [y]; exact c
      · exact z t (by omega) t2
    · rw [if_neg (fun z => c ((nI_eq (by have := hT.by8 (q + i); omega) (by have := hP.by8 i; omega)).mp z))]
      exact ⟨q + i, rfl, by omega, ⟨fun z => by omega, fun z => absurd (z i (Nat.le_refl _) (by omega)) c⟩⟩
theorem idx_ok (hN : 200000 ≤ N) (hT : BA h aT T) (hP : BA h aP P) (p1 : 1 ≤ P.length) (p2 : P.length ≤ T.length) : ∃ r, fJ10_indexOf N h aT aP = some r ∧ ((r = -1 ∧ ∀ p, ¬ mtA T P p) ∨ ∃ p, r = nI p ∧ p < 1000 ∧ mtA T P p) := by
  have tl := hT.2.2.1
  have pl := hP.2.2.1
  obtain ⟨mx, emx⟩ : ∃ mx, mx = T.length - P.length := ⟨_, rfl⟩
  have b0 := hP.by8 0
  have key : ∀ k i fuel, i + k = mx + 1 → k < fuel → (∀ p, p < i → ¬ mtA T P p) → ∃ r, lJ10_indexOf_2_14 N h fuel aT aP (nI P.length) (nI (P.getD 0 0)) (nI mx) (nI i) = some r ∧ ((r = .inl () ∧ ∀ p, ¬ mtA T P p) ∨ ∃ p, r = .inr (nI p) ∧ p < 1000 ∧ mtA T P p) := by
    intro k
    induction k using Nat.strongRecOn with
    | _ k ih =>
      intro i fuel hi hf hn
      obtain ⟨n, rfl⟩ : ∃ n, fuel = n + 1 := ⟨fuel - 1, by omega⟩
      rw [lJ10_indexOf_2_14]
      by_cases c0 : i = mx + 1
      · rw [if_pos (nI_lt (by omega) (by omega))]
        exact ⟨_, rfl, Or.inl ⟨rfl, fun p z => hn p (by have := z.1; omega) z⟩⟩
      · rw [if_neg (nI_nlt (by omega) (by omega)), hT.r (show i < T.length by omega)]
        simp only [Option.bind_some]
        -- the place where the first byte stands
        obtain ⟨q, e1, q1, q2, q3, q4⟩ : ∃ q, (if nI (T.getD i 0) = nI (P.getD 0 0) then some (nI i) else (lJ10_indexOf_2_30 N h N aT aP (nI P.length) (nI (P.getD 0 0)) (nI mx) (nI i)).bind fun q9 => some q9) = some (nI q) ∧ i ≤ q ∧ q ≤ mx + 1 ∧ (q ≤ mx → T.getD q 0 = P.getD 0 0) ∧ ∀ j, i ≤ j → j < q → T.getD j 0 ≠ P.getD 0 0 := by
          by_cases c : T.getD i 0 = P.getD 0 0
          · exact ⟨i, by rw [if_pos (by rw [c])], Nat.le_refl _, by omega, fun _ => c, fun j j1 j2 => by omega⟩
          · obtain ⟨q, e1, e2, e3, e4, e5⟩ := idx_30 (N := N) (y2 := aP) (y3 := nI P.length) hT (show mx < T.length by omega) b0 (mx - i) i N (by omega) (by omega)
            refine ⟨q, ?_, by omega, e3, e4, fun j j1 j2 => ?_⟩
            · rw [if_neg (fun z => c ((nI_eq (by have := hT.by8 i; omega) (by omega)).mp z)), e1]; rfl
            · by_cases z : j = i
              · rw [z]; exact c
              · exact e5 j (by omega) j2
        have skp : ∀ p, p < q → ¬ mtA T P p := fun p hp z => by
          by_cases y : p < i
          · exact hn p y z
          · exact q4 p (by omega) hp (by have := z.2 0 (by omega); rw [Nat.add_zero] at this; exact this)
        rw [e1]
        simp only [Option.bind_some, show nI q + 1 = nI (q + 1) from nI_add _ 1]
        by_cases c1 : q = mx + 1
        · rw [if_pos (nI_lt (by omega) (by omega))]
          obtain ⟨m, rfl⟩ : ∃ m, n = m + 1 := ⟨n - 1, by omega⟩
          rw [lJ10_indexOf_2_14, if_pos (nI_lt (by omega) (by omega))]
          exact ⟨_, rfl, Or.inl ⟨rfl, fun p z => skp p (by have := z.1; omega) z⟩⟩
        · rw [if_neg (nI_nlt (by omega) (by omega))]
          have eu : nI (q + 1) + nI P.length - 1 = nI (q + P.length) := by
            rw [nI_add, show nI (q + 1 + P.length) - 1 = nI (q + 1 + P.length - 1) from pl_sl (n := 1) (by show 1 ≤ q + 1 + P.length; omega)]
            congr 1; omega
          obtain ⟨j, e2, j1, j2⟩ := idx_76 (N := N) (y3 := nI P.length) (y5 := nI (P.getD 0 0)) (y6 := nI mx) (y7 := nI q) hT hP (show q + P.length ≤ T.length by omega) (P.length - 1) 1 N (by omega) (by omega)
          simp only [lt_, eu]
          rw [show lJ10_indexOf_2_76 N h N aT aP (nI P.length) (nI (P.getD 0 0)) (nI mx) (nI q) (nI (q + 1)) (nI (q + P.length)) 1 = some (nI j) from e2]
          simp only [Option.bind_some]
          by_cases c2 : j = q + P.length
          · rw [if_pos (by rw [c2])]
            refine ⟨_, rfl, Or.inr ⟨q, rfl, by omega, by omega, fun t ht => ?_⟩⟩
            by_cases z : t = 0
            · rw [z, Nat.add_zero]; exact q3 (by omega)
            · exact j2.mp c2 t (by omega) ht
          · rw [if_neg (fun z => c2 ((nI_eq (by omega) (by omega)).mp z))]
            refine ih (mx - q) (by omega) (q + 1) n (by omega) (by omega) fun p hp z => ?_
            by_cases y : p = q
            · rw [y] at z
              exact c2 (j2.mpr fun t _ ht => z.2 t ht)
            · exact skp p (by omega) z
  obtain ⟨r, k1, k2⟩ := key (mx + 1) 0 N (by omega) (by omega) (fun p hp => absurd hp (Nat.not_lt_zero _))
  unfold fJ10_indexOf fJ10_indexOf_2
  rw [hP.len, hT.len]
  simp only [Option.bind_some]
  rw [if_neg (show ¬ nI P.length = 0 from fun z => by have := (nI_eq (b := 0) (by omega) (by decide)).mp z; omega), if_neg (show ¬ nI T.length = 0 from fun z => by have := (nI_eq (b := 0) (by omega) (by decide)).mp z; omega), show aI h aP 32 0 = some (nI (P.getD 0 0)) from hP.r (i := 0) (by omega)]
  simp only [Option.bind_some]
  rw [show nI T.length - nI P.length = nI mx from by rw [emx]; exact pk_sub p2, show lJ10_indexOf_2_14 N h N aT aP (nI P.length) (nI (P.getD 0 0)) (nI mx) 0 = some r from k1]
  rcases k2 with ⟨rfl, k2⟩ | ⟨p, rfl, k2, k3⟩
  · exact ⟨-1, rfl, Or.inl ⟨rfl, k2⟩⟩
  · exact ⟨nI p, rfl, Or.inr ⟨p, rfl, k2, k3⟩⟩
theorem StrR.ba {q : Nat} (hS : StrR h (kI h) b q l) (hl : l.length < 1000) (hc : ∀ c, c ∈ l → c < 256) : BA h (rf h q 0) l := ⟨hS.2.2.2.2.1, hS.2.2.2.2.2.1, hl, hS.2.2.2.2.2.2.2, hc⟩
theorem str_idx {qT qP : Nat} (hN : 200000 ≤ N) (hT : StrR h (kI h) b qT T) (hP : StrR h (kI h) b qP P) (t1 : T.length < 1000) (t2 : ∀ c, c ∈ T → c < 256) (p3 : ∀ c, c ∈ P → c < 256) (p1 : 1 ≤ P.length) (p2 : P.length ≤ T.length) : ∃ r, fJ6_indexOf N h qT qP = some r ∧ ((r = -1 ∧ ∀ p, ¬ mtA T P p) ∨ ∃ p, r = nI p ∧ p < 1000 ∧ mtA T P p) := by
  obtain ⟨r, e1, e2⟩ := idx_ok hN (hT.ba t1 t2) (hP.ba (by omega) p3) p1 p2
  refine ⟨r, ?_, e2⟩
  have gt := fun {α : Type} (x : Option α) => (gT_n (Nat.le_of_eq hT.2.1.symm) (Nat.le_of_eq hT.2.1) : gT h qT 17 17 x = x)
  have gp := fun {α : Type} (x : Option α) => (gT_n (Nat.le_of_eq hP.2.1.symm) (Nat.le_of_eq hP.2.1) : gT h qP 17 17 x = x)
  have ct : fJ6_coder N h qT = some 0 := by
    unfold fJ6_coder
    rw [oI_n (Nat.le_of_eq hT.2.1.symm) (Nat.le_of_eq hT.2.1), hT.2.2.2.2.2.2.1]; rfl
  have cp : fJ6_coder N h qP = some 0 := by
    unfold fJ6_coder
    rw [oI_n (Nat.le_of_eq hP.2.1.symm) (Nat.le_of_eq hP.2.1), hP.2.2.2.2.2.2.1]; rfl
  have li : fJ6_isLatin1 N h qT = some 1 := by
    unfold fJ6_isLatin1
    rw [oI_n (Nat.le_of_eq hT.2.1.symm) (Nat.le_of_eq hT.2.1), hT.2.2.2.2.2.2.1]; rfl
  have ft : fR h qT 17 17 0 = some (rf h qT 0) := (fR_n (Nat.le_of_eq hT.2.1.symm) (Nat.le_of_eq hT.2.1)).trans hT.2.2.1
  have fp : fR h qP 17 17 0 = some (rf h qP 0) := (fR_n (Nat.le_of_eq hP.2.1.symm) (Nat.le_of_eq hP.2.1)).trans hP.2.2.1
  unfold fJ6_indexOf
  simp only [gt, gp, ct, cp, li, Option.bind_some, if_true, one0, if_false, ft, fp, e1]
end PTD
