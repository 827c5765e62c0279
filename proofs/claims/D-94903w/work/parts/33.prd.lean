/-! tufts, and what lies beside them: both sides -/
def inB (x : Int32) (n : Nat) : Bool := !decide (x < 0) && decide (x.toNatClampNeg < n)
theorem inB_n {i n : Nat} (hi : i < 2147483648) : inB (nI i) n = decide (i < n) := by
  unfold inB
  rw [nI_clamp hi, decide_eq_false (nI_pos hi)]; rfl
theorem inB_neg {x : Int32} {n : Nat} (hx : x < 0) : inB x n = false := by
  unfold inB
  rw [decide_eq_true hx]; rfl
theorem pl_m0 : nI 0 - 1 = (-1 : Int32) := by decide
theorem pl_nlt {n : Nat} (h : n < 2147483648) : ((-1 : Int32) < nI n) = True := eq_true (by
  rw [Int32.lt_iff_toInt_lt, nI_toInt h]
  have : (-1 : Int32).toInt = -1 := by decide
  omega)
theorem pl_n0 : ((-1 : Int32) < 0) = True := eq_true (by decide)
theorem isIn_in (x : Int32) {n : Nat} (hn : n < 2147483648) : fX1_isIn x 0 (nI n - 1) = if inB x n = true then 1 else 0 := by
  unfold fX1_isIn
  rcases pl_cs x with hx | ⟨i, hi, rfl⟩
  · rw [if_pos hx, inB_neg hx]; rfl
  · rw [if_neg (nI_pos hi), inB_n hi]
    by_cases h0 : n = 0
    · subst h0
      rw [pl_m0, if_pos (of_eq_true (pl_nlt hi)), if_neg (by simp)]
    · rw [pl_sl (n := 1) (show 1 ≤ n by omega)]
      by_cases hin : i < n
      · rw [if_neg (nI_nlt (show i ≤ n - 1 by omega) (show n - 1 < 2 ^ 31 by omega)), decide_eq_true hin]; rfl
      · rw [if_pos (nI_lt (show n - 1 < i by omega) hi), decide_eq_false hin]; rfl
theorem isIn_5 : fX5_isIn = fX1_isIn := rfl
theorem one0 : ((1 : Int32) = 0) = False := eq_false (by decide)
theorem m10 : ((-1 : Int32) = 0) = False := eq_false (by decide)
theorem ite10 {c : Prop} [Decidable c] : ((if c then (1 : Int32) else 0) = 0) = ¬ c := by
  by_cases h : c
  · simp [h]
  · simp [h]
def tufD (F : Nat → Nat) (n : Nat) : Bool := decide (n % 12 < F 0) && decide (n / 12 < F 1)
theorem tufD_iff {F : Nat → Nat} {n : Nat} : tufD F n = true ↔ tuf F n := by
  unfold tufD tuf; simp
theorem tuf_lt {F : Nat → Nat} {n : Nat} (h1 : F 0 ≤ 12) (h2 : F 1 ≤ 12) (h : tuf F n) : n < 144 := by
  obtain ⟨a, b⟩ := h
  omega
/-- what 'isTuft' says -/
def tfN (F : Nat → Nat) (x : Int32) : Int32 := if x < 0 then 0 else if tufD F x.toNatClampNeg = true then 1 else 0
theorem tfN_n {F : Nat → Nat} {n : Nat} (h : n < 2147483648) : tfN F (nI n) = if tufD F n = true then 1 else 0 := by
  unfold tfN; rw [if_neg (nI_pos h), nI_clamp h]
def oN (x : Option Nat) : Int32 := match x with
  | none => -1
  | some n => nI n
def bes (F : Nat → Nat) (t d : Nat) : Option Nat :=
  if d = 0 then (if t % 12 < F 0 ∧ 1 ≤ t / 12 ∧ t / 12 - 1 < F 1 then some (t - 12) else none)
  else if d = 1 then (if t % 12 + 1 < F 0 ∧ t / 12 < F 1 then some (t + 1) else none)
  else if d = 2 then (if t % 12 < F 0 ∧ t / 12 + 1 < F 1 then some (t + 12) else none)
  else (if (1 ≤ t % 12 ∧ t % 12 - 1 < F 0) ∧ t / 12 < F 1 then some (t - 1) else none)
theorem bes_tuf {F : Nat → Nat} {t d o : Nat} (k0 : F 0 ≤ 12) (h : bes F t d = some o) : tuf F o := by
  unfold bes at h
  unfold tuf
  split at h
  · split at h
    · cases h; omega
    · cases h
  · split at h
    · split at h
      · cases h; omega
      · cases h
    · split at h
      · split at h
        · cases h; omega
        · cases h
      · split at h
        · cases h; omega
        · cases h
/-- the constants: EAST, SOUTH -/
def CstR (h : HS) (g : Nat → Nat → Int32) (b : Nat) : Prop := (imm b (kZ h) (kG h 10) ∧ kT h (kG h 10) = 31 ∧ kN h (kG h 10) = 4 ∧ g (kG h 10) 0 = 0 ∧ g (kG h 10) 1 = 1 ∧ g (kG h 10) 2 = 0 ∧ g (kG h 10) 3 = -1) ∧ (imm b (kZ h) (kG h 11) ∧ kT h (kG h 11) = 31 ∧ kN h (kG h 11) = 4 ∧ g (kG h 11) 0 = -1 ∧ g (kG h 11) 1 = 0 ∧ g (kG h 11) 2 = 1 ∧ g (kG h 11) 3 = 0)
section PRD
variable {h : HS} {g : Nat → Nat → Int32} {b a N : Nat} {F : Nat → Nat} {nm : Nat → Int64}
theorem HouR.ok (hH : HouR h g b a F nm) : HOK F := hH.1
theorem ho_cell (hH : HouR h g b a F nm) (x y : Int32) : fX2_isCell N (iS h g) a x y = some (if (inB x (F 0) && inB y (F 1)) = true then 1 else 0) := by
  obtain ⟨⟨k0, k1, -⟩, -⟩ := hH.1
  unfold fX2_isCell
  simp only [ho_0 hH, ho_1 hH, Option.bind_some]
  rw [isIn_in x (by omega), isIn_in y (by omega)]
  cases inB x (F 0) <;> cases inB y (F 1) <;> simp
theorem ho_tuft (hH : HouR h g b a F nm) (x : Int32) : fX2_isTuft N (iS h g) a x = some (tfN F x) := by
  unfold fX2_isTuft
  rcases pl_cs x with hx | ⟨i, hi, rfl⟩
  · rw [if_pos hx]; unfold tfN; rw [if_pos hx]
  · rw [if_neg (nI_pos hi), ho_g hH, ho_cell hH, tfN_n hi]
    simp (disch := omega) only [pl_irm, pl_div, Option.bind_some, inB_n]
    unfold tufD
    by_cases h1 : i % 12 < F 0 <;> by_cases h2 : i / 12 < F 1 <;> simp [h1, h2]
theorem mo_tuft {σ : MS} (h0 : gA σ 6 0 = nI (F 0)) (h1 : gA σ 6 1 = nI (F 1)) (k0 : F 0 ≤ 12) (k1 : F 1 ≤ 12) (x : Int32) : fX5_isTuft N σ x = some (tfN F x) := by
  unfold fX5_isTuft
  rcases pl_cs x with hx | ⟨i, hi, rfl⟩
  · rw [if_pos hx]; unfold tfN; rw [if_pos hx]
  · rw [if_neg (nI_pos hi), rL6 (by decide), rL6 (by decide), tfN_n hi]
    simp (disch := omega) only [pl_irm, pl_div, Option.bind_some]
    have e0 : gA σ 6 (OfNat.ofNat 0) = nI (F 0) := h0
    have e1 : gA σ 6 (OfNat.ofNat 1) = nI (F 1) := h1
    rw [e0, e1]
    unfold tufD
    by_cases q1 : i % 12 < F 0
    · rw [if_neg (nI_ge q1 (by omega))]
      by_cases q2 : i / 12 < F 1
      · rw [if_neg (nI_ge q2 (by omega))]; simp [q1, q2]
      · rw [if_pos (nI_le (by omega) (by omega))]; simp [q2]
    · rw [if_pos (nI_le (by omega) (by omega))]; simp [q1]
theorem pl_m1z {n : Nat} (h : n = 0) : nI n + (-1) = -1 := by subst h; decide
theorem nI_z (n : Nat) : nI n + (0 : Int32) = nI n := Int32.add_zero _
theorem ho_bes (hC : CstR h g b) (hH : HouR h g b a F nm) {t d : Nat} (ht : t < 144) (hd : d < 4) : fX2_beside N (iS h g) a (nI t) (nI d) = some (oN (bes F t d)) := by
  obtain ⟨⟨-, c1, c2, e0, e1, e2, e3⟩, ⟨-, d1, d2, s0, s1, s2, s3⟩⟩ := hC
  unfold fX2_beside
  rw [kG_iS, aI_n (h := iS h g) c1 (by rw [kN_iS, c2]; exact hd) (by rw [kN_iS, c2]; decide), aI_n (h := iS h g) d1 (by rw [kN_iS, d2]; exact hd) (by rw [kN_iS, d2]; decide), kI_iS]
  simp (disch := omega) only [Option.bind_some, ho_g hH, ho_cell hH, pl_irm, pl_div]
  have hd4 : d = 0 ∨ d = 1 ∨ d = 2 ∨ d = 3 := by omega
  rcases hd4 with rfl | rfl | rfl | rfl
  · rw [e0, s0, nI_z, inB_n (by omega)]
    by_cases hz : t / 12 = 0
    · rw [pl_m1z hz, inB_neg (x := -1) (by decide)]
      simp [bes, hz, oN]
    · rw [pl_m1 (by omega), inB_n (by omega), pl_lm, nI_add]
      by_cases q1 : t % 12 < F 0 <;> by_cases q2 : t / 12 - 1 < F 1 <;> simp [bes, oN, q1, q2, show 1 ≤ t / 12 from by omega]
      congr 1; omega
  · rw [e1, s1, nI_z, pl_al, inB_n (by omega), inB_n (by omega), pl_lm, nI_add]
    by_cases q1 : t % 12 + 1 < F 0 <;> by_cases q2 : t / 12 < F 1 <;> simp [bes, oN, q1, q2]
    congr 1; omega
  · rw [e2, s2, nI_z, pl_al, inB_n (by omega), inB_n (by omega), pl_lm, nI_add]
    by_cases q1 : t % 12 < F 0 <;> by_cases q2 : t / 12 + 1 < F 1 <;> simp [bes, oN, q1, q2]
    congr 1; omega
  · rw [e3, s3, nI_z, inB_n (i := t / 12) (by omega)]
    by_cases hz : t % 12 = 0
    · rw [pl_m1z hz, inB_neg (x := -1) (by decide)]
      simp [bes, hz, oN]
    · rw [pl_m1 (by omega), inB_n (by omega), pl_lm, nI_add]
      by_cases q1 : t % 12 - 1 < F 0 <;> by_cases q2 : t / 12 < F 1 <;> simp [bes, oN, q1, q2, show 1 ≤ t % 12 from by omega]
      congr 1; omega
theorem mo_besO {t d : Nat} (k0 : F 0 ≤ 12) (k1 : F 1 ≤ 12) (ht : t < 144) (hd : d < 4) : fX5_besideOf (nI t) (nI d) (nI (F 0)) (nI (F 1)) = oN (bes F t d) := by
  unfold fX5_besideOf
  rw [isIn_5]
  simp (disch := omega) only [pl_irm, pl_div, isIn_in, lt_]
  have hd4 : d = 0 ∨ d = 1 ∨ d = 2 ∨ d = 3 := by omega
  rcases hd4 with rfl | rfl | rfl | rfl
  · simp (disch := omega) only [pl_eqf1, if_false, nI_0, if_true, Int32.add_zero, ite10]
    rw [inB_n (by omega)]
    by_cases hz : t / 12 = 0
    · rw [pl_m1z hz, inB_neg (x := -1) (by decide)]
      simp [bes, hz, oN]
    · rw [pl_m1 (by omega), inB_n (by omega), pl_lm, nI_add]
      by_cases q1 : t % 12 < F 0 <;> by_cases q2 : t / 12 - 1 < F 1 <;> simp [bes, oN, q1, q2, show 1 ≤ t / 12 from by omega]
      congr 1; omega
  · simp (disch := omega) only [pl_eqf1, if_false, show nI 1 = 1 from rfl, if_true, Int32.add_zero, ite10, show ((1 : Int32) = 2) = False from eq_false (by decide), one0]
    rw [pl_al, inB_n (by omega), inB_n (by omega), pl_lm, nI_add]
    by_cases q1 : t % 12 + 1 < F 0 <;> by_cases q2 : t / 12 < F 1 <;> simp [bes, oN, q1, q2]
    congr 1; omega
  · simp (disch := omega) only [pl_eqf1, if_false, show nI 2 = 2 from rfl, if_true, Int32.add_zero, ite10, show ((2 : Int32) = 1) = False from eq_false (by decide), show ((2 : Int32) = 3) = False from eq_false (by decide)]
    rw [pl_al, inB_n (by omega), inB_n (by omega), pl_lm, nI_add]
    by_cases q1 : t % 12 < F 0 <;> by_cases q2 : t / 12 + 1 < F 1 <;> simp [bes, oN, q1, q2]
    congr 1; omega
  · simp (disch := omega) only [pl_eqf1, if_false, show nI 3 = 3 from rfl, if_true, Int32.add_zero, ite10, show ((3 : Int32) = 1) = False from eq_false (by decide), show ((3 : Int32) = 2) = False from eq_false (by decide), show ((3 : Int32) = 0) = False from eq_false (by decide)]
    rw [inB_n (i := t / 12) (by omega)]
    by_cases hz : t % 12 = 0
    · rw [pl_m1z hz, inB_neg (x := -1) (by decide)]
      simp [bes, hz, oN]
    · rw [pl_m1 (by omega), inB_n (by omega), pl_lm, nI_add]
      by_cases q1 : t % 12 - 1 < F 0 <;> by_cases q2 : t / 12 < F 1 <;> simp [bes, oN, q1, q2, show 1 ≤ t % 12 from by omega]
      congr 1; omega
theorem mo_bes {σ : MS} (h0 : gA σ 6 0 = nI (F 0)) (h1 : gA σ 6 1 = nI (F 1)) (k0 : F 0 ≤ 12) (k1 : F 1 ≤ 12) {t d : Nat} (ht : t < 144) (hd : d < 4) : fX5_beside N σ (nI t) (nI d) = some (oN (bes F t d)) := by
  unfold fX5_beside
  rw [rL6 (by decide), rL6 (by decide)]
  simp only [Option.bind_some]
  rw [show gA σ 6 (OfNat.ofNat 0) = nI (F 0) from h0, show gA σ 6 (OfNat.ofNat 1) = nI (F 1) from h1, mo_besO k0 k1 ht hd]
/-- the open tuft beside one -/
def ope (F : Nat → Nat) (t d : Nat) : Option Nat := match bes F t d with
  | none => none
  | some o => if F (25 + o) = 1 then none else some o
theorem ope_tuf {F : Nat → Nat} {t d o : Nat} (k0 : F 0 ≤ 12) (h : ope F t d = some o) : tuf F o ∧ F (25 + o) ≠ 1 := by
  unfold ope at h
  cases e : bes F t d with
  | none => rw [e] at h; cases h
  | some o2 =>
    rw [e] at h
    simp only at h
    by_cases q : F (25 + o2) = 1
    · rw [if_pos q] at h; cases h
    · rw [if_neg q] at h; cases h
      exact ⟨bes_tuf k0 e, q⟩
theorem ho_ope (hC : CstR h g b) (hH : HouR h g b a F nm) {t d : Nat} (ht : t < 144) (hd : d < 4) : fX2_open N (iS h g) a (nI t) (nI d) = some (oN (ope F t d)) := by
  unfold fX2_open
  rw [ho_g hH, ho_bes hC hH ht hd]
  simp only [Option.bind_some]
  unfold ope
  obtain ⟨⟨k0, k1, -⟩, -, -, hw, -⟩ := hH.1
  cases e : bes F t d with
  | none => rfl
  | some o =>
    have ho := tuf_lt k0 k1 (bes_tuf k0 e)
    have hw := hw o ho
    simp (disch := omega) only [oN, pl_em1, if_false, ho_R hH, Option.bind_some, ho_wall hH]
    have : F (25 + o) = 0 ∨ F (25 + o) = 1 := by omega
    rcases this with q | q
    · rw [q]; simp [nI_0, oN]
    · rw [q]; simp [show nI 1 = 1 from rfl, oN]
end PRD
