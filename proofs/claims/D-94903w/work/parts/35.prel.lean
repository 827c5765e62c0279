/-! the relation of both sides between two calls -/
def TopR (g : Nat → Nat → Int32) (r : Nat) (F : Nat → Nat) (f : Nat → Int32) (t : Nat) : Prop :=
  (f (436 + 4 * t) = 0 ∧ g (r + 2019) t = -1 ∧ g (r + 2020) t = -1 ∧ g (r + 2021) t = -1 ∧ g (r + 2022) t = -1 ∧ ∀ p i, p < 6 → i < 9 → TM f t p i = 0) ∨
  ∃ w o d s e, (w < 6 ∧ o < F 6 ∧ d + o ≤ 999 ∧ s ≤ 9 ∧ e < 4) ∧ f 429 = nI (d + o) ∧ f (436 + 4 * t) = nI (w + 1) ∧ f (436 + 4 * t + 1) = nI s ∧ f (436 + 4 * t + 2) = nI e ∧ f (436 + 4 * t + 3) = nI d ∧ g (r + 2019) t = nI w ∧ g (r + 2020) t = nI s ∧ g (r + 2021) t = nI e ∧ g (r + 2022) t = nI o ∧ ∀ p i, p < 6 → i < 9 → i < o → TM f t p i = 0
def RugR (g : Nat → Nat → Int32) (r : Nat) (F : Nat → Nat) (f : Nat → Int32) : Prop :=
  (∃ d, d ≤ 999 ∧ f 429 = nI d ∧ g r 1 = nI d) ∧ (∀ p, p < 6 → g (r + 2023) p = f (430 + p)) ∧ (∀ t p i, t < 144 → p < 6 → i < 9 → TC g r 3 t p i = TM f t p i) ∧ (∀ t p i, t < 144 → F 2 ≤ p → p < 6 → i < 9 → TM f t p i = 0) ∧
  (∀ t i, t < 144 → i < 9 → FM f t i = sm (fun p => TC g r 1012 t p i * nI (F (7 + p))) 6) ∧ ∀ t, t < 144 → TopR g r F f t
/-- a condition: its tree at c, its codes in the Model's order -/
def CondR (h : HS) (g : Nat → Nat → Int32) (b : Nat) (F : Nat → Nat) : Nat → Nat → List (Nat × Nat × Nat) → Prop
  | 0, _, _ => False
  | d + 1, c, L => imm b (kZ h) c ∧ ((kT h c = 11 ∧ isr h c 0 ∧ ∃ L1, CondR h g b F d (rf h c 0) L1 ∧ L = L1 ++ [(10, 0, 0)]) ∨
    (kT h c = 14 ∧ isr h c 0 ∧ isr h c 1 ∧ ∃ L1 L2 k, CondR h g b F d (rf h c 0) L1 ∧ CondR h g b F d (rf h c 1) L2 ∧ ((g c 2 = 1 ∧ k = 11) ∨ (g c 2 = 0 ∧ k = 12)) ∧ L = L1 ++ L2 ++ [(k, 0, 0)]) ∨
    (kT h c = 12 ∧ ∃ w, w < F 3 ∧ g c 0 = nI w ∧ L = [(0, 0, w)]) ∨ (kT h c = 13 ∧ ∃ x s n, x < 6 ∧ (s = 60 ∨ s = 61 ∨ s = 62) ∧ n ≤ 999 ∧ g c 0 = nI x ∧ g c 1 = nI s ∧ g c 2 = nI n ∧ L = [(x + 1, s, n)]))
def SenR (h : HS) (g : Nat → Nat → Int32) (b : Nat) (F : Nat → Nat) (c : Option Nat) (s : Nat → Int32) : Prop :=
  (c = none ∧ s 0 = 0) ∨ ∃ q L, c = some q ∧ 1 ≤ L.length ∧ L.length ≤ 45 ∧ CondR h g b F 60 q L ∧ s 0 = nI L.length ∧ ∀ i, i < L.length → s (1 + 3 * i) = nI (L.getD i (0, 0, 0)).1 ∧ s (1 + 3 * i + 1) = nI (L.getD i (0, 0, 0)).2.1 ∧ s (1 + 3 * i + 2) = nI (L.getD i (0, 0, 0)).2.2
/-- a house, its rug and its sentence, as the Model has them from index 0 on in f -/
def HRS (h : HS) (g : Nat → Nat → Int32) (b r : Nat) (ha sn : Option Nat) (nm : Nat → Int64) (f : Nat → Int32) (F : Nat → Nat) (a : Nat) : Prop :=
  ha = some a ∧ HouR h g b a F nm ∧ (∀ i, i < 429 → f i = nI (F i)) ∧ kR h r 0 = some a ∧ RugR g r F f ∧ SenR h g b F sn (fun i => f (10084 + i))
def resw (k : Nat) : Int64 := match k with
  | 0 => 7501159 | 1 => 123581014175598 | 2 => 2002873452 | 3 => 1685024626 | 4 => 7823737 | 5 => 1717658725 | 6 => 110 | 7 => 101 | 8 => 115 | 9 => 119 | 10 => 28530 | 11 => 6385252 | 12 => 7237492 | 13 => 1953656676 | 14 => 131277443786868 | 15 => 1936682085 | 16 => 1885430629 | 17 => 123636697429107 | 18 => 500185855091 | _ => 482854658917
/-- the strings of the class, ArrayList's empty array, the small Integers -/
def stx (k : Nat) : List Nat := match k with
  | 20 => [110, 111, 116] | 21 => [116, 114, 111, 100] | 22 => [119, 101, 105, 103, 104, 116] | 23 => [115, 111, 108, 101] | 24 => [112, 97, 99, 101] | 25 => [112, 114, 105, 110, 116, 115] | 26 => [116, 117, 102, 116, 115] | 27 => [112, 108, 97, 99, 101] | 28 => [97, 110, 100] | 29 => [111, 114] | 30 => []
  | 31 => [32, 114, 117, 103, 32, 112, 101, 114, 115, 111, 110, 32, 119, 97, 108, 108, 32, 100, 111, 111, 114, 32, 119, 97, 121, 32, 102, 97, 100, 101, 32, 110, 32, 101, 32, 115, 32, 119, 32, 111, 114, 32, 97, 110, 100, 32, 110, 111, 116, 32, 116, 114, 111, 100, 32, 119, 101, 105, 103, 104, 116, 32, 115, 111, 108, 101, 32, 112, 97, 99, 101, 32, 112, 114, 105, 110, 116, 115, 32, 116, 117, 102, 116, 115, 32, 112, 108, 97, 99, 101, 32]
  | 32 => [32] | 33 => [110] | 34 => [101] | 35 => [115] | 36 => [119] | 37 => [114, 117, 103] | 38 => [112, 101, 114, 115, 111, 110] | 39 => [119, 97, 108, 108] | 40 => [100, 111, 111, 114] | 41 => [119, 97, 121] | _ => [102, 97, 100, 101]
def CS (h : HS) (g : Nat → Nat → Int32) (b : Nat) : Prop := CstR h g b ∧ (∀ k, 20 ≤ k → k ≤ 42 → StrR h g b (kG h k) (stx k)) ∧ (imm b (kZ h) (kG h 12) ∧ kT h (kG h 12) = 39 ∧ kN h (kG h 12) = 0) ∧ (imm b (kZ h) (kG h 13) ∧ kT h (kG h 13) = 40 ∧ kN h (kG h 13) = 256 ∧ ∀ i, i < 256 → isr h (kG h 13) i ∧ imm b (kZ h) (rf h (kG h 13) i) ∧ kT h (rf h (kG h 13) i) = 18 ∧ g (rf h (kG h 13) i) 0 = nI i - 128)
/-- what is between two calls; n more may come -/
def LRo (b n : Nat) (h : HS) : Prop := FX h b ∧ (b + 18420 ≤ kZ h ∧ kT h (b + 18419) = 41 ∧ kN h (b + 18419) = 1) ∧ (kZ h + 8000 * n ≤ kG h 1 ∧ kW h + 100000 * n ≤ kG h 2)
def LRt (b : Nat) (g : Nat → Nat → Int32) (σ : MS) : Prop := (∃ n, n ≤ 940 ∧ g b 1 = nI n ∧ gI σ 2 = nI n) ∧ (∀ i, i < 940 → g (b + 1) i = gA σ 1 i) ∧ g b 2 = gI σ 15
def LRu (h : HS) (g : Nat → Nat → Int32) (b : Nat) (F : Nat → Nat) (a : Nat) (σ : MS) : Prop := ∃ m, m ≤ 6 ∧ g b 7 = nI m ∧ gI σ 23 = nI m ∧ ∃ π : Nat → Nat, (∀ k, k < 6 → π k < 6 ∧ kR h (b + 2032) k = some (b + 6250 + 2024 * π k)) ∧ (∀ j k, j < 6 → k < 6 → π j = π k → j = k) ∧
  ∀ k, k < m → kR h (b + 6250 + 2024 * π k) 0 = some a ∧ RugR g (b + 6250 + 2024 * π k) F (fun i => gA σ 22 (9655 * k + (i - 429)))
def LRk (h : HS) (g : Nat → Nat → Int32) (b : Nat) (σ : MS) : Prop := ∀ k, k < 2 → (gA σ 54 k = 0 ∧ kR h (b + 2200 + 2025 * k) 0 = none) ∨ (gA σ 54 k = 1 ∧ ∃ F a, HRS h g b (b + 2201 + 2025 * k) (kR h (b + 2200 + 2025 * k) 0) (kR h (b + 2200 + 2025 * k) 1) (fun i => gJ σ 53 (12 * k + i)) (fun i => gA σ 52 (10265 * k + i)) F a)
def LRr (b : Nat) (g : Nat → Nat → Int32) (σ : MS) : Prop := ((gI σ 28 = -1 ∧ g b 17 = 0 ∧ g b 16 = -1) ∨ ∃ m, m ≤ 6 ∧ gI σ 28 = nI m ∧ g b 17 = nI m ∧ g b 16 = gI σ 29 ∧ ∀ w, w < m → g (b + 2037) w = gA σ 26 w ∧ g (b + 2038) w = gA σ 27 w) ∧
  ((gI σ 35 = 0 ∧ ∀ i, i < 4 → g (b + 2048) i = -1) ∨ (gI σ 35 = 1 ∧ ∀ i, i < 4 → g (b + 2048) i = gA σ 31 i)) ∧ ∃ m, m ≤ 4 ∧ g b 29 = nI m ∧ gI σ 42 = nI m ∧ ∀ i, i < m → g (b + 2198) i = gA σ 40 i
def LR (b n : Nat) (h : HS) (σ : MS) : Prop := LRo b n h ∧ CS h (kI h) b ∧ LRt b (kI h) σ ∧ (∃ F a, HRS h (kI h) b (b + 8) (kR h b 3) (kR h b 5) (gJ σ 9) (gA σ 6) F a ∧ LRu h (kI h) b F a σ) ∧ LRk h (kI h) b σ ∧ LRr b (kI h) σ ∧ ∀ k, k < 20 → gJ σ 10 k = resw k
section PRE
variable {b n : Nat} {h : HS} {σ : MS}
theorem LR.thrown (hL : LR b n h σ) (v : Int32) : LR b n h (sI σ 0 v) := hL
theorem LR.less (hL : LR b (n + 1) h σ) : LR b n h σ := by
  obtain ⟨⟨h1, h2, h3, h4⟩, h5⟩ := hL
  exact ⟨⟨h1, h2, by omega, by omega⟩, h5⟩
theorem iS_k : iS h (kI h) = h := rfl
end PRE
