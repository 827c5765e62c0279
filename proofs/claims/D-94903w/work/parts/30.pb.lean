/-! the plain law: whole numbers -/
theorem pl_la (n b : Nat) : (no_index (OfNat.ofNat n) : Int32) + nI b = nI (OfNat.ofNat n + b) := nI_add n b
theorem pl_al (a n : Nat) : nI a + (no_index (OfNat.ofNat n) : Int32) = nI (a + OfNat.ofNat n) := nI_add a n
theorem pl_lm (n b : Nat) : (no_index (OfNat.ofNat n) : Int32) * nI b = nI (OfNat.ofNat n * b) := pk_mul n b
theorem pl_ml (a n : Nat) : nI a * (no_index (OfNat.ofNat n) : Int32) = nI (a * OfNat.ofNat n) := pk_mul a n
theorem pl_sl {a n : Nat} (h : OfNat.ofNat n ≤ a) : nI a - (no_index (OfNat.ofNat n) : Int32) = nI (a - OfNat.ofNat n) := pk_sub h
theorem pl_m1 {a : Nat} (h : 1 ≤ a) : nI a + (-1) = nI (a - 1) := by
  obtain ⟨b, rfl⟩ : ∃ b, a = b + 1 := ⟨a - 1, by omega⟩
  exact pk_m1 b
theorem pl_m8 {a : Nat} (h : 8 ≤ a) : nI a + (-8) = nI (a - 8) := by
  obtain ⟨b, rfl⟩ : ∃ b, a = b + 8 := ⟨a - 8, by omega⟩
  rw [← nI_add, Nat.add_sub_cancel, Int32.add_assoc, show nI 8 + -8 = 0 from by decide, Int32.add_zero]
section PLC
variable {a b n : Nat}
theorem pl_let (h : a ≤ b) (hb : b < 2147483648) : (nI a ≤ nI b) = True := eq_true (nI_le h hb)
theorem pl_lef (h : b < a) (ha : a < 2147483648) : (nI a ≤ nI b) = False := eq_false (nI_ge h ha)
theorem pl_ltt (h : a < b) (hb : b < 2147483648) : (nI a < nI b) = True := eq_true (nI_lt h hb)
theorem pl_ltf (h : b ≤ a) (ha : a < 2147483648) : (nI a < nI b) = False := eq_false (nI_nlt h ha)
theorem pl_eqf (h : a ≠ b) (ha : a < 2147483648) (hb : b < 2147483648) : (nI a = nI b) = False := eq_false fun e => h ((nI_eq ha hb).mp e)
theorem pl_let1 (h : OfNat.ofNat n ≤ b) (hb : b < 2147483648) : ((no_index (OfNat.ofNat n) : Int32) ≤ nI b) = True := pl_let (a := n) h hb
theorem pl_lef1 (h : b < OfNat.ofNat n) (ha : OfNat.ofNat n < 2147483648) : ((no_index (OfNat.ofNat n) : Int32) ≤ nI b) = False := pl_lef (a := n) h ha
theorem pl_ltt1 (h : OfNat.ofNat n < b) (hb : b < 2147483648) : ((no_index (OfNat.ofNat n) : Int32) < nI b) = True := pl_ltt (a := n) h hb
theorem pl_ltf1 (h : b ≤ OfNat.ofNat n) (ha : OfNat.ofNat n < 2147483648) : ((no_index (OfNat.ofNat n) : Int32) < nI b) = False := pl_ltf (a := n) h ha
theorem pl_let2 (h : a ≤ OfNat.ofNat n) (hb : OfNat.ofNat n < 2147483648) : (nI a ≤ (no_index (OfNat.ofNat n) : Int32)) = True := pl_let (b := n) h hb
theorem pl_lef2 (h : OfNat.ofNat n < a) (ha : a < 2147483648) : (nI a ≤ (no_index (OfNat.ofNat n) : Int32)) = False := pl_lef (b := n) h ha
theorem pl_ltt2 (h : a < OfNat.ofNat n) (hb : OfNat.ofNat n < 2147483648) : (nI a < (no_index (OfNat.ofNat n) : Int32)) = True := pl_ltt (b := n) h hb
theorem pl_ltf2 (h : OfNat.ofNat n ≤ a) (ha : a < 2147483648) : (nI a < (no_index (OfNat.ofNat n) : Int32)) = False := pl_ltf (b := n) h ha
theorem pl_eqf1 (h : a ≠ OfNat.ofNat n) (ha : a < 2147483648) (hb : OfNat.ofNat n < 2147483648) : (nI a = (no_index (OfNat.ofNat n) : Int32)) = False := pl_eqf (b := n) h ha hb
theorem pl_em1 (h : a < 2147483648) : (nI a = -1) = False := eq_false fun e => by
  have := congrArg Int32.toInt e
  rw [nI_toInt h] at this
  have h2 : (-1 : Int32).toInt = -1 := by decide
  omega
theorem pl_irm (h : a < 2147483648) (hn : 0 < OfNat.ofNat n) (h2 : OfNat.ofNat n < 2147483648) : irm (nI a) (no_index (OfNat.ofNat n) : Int32) = nI (a % OfNat.ofNat n) := pk_rem (d := n) h hn h2
theorem pl_div (h : a < 2147483648) (hn : 0 < OfNat.ofNat n) (h2 : OfNat.ofNat n < 2147483648) : nI a / (no_index (OfNat.ofNat n) : Int32) = nI (a / OfNat.ofNat n) := pk_div (d := n) h hn h2
/-- a whole number is below 0, or some nI -/
theorem pl_cs (x : Int32) : x < 0 ∨ ∃ n, n < 2147483648 ∧ x = nI n := by
  by_cases h : x < 0
  · exact Or.inl h
  · exact Or.inr (nI_of h)
end PLC
/-! what ends well -/
def okk {α : Type} (x : Option α) (Q : α → Prop) : Prop := ∃ r, x = some r ∧ Q r
section OKK
variable {α β δ : Type}
theorem okk_some {a : α} {Q : α → Prop} (h : Q a) : okk (some a) Q := ⟨a, rfl, h⟩
theorem okk_bind {x : Option α} {f : α → Option β} {Q : β → Prop} (h : okk x fun a => okk (f a) Q) : okk (x.bind f) Q := by
  obtain ⟨a, rfl, r, h1, h2⟩ := h
  exact ⟨r, h1, h2⟩
theorem okk_mono {x : Option α} {P Q : α → Prop} (h : okk x P) (hq : ∀ a, P a → Q a) : okk x Q := by
  obtain ⟨a, h1, h2⟩ := h
  exact ⟨a, h1, hq a h2⟩
theorem okk_eq {x y : Option α} {Q : α → Prop} (h : x = y) (k : okk y Q) : okk x Q := h ▸ k
/-- a loop: P goes on holding, the measure falls, Q at the end -/
theorem okl {α β : Type} (l : Nat → α → Option β) (P : Nat → α → Prop) (Q : β → Prop) (h : ∀ k s n, P k s → okk (l (n + 1) s) Q ∨ ∃ s' k', k' < k ∧ P k' s' ∧ l (n + 1) s = l n s') : ∀ k s fuel, k < fuel → P k s → okk (l fuel s) Q := by
  intro k
  induction k using Nat.strongRecOn with
  | _ k ih =>
    intro s fuel hf hp
    cases fuel with
    | zero => omega
    | succ n =>
      rcases h k s n hp with h1 | ⟨s', k', h1, h2, h3⟩
      · exact h1
      · rw [h3]
        exact ih k' h1 s' n (by omega) h2
/-- a loop that counts up to N -/
theorem okf {α β : Type} (l : Nat → α → Int32 → Option β) (N : Nat) (P : Nat → α → Prop) (Q : β → Prop) (h : ∀ i s n, i < N → P i s → okk (l (n + 1) s (nI i)) Q ∨ ∃ s', P (i + 1) s' ∧ l (n + 1) s (nI i) = l n s' (nI (i + 1))) (he : ∀ s n, P N s → okk (l (n + 1) s (nI N)) Q) : ∀ i s fuel, i ≤ N → N - i < fuel → P i s → okk (l fuel s (nI i)) Q := by
  intro i s fuel hi hf hp
  refine okl (fun n (x : α × Nat) => l n x.1 (nI x.2)) (fun k x => x.2 ≤ N ∧ k = N - x.2 ∧ P x.2 x.1) Q ?_ (N - i) (s, i) fuel hf ⟨hi, rfl, hp⟩
  rintro k ⟨s1, j⟩ n ⟨h1, h2, h3⟩
  by_cases hj : j < N
  · rcases h j s1 n hj h3 with h4 | ⟨s', h4, h5⟩
    · exact Or.inl h4
    · exact Or.inr ⟨(s', j + 1), N - (j + 1), by omega, ⟨by omega, rfl, h4⟩, h5⟩
  · have : j = N := by omega
    subst this
    exact Or.inl (he s1 n h3)
end OKK
/-! the Model's state -/
def aS (σ : MS) (k : Nat) (f : Nat → Int32) : MS := (σ.1, fun j => if j = k then f else σ.2.1 j, σ.2.2)
section MSL
variable (σ : MS) (k j i : Nat) (f g : Nat → Int32) (v : Int32)
theorem sA_aS : sA σ k i v = aS σ k (upd (gA σ k) i v) := rfl
theorem gI_aS : gI (aS σ k f) j = gI σ j := rfl
theorem gL_aS : gL (aS σ k f) = gL σ := rfl
theorem gJ_aS : gJ (aS σ k f) = gJ σ := rfl
theorem gA_aS : gA (aS σ k f) j = if j = k then f else gA σ j := by
  unfold gA aS; by_cases h : j = k <;> simp [h]
theorem gA_same : gA (aS σ k f) k = f := by rw [gA_aS, if_pos rfl]
theorem aS_aS : aS (aS σ k f) k g = aS σ k g := by
  unfold aS
  simp only [Prod.mk.injEq, true_and, and_true]
  funext j
  by_cases h : j = k <;> simp [h]
theorem aS_id : aS σ k (gA σ k) = σ := by
  unfold aS gA
  obtain ⟨a, b, c⟩ := σ
  simp only [Prod.mk.injEq, true_and, and_true]
  funext j
  by_cases h : j = k <;> simp [h]
theorem gA_sI' : gA (sI σ k v) = gA σ := rfl
theorem gJ_sI' : gJ (sI σ k v) = gJ σ := rfl
end MSL
theorem rA_n {σ : MS} {k n : Nat} (h : n < mln k) (hk : mln k < 2147483648) : rA σ k (nI n) = some (gA σ k n) := by
  unfold rA
  have h2 : n < 2147483648 := by omega
  rw [if_neg (nI_in h hk), nI_clamp h2]
theorem wA_n {σ : MS} {k n : Nat} {v : Int32} (h : n < mln k) (hk : mln k < 2147483648) : wA σ k (nI n) v = some (sA σ k n v) := by
  unfold wA
  have h2 : n < 2147483648 := by omega
  rw [if_neg (nI_in h hk), nI_clamp h2]
theorem rJ_n {σ : MS} {k n : Nat} (h : n < mln k) (hk : mln k < 2147483648) : rJ σ k (nI n) = some (gJ σ k n) := by
  unfold rJ
  have h2 : n < 2147483648 := by omega
  rw [if_neg (nI_in h hk), nI_clamp h2]
theorem wJ_n {σ : MS} {k n : Nat} {v : Int64} (h : n < mln k) (hk : mln k < 2147483648) : wJ σ k (nI n) v = some (sJ σ k n v) := by
  unfold wJ
  have h2 : n < 2147483648 := by omega
  rw [if_neg (nI_in h hk), nI_clamp h2]
theorem rA1 {σ : MS} {n : Nat} (h : n < 940) : rA σ 1 (nI n) = some (gA σ 1 n) := rA_n h (by decide)
theorem rL1 {σ : MS} {n : Nat} (h : n < 940) : rA σ 1 (no_index (OfNat.ofNat n)) = some (gA σ 1 (OfNat.ofNat n)) := rA_n h (by decide)
theorem wA1 {σ : MS} {n : Nat} {v : Int32} (h : n < 940) : wA σ 1 (nI n) v = some (sA σ 1 n v) := wA_n h (by decide)
theorem wL1 {σ : MS} {n : Nat} {v : Int32} (h : n < 940) : wA σ 1 (no_index (OfNat.ofNat n)) v = some (sA σ 1 (OfNat.ofNat n) v) := wA_n h (by decide)
theorem rA6 {σ : MS} {n : Nat} (h : n < 10265) : rA σ 6 (nI n) = some (gA σ 6 n) := rA_n h (by decide)
theorem rL6 {σ : MS} {n : Nat} (h : n < 10265) : rA σ 6 (no_index (OfNat.ofNat n)) = some (gA σ 6 (OfNat.ofNat n)) := rA_n h (by decide)
theorem wA6 {σ : MS} {n : Nat} {v : Int32} (h : n < 10265) : wA σ 6 (nI n) v = some (sA σ 6 n v) := wA_n h (by decide)
theorem wL6 {σ : MS} {n : Nat} {v : Int32} (h : n < 10265) : wA σ 6 (no_index (OfNat.ofNat n)) v = some (sA σ 6 (OfNat.ofNat n) v) := wA_n h (by decide)
theorem rA7 {σ : MS} {n : Nat} (h : n < 429) : rA σ 7 (nI n) = some (gA σ 7 n) := rA_n h (by decide)
theorem rL7 {σ : MS} {n : Nat} (h : n < 429) : rA σ 7 (no_index (OfNat.ofNat n)) = some (gA σ 7 (OfNat.ofNat n)) := rA_n h (by decide)
theorem wA7 {σ : MS} {n : Nat} {v : Int32} (h : n < 429) : wA σ 7 (nI n) v = some (sA σ 7 n v) := wA_n h (by decide)
theorem wL7 {σ : MS} {n : Nat} {v : Int32} (h : n < 429) : wA σ 7 (no_index (OfNat.ofNat n)) v = some (sA σ 7 (OfNat.ofNat n) v) := wA_n h (by decide)
theorem rA8 {σ : MS} {n : Nat} (h : n < 135) : rA σ 8 (nI n) = some (gA σ 8 n) := rA_n h (by decide)
theorem rL8 {σ : MS} {n : Nat} (h : n < 135) : rA σ 8 (no_index (OfNat.ofNat n)) = some (gA σ 8 (OfNat.ofNat n)) := rA_n h (by decide)
theorem wA8 {σ : MS} {n : Nat} {v : Int32} (h : n < 135) : wA σ 8 (nI n) v = some (sA σ 8 n v) := wA_n h (by decide)
theorem wL8 {σ : MS} {n : Nat} {v : Int32} (h : n < 135) : wA σ 8 (no_index (OfNat.ofNat n)) v = some (sA σ 8 (OfNat.ofNat n) v) := wA_n h (by decide)
theorem rA22 {σ : MS} {n : Nat} (h : n < 57930) : rA σ 22 (nI n) = some (gA σ 22 n) := rA_n h (by decide)
theorem rL22 {σ : MS} {n : Nat} (h : n < 57930) : rA σ 22 (no_index (OfNat.ofNat n)) = some (gA σ 22 (OfNat.ofNat n)) := rA_n h (by decide)
theorem wA22 {σ : MS} {n : Nat} {v : Int32} (h : n < 57930) : wA σ 22 (nI n) v = some (sA σ 22 n v) := wA_n h (by decide)
theorem wL22 {σ : MS} {n : Nat} {v : Int32} (h : n < 57930) : wA σ 22 (no_index (OfNat.ofNat n)) v = some (sA σ 22 (OfNat.ofNat n) v) := wA_n h (by decide)
theorem rA24 {σ : MS} {n : Nat} (h : n < 48) : rA σ 24 (nI n) = some (gA σ 24 n) := rA_n h (by decide)
theorem rL24 {σ : MS} {n : Nat} (h : n < 48) : rA σ 24 (no_index (OfNat.ofNat n)) = some (gA σ 24 (OfNat.ofNat n)) := rA_n h (by decide)
theorem wA24 {σ : MS} {n : Nat} {v : Int32} (h : n < 48) : wA σ 24 (nI n) v = some (sA σ 24 n v) := wA_n h (by decide)
theorem wL24 {σ : MS} {n : Nat} {v : Int32} (h : n < 48) : wA σ 24 (no_index (OfNat.ofNat n)) v = some (sA σ 24 (OfNat.ofNat n) v) := wA_n h (by decide)
theorem rA25 {σ : MS} {n : Nat} (h : n < 6) : rA σ 25 (nI n) = some (gA σ 25 n) := rA_n h (by decide)
theorem rL25 {σ : MS} {n : Nat} (h : n < 6) : rA σ 25 (no_index (OfNat.ofNat n)) = some (gA σ 25 (OfNat.ofNat n)) := rA_n h (by decide)
theorem wA25 {σ : MS} {n : Nat} {v : Int32} (h : n < 6) : wA σ 25 (nI n) v = some (sA σ 25 n v) := wA_n h (by decide)
theorem wL25 {σ : MS} {n : Nat} {v : Int32} (h : n < 6) : wA σ 25 (no_index (OfNat.ofNat n)) v = some (sA σ 25 (OfNat.ofNat n) v) := wA_n h (by decide)
theorem rA26 {σ : MS} {n : Nat} (h : n < 6) : rA σ 26 (nI n) = some (gA σ 26 n) := rA_n h (by decide)
theorem rL26 {σ : MS} {n : Nat} (h : n < 6) : rA σ 26 (no_index (OfNat.ofNat n)) = some (gA σ 26 (OfNat.ofNat n)) := rA_n h (by decide)
theorem wA26 {σ : MS} {n : Nat} {v : Int32} (h : n < 6) : wA σ 26 (nI n) v = some (sA σ 26 n v) := wA_n h (by decide)
theorem wL26 {σ : MS} {n : Nat} {v : Int32} (h : n < 6) : wA σ 26 (no_index (OfNat.ofNat n)) v = some (sA σ 26 (OfNat.ofNat n) v) := wA_n h (by decide)
theorem rA27 {σ : MS} {n : Nat} (h : n < 6) : rA σ 27 (nI n) = some (gA σ 27 n) := rA_n h (by decide)
theorem rL27 {σ : MS} {n : Nat} (h : n < 6) : rA σ 27 (no_index (OfNat.ofNat n)) = some (gA σ 27 (OfNat.ofNat n)) := rA_n h (by decide)
theorem wA27 {σ : MS} {n : Nat} {v : Int32} (h : n < 6) : wA σ 27 (nI n) v = some (sA σ 27 n v) := wA_n h (by decide)
theorem wL27 {σ : MS} {n : Nat} {v : Int32} (h : n < 6) : wA σ 27 (no_index (OfNat.ofNat n)) v = some (sA σ 27 (OfNat.ofNat n) v) := wA_n h (by decide)
theorem rA30 {σ : MS} {n : Nat} (h : n < 144) : rA σ 30 (nI n) = some (gA σ 30 n) := rA_n h (by decide)
theorem rL30 {σ : MS} {n : Nat} (h : n < 144) : rA σ 30 (no_index (OfNat.ofNat n)) = some (gA σ 30 (OfNat.ofNat n)) := rA_n h (by decide)
theorem wA30 {σ : MS} {n : Nat} {v : Int32} (h : n < 144) : wA σ 30 (nI n) v = some (sA σ 30 n v) := wA_n h (by decide)
theorem wL30 {σ : MS} {n : Nat} {v : Int32} (h : n < 144) : wA σ 30 (no_index (OfNat.ofNat n)) v = some (sA σ 30 (OfNat.ofNat n) v) := wA_n h (by decide)
theorem rA31 {σ : MS} {n : Nat} (h : n < 4) : rA σ 31 (nI n) = some (gA σ 31 n) := rA_n h (by decide)
theorem rL31 {σ : MS} {n : Nat} (h : n < 4) : rA σ 31 (no_index (OfNat.ofNat n)) = some (gA σ 31 (OfNat.ofNat n)) := rA_n h (by decide)
theorem wA31 {σ : MS} {n : Nat} {v : Int32} (h : n < 4) : wA σ 31 (nI n) v = some (sA σ 31 n v) := wA_n h (by decide)
theorem wL31 {σ : MS} {n : Nat} {v : Int32} (h : n < 4) : wA σ 31 (no_index (OfNat.ofNat n)) v = some (sA σ 31 (OfNat.ofNat n) v) := wA_n h (by decide)
theorem rA36 {σ : MS} {n : Nat} (h : n < 576) : rA σ 36 (nI n) = some (gA σ 36 n) := rA_n h (by decide)
theorem rL36 {σ : MS} {n : Nat} (h : n < 576) : rA σ 36 (no_index (OfNat.ofNat n)) = some (gA σ 36 (OfNat.ofNat n)) := rA_n h (by decide)
theorem wA36 {σ : MS} {n : Nat} {v : Int32} (h : n < 576) : wA σ 36 (nI n) v = some (sA σ 36 n v) := wA_n h (by decide)
theorem wL36 {σ : MS} {n : Nat} {v : Int32} (h : n < 576) : wA σ 36 (no_index (OfNat.ofNat n)) v = some (sA σ 36 (OfNat.ofNat n) v) := wA_n h (by decide)
theorem rA37 {σ : MS} {n : Nat} (h : n < 144) : rA σ 37 (nI n) = some (gA σ 37 n) := rA_n h (by decide)
theorem rL37 {σ : MS} {n : Nat} (h : n < 144) : rA σ 37 (no_index (OfNat.ofNat n)) = some (gA σ 37 (OfNat.ofNat n)) := rA_n h (by decide)
theorem wA37 {σ : MS} {n : Nat} {v : Int32} (h : n < 144) : wA σ 37 (nI n) v = some (sA σ 37 n v) := wA_n h (by decide)
theorem wL37 {σ : MS} {n : Nat} {v : Int32} (h : n < 144) : wA σ 37 (no_index (OfNat.ofNat n)) v = some (sA σ 37 (OfNat.ofNat n) v) := wA_n h (by decide)
theorem rA38 {σ : MS} {n : Nat} (h : n < 288) : rA σ 38 (nI n) = some (gA σ 38 n) := rA_n h (by decide)
theorem rL38 {σ : MS} {n : Nat} (h : n < 288) : rA σ 38 (no_index (OfNat.ofNat n)) = some (gA σ 38 (OfNat.ofNat n)) := rA_n h (by decide)
theorem wA38 {σ : MS} {n : Nat} {v : Int32} (h : n < 288) : wA σ 38 (nI n) v = some (sA σ 38 n v) := wA_n h (by decide)
theorem wL38 {σ : MS} {n : Nat} {v : Int32} (h : n < 288) : wA σ 38 (no_index (OfNat.ofNat n)) v = some (sA σ 38 (OfNat.ofNat n) v) := wA_n h (by decide)
theorem rA39 {σ : MS} {n : Nat} (h : n < 288) : rA σ 39 (nI n) = some (gA σ 39 n) := rA_n h (by decide)
theorem rL39 {σ : MS} {n : Nat} (h : n < 288) : rA σ 39 (no_index (OfNat.ofNat n)) = some (gA σ 39 (OfNat.ofNat n)) := rA_n h (by decide)
theorem wA39 {σ : MS} {n : Nat} {v : Int32} (h : n < 288) : wA σ 39 (nI n) v = some (sA σ 39 n v) := wA_n h (by decide)
theorem wL39 {σ : MS} {n : Nat} {v : Int32} (h : n < 288) : wA σ 39 (no_index (OfNat.ofNat n)) v = some (sA σ 39 (OfNat.ofNat n) v) := wA_n h (by decide)
theorem rA40 {σ : MS} {n : Nat} (h : n < 144) : rA σ 40 (nI n) = some (gA σ 40 n) := rA_n h (by decide)
theorem rL40 {σ : MS} {n : Nat} (h : n < 144) : rA σ 40 (no_index (OfNat.ofNat n)) = some (gA σ 40 (OfNat.ofNat n)) := rA_n h (by decide)
theorem wA40 {σ : MS} {n : Nat} {v : Int32} (h : n < 144) : wA σ 40 (nI n) v = some (sA σ 40 n v) := wA_n h (by decide)
theorem wL40 {σ : MS} {n : Nat} {v : Int32} (h : n < 144) : wA σ 40 (no_index (OfNat.ofNat n)) v = some (sA σ 40 (OfNat.ofNat n) v) := wA_n h (by decide)
theorem rA41 {σ : MS} {n : Nat} (h : n < 144) : rA σ 41 (nI n) = some (gA σ 41 n) := rA_n h (by decide)
theorem rL41 {σ : MS} {n : Nat} (h : n < 144) : rA σ 41 (no_index (OfNat.ofNat n)) = some (gA σ 41 (OfNat.ofNat n)) := rA_n h (by decide)
theorem wA41 {σ : MS} {n : Nat} {v : Int32} (h : n < 144) : wA σ 41 (nI n) v = some (sA σ 41 n v) := wA_n h (by decide)
theorem wL41 {σ : MS} {n : Nat} {v : Int32} (h : n < 144) : wA σ 41 (no_index (OfNat.ofNat n)) v = some (sA σ 41 (OfNat.ofNat n) v) := wA_n h (by decide)
theorem rA45 {σ : MS} {n : Nat} (h : n < 45) : rA σ 45 (nI n) = some (gA σ 45 n) := rA_n h (by decide)
theorem rL45 {σ : MS} {n : Nat} (h : n < 45) : rA σ 45 (no_index (OfNat.ofNat n)) = some (gA σ 45 (OfNat.ofNat n)) := rA_n h (by decide)
theorem wA45 {σ : MS} {n : Nat} {v : Int32} (h : n < 45) : wA σ 45 (nI n) v = some (sA σ 45 n v) := wA_n h (by decide)
theorem wL45 {σ : MS} {n : Nat} {v : Int32} (h : n < 45) : wA σ 45 (no_index (OfNat.ofNat n)) v = some (sA σ 45 (OfNat.ofNat n) v) := wA_n h (by decide)
theorem rA51 {σ : MS} {n : Nat} (h : n < 45) : rA σ 51 (nI n) = some (gA σ 51 n) := rA_n h (by decide)
theorem rL51 {σ : MS} {n : Nat} (h : n < 45) : rA σ 51 (no_index (OfNat.ofNat n)) = some (gA σ 51 (OfNat.ofNat n)) := rA_n h (by decide)
theorem wA51 {σ : MS} {n : Nat} {v : Int32} (h : n < 45) : wA σ 51 (nI n) v = some (sA σ 51 n v) := wA_n h (by decide)
theorem wL51 {σ : MS} {n : Nat} {v : Int32} (h : n < 45) : wA σ 51 (no_index (OfNat.ofNat n)) v = some (sA σ 51 (OfNat.ofNat n) v) := wA_n h (by decide)
theorem rA52 {σ : MS} {n : Nat} (h : n < 20530) : rA σ 52 (nI n) = some (gA σ 52 n) := rA_n h (by decide)
theorem rL52 {σ : MS} {n : Nat} (h : n < 20530) : rA σ 52 (no_index (OfNat.ofNat n)) = some (gA σ 52 (OfNat.ofNat n)) := rA_n h (by decide)
theorem wA52 {σ : MS} {n : Nat} {v : Int32} (h : n < 20530) : wA σ 52 (nI n) v = some (sA σ 52 n v) := wA_n h (by decide)
theorem wL52 {σ : MS} {n : Nat} {v : Int32} (h : n < 20530) : wA σ 52 (no_index (OfNat.ofNat n)) v = some (sA σ 52 (OfNat.ofNat n) v) := wA_n h (by decide)
theorem rA54 {σ : MS} {n : Nat} (h : n < 2) : rA σ 54 (nI n) = some (gA σ 54 n) := rA_n h (by decide)
theorem rL54 {σ : MS} {n : Nat} (h : n < 2) : rA σ 54 (no_index (OfNat.ofNat n)) = some (gA σ 54 (OfNat.ofNat n)) := rA_n h (by decide)
theorem wA54 {σ : MS} {n : Nat} {v : Int32} (h : n < 2) : wA σ 54 (nI n) v = some (sA σ 54 n v) := wA_n h (by decide)
theorem wL54 {σ : MS} {n : Nat} {v : Int32} (h : n < 2) : wA σ 54 (no_index (OfNat.ofNat n)) v = some (sA σ 54 (OfNat.ofNat n) v) := wA_n h (by decide)
theorem rJ9 {σ : MS} {n : Nat} (h : n < 24) : rJ σ 9 (nI n) = some (gJ σ 9 n) := rJ_n h (by decide)
theorem wJ9 {σ : MS} {n : Nat} {v : Int64} (h : n < 24) : wJ σ 9 (nI n) v = some (sJ σ 9 n v) := wJ_n h (by decide)
theorem rJ10 {σ : MS} {n : Nat} (h : n < 20) : rJ σ 10 (nI n) = some (gJ σ 10 n) := rJ_n h (by decide)
theorem wJ10 {σ : MS} {n : Nat} {v : Int64} (h : n < 20) : wJ σ 10 (nI n) v = some (sJ σ 10 n v) := wJ_n h (by decide)
theorem rJ53 {σ : MS} {n : Nat} (h : n < 24) : rJ σ 53 (nI n) = some (gJ σ 53 n) := rJ_n h (by decide)
theorem wJ53 {σ : MS} {n : Nat} {v : Int64} (h : n < 24) : wJ σ 53 (nI n) v = some (sJ σ 53 n v) := wJ_n h (by decide)
/-! the component's heap: the ints set anew -/
def iS (h : HS) (g : Nat → Nat → Int32) : HS := (h.1, h.2.1, g, h.2.2.2)
def u2 (g : Nat → Nat → Int32) (a k : Nat) (v : Int32) : Nat → Nat → Int32 := fun x => if x = a then upd (g a) k v else g x
section HSL
variable (h : HS) (g g2 : Nat → Nat → Int32) (a k x j : Nat) (v : Int32)
theorem kT_iS : kT (iS h g) x = kT h x := rfl
theorem kN_iS : kN (iS h g) x = kN h x := rfl
theorem kR_iS : kR (iS h g) x j = kR h x j := rfl
theorem kI_iS : kI (iS h g) = g := rfl
theorem kZ_iS : kZ (iS h g) = kZ h := rfl
theorem kW_iS : kW (iS h g) = kW h := rfl
theorem kG_iS : kG (iS h g) = kG h := rfl
theorem iS_iS : iS (iS h g) g2 = iS h g2 := rfl
theorem iS_id : iS h (kI h) = h := rfl
theorem tI_iS : tI (iS h g) a k v = iS h (u2 g a k v) := rfl
theorem u2_eq : u2 g a k v a k = v := by unfold u2; rw [if_pos rfl]; exact pk_us
theorem u2_ne {g : Nat → Nat → Int32} {a k x j : Nat} {v : Int32} (e : x ≠ a ∨ j ≠ k) : u2 g a k v x j = g x j := by
  unfold u2
  by_cases q : x = a
  · rw [if_pos q, q, pk_un (e.resolve_left fun h => h q)]
  · rw [if_neg q]
theorem u2_nf {g : Nat → Nat → Int32} {a k x : Nat} {v : Int32} (e : x ≠ a) : u2 g a k v x = g x := by
  unfold u2; rw [if_neg e]
end HSL
theorem oI_n {h : HS} {a t1 t2 k : Nat} (e : t1 ≤ kT h a) (e2 : kT h a ≤ t2) : oI h a t1 t2 k = some (kI h a k) := by unfold oI; rw [if_pos ⟨e, e2⟩]
theorem oR_n {h : HS} {a t1 t2 k : Nat} (e : t1 ≤ kT h a) (e2 : kT h a ≤ t2) : oR h a t1 t2 k = some (kR h a k) := by unfold oR; rw [if_pos ⟨e, e2⟩]
theorem fR_n {h : HS} {a t1 t2 k : Nat} (e : t1 ≤ kT h a) (e2 : kT h a ≤ t2) : fR h a t1 t2 k = kR h a k := by unfold fR; rw [if_pos ⟨e, e2⟩]
theorem pI_n {h : HS} {a t1 t2 k : Nat} {v : Int32} (e : t1 ≤ kT h a) (e2 : kT h a ≤ t2) (e3 : kG h 0 ≤ a) : pI h a t1 t2 k v = some (tI h a k v) := by unfold pI; rw [if_pos ⟨⟨e, e2⟩, e3⟩]
theorem pR_n {h : HS} {a t1 t2 k : Nat} {v : Option Nat} (e : t1 ≤ kT h a) (e2 : kT h a ≤ t2) (e3 : kG h 0 ≤ a) : pR h a t1 t2 k v = some (tR h a k v) := by unfold pR; rw [if_pos ⟨⟨e, e2⟩, e3⟩]
theorem gT_n {α : Type} {h : HS} {a t1 t2 : Nat} {x : Option α} (e : t1 ≤ kT h a) (e2 : kT h a ≤ t2) : gT h a t1 t2 x = x := by unfold gT; rw [if_pos ⟨e, e2⟩]
theorem aI_n {h : HS} {a t n : Nat} (e : kT h a = t) (e2 : n < kN h a) (e3 : kN h a < 2147483648) : aI h a t (nI n) = some (kI h a n) := by
  have h2 : n < 2147483648 := by omega
  unfold aI; rw [if_pos ⟨e, nI_in e2 e3⟩, nI_clamp h2]
theorem aR_n {h : HS} {a t n : Nat} (e : kT h a = t) (e2 : n < kN h a) (e3 : kN h a < 2147483648) : aR h a t (nI n) = some (kR h a n) := by
  have h2 : n < 2147483648 := by omega
  unfold aR; rw [if_pos ⟨e, nI_in e2 e3⟩, nI_clamp h2]
theorem fA_n {h : HS} {a t n : Nat} (e : kT h a = t) (e2 : n < kN h a) (e3 : kN h a < 2147483648) : fA h a t (nI n) = kR h a n := by
  have h2 : n < 2147483648 := by omega
  unfold fA; rw [if_pos ⟨e, nI_in e2 e3⟩, nI_clamp h2]
theorem wI_n {h : HS} {a t n : Nat} {v : Int32} (e : kT h a = t) (e2 : n < kN h a) (e3 : kN h a < 2147483648) (e4 : kG h 0 ≤ a) : wI h a t (nI n) v = some (tI h a n v) := by
  have h2 : n < 2147483648 := by omega
  unfold wI; rw [if_pos ⟨⟨e, nI_in e2 e3⟩, e4⟩, nI_clamp h2]
theorem wR_n {h : HS} {a t n : Nat} {v : Option Nat} (e : kT h a = t) (e2 : n < kN h a) (e3 : kN h a < 2147483648) (e4 : kG h 0 ≤ a) (e5 : wOk h t v = true) : wR h a t (nI n) v = some (tR h a n v) := by
  have h2 : n < 2147483648 := by omega
  unfold wR; rw [if_pos ⟨⟨⟨e, nI_in e2 e3⟩, e4⟩, e5⟩, nI_clamp h2]
theorem aI_l {h : HS} {a t n : Nat} (e : kT h a = t) (e2 : OfNat.ofNat n < kN h a) (e3 : kN h a < 2147483648) : aI h a t (no_index (OfNat.ofNat n)) = some (kI h a (OfNat.ofNat n)) := aI_n (n := n) e e2 e3
theorem wI_l {h : HS} {a t n : Nat} {v : Int32} (e : kT h a = t) (e2 : OfNat.ofNat n < kN h a) (e3 : kN h a < 2147483648) (e4 : kG h 0 ≤ a) : wI h a t (no_index (OfNat.ofNat n)) v = some (tI h a (OfNat.ofNat n) v) := wI_n (n := n) e e2 e3 e4
theorem aL_n {h : HS} {a t1 t2 : Nat} (e : t1 ≤ kT h a) (e2 : kT h a ≤ t2) : aL h a t1 t2 = some (nI (kN h a)) := by unfold aL; rw [if_pos ⟨e, e2⟩]; rfl
