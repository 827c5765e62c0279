/-! sentences: the Model's stack and codes -/
abbrev CD3 : Type := Nat × Nat × Nat
/-- how many of the stack are open: not, bracket -/
def cn2 : List Nat → Nat
  | [] => 0
  | x :: l => (if x = 10 ∨ x = 13 then 1 else 0) + cn2 l
def SM (σ0 : MS) (S : List Nat) (C : List CD3) (O : Nat) (wh : Bool) (σ : MS) : Prop :=
  (gI σ 46 = nI C.length ∧ gI σ 47 = nI O ∧ gI σ 48 = nI S.length ∧ gI σ 49 = nI (1 + cn2 S) ∧ gI σ 50 = bI wh) ∧ ((∀ j, j < S.length → gA σ 45 j = nI (S.getD j 0)) ∧ ∀ x, x ∈ S → 10 ≤ x ∧ x ≤ 13) ∧ (∀ j, j < C.length → gA σ 8 (3 * j) = nI (C.getD j (0, 0, 0)).1 ∧ gA σ 8 (3 * j + 1) = nI (C.getD j (0, 0, 0)).2.1 ∧ gA σ 8 (3 * j + 2) = nI (C.getD j (0, 0, 0)).2.2) ∧
  (∀ j, j ≠ 8 → j ≠ 45 → gA σ j = gA σ0 j) ∧ gJ σ = gJ σ0 ∧ ∀ k, k ≠ 4 → (k < 11 ∨ 16 < k) → k ≠ 18 → (k < 46 ∨ 50 < k) → gI σ k = gI σ0 k
/-- the token at hand stays -/
def tkS (σ σ' : MS) : Prop := (∀ k, (k < 46 ∨ 50 < k) → gI σ' k = gI σ k) ∧ gL σ' = gL σ ∧ gJ σ' = gJ σ ∧ ∀ j, j ≠ 8 → j ≠ 45 → gA σ' j = gA σ j
section PUC
variable {σ0 σ σ' σ2 : MS} {N O : Nat} {S : List Nat} {C : List CD3} {wh : Bool}
theorem tkS.refl : tkS σ σ := ⟨fun _ _ => rfl, rfl, rfl, fun _ _ _ => rfl⟩
theorem tkS.trans (k1 : tkS σ σ') (k2 : tkS σ' σ2) : tkS σ σ2 := ⟨fun k hk => (k2.1 k hk).trans (k1.1 k hk), k2.2.1.trans k1.2.1, k2.2.2.1.trans k1.2.2.1, fun j j1 j2 => (k2.2.2.2 j j1 j2).trans (k1.2.2.2 j j1 j2)⟩
theorem cn2_app (l1 l2 : List Nat) : cn2 (l1 ++ l2) = cn2 l1 + cn2 l2 := by
  induction l1 with
  | nil => simp [cn2]
  | cons x l ih => simp only [List.cons_append, cn2, ih]; omega
theorem getD_a {α : Type} {l : List α} {c d : α} {i : Nat} : (l ++ [c]).getD i d = if i < l.length then l.getD i d else if i = l.length then c else d := by
  by_cases h1 : i < l.length
  · rw [if_pos h1, List.getD_eq_getElem?_getD, List.getElem?_append_left h1, List.getD_eq_getElem?_getD]
  · rw [if_neg h1, List.getD_eq_getElem?_getD, List.getElem?_append_right (by omega)]
    by_cases h2 : i = l.length
    · rw [if_pos h2, h2, Nat.sub_self]; rfl
    · rw [if_neg h2]
      obtain ⟨k, hk⟩ : ∃ k, i - l.length = k + 1 := ⟨i - l.length - 1, by omega⟩
      rw [hk]; rfl
/-- a code more -/
theorem sm_code (hS : SM σ0 S C O wh σ) (hC : C.length < 45) (x y z : Nat) : ∃ σ', fX5_code N σ (nI x) (nI y) (nI z) = some σ' ∧ SM σ0 S (C ++ [(x, y, z)]) O wh σ' ∧ tkS σ σ' := by
  obtain ⟨⟨i1, i2, i3, i4, i5⟩, ⟨s1, s2⟩, c1, f1, f2, f3⟩ := hS
  have w : ∀ (s : MS) (n : Nat) (v : Int32), n < 135 → wA s 8 (nI n) v = some (aS s 8 (upd (gA s 8) n v)) := fun s n v hn => wA8a hn
  have n0 : (3 : Int32) * nI C.length = nI (3 * C.length) := pl_lm 3 _
  obtain ⟨g, eg⟩ : ∃ g, g = upd (upd (upd (gA σ 8) (3 * C.length) (nI x)) (3 * C.length + 1) (nI y)) (3 * C.length + 2) (nI z) := ⟨_, rfl⟩
  refine ⟨sI (aS σ 8 g) 46 (nI (C.length + 1)), ?_, ⟨⟨?_, ?_, ?_, ?_, ?_⟩, ⟨fun j hj => ?_, s2⟩, fun j hj => ?_, fun j j1 j2 => ?_, f2, fun k k1 k2 k3 k4 => ?_⟩, fun k hk => ?_, rfl, rfl, fun j j1 j2 => ?_⟩
  · unfold fX5_code
    rw [i1, n0, w σ _ _ (by omega)]
    simp only [Option.bind_some, gI_aS, i1, n0, show nI (3 * C.length) + 1 = nI (3 * C.length + 1) from nI_add _ 1, show nI (3 * C.length) + 2 = nI (3 * C.length + 2) from nI_add _ 2]
    rw [w _ _ _ (show 3 * C.length + 1 < 135 by omega), gA_same, aS_aS]
    simp only [Option.bind_some, gI_aS, i1, n0, show nI (3 * C.length) + 2 = nI (3 * C.length + 2) from nI_add _ 2]
    rw [w _ _ _ (show 3 * C.length + 2 < 135 by omega), gA_same, aS_aS]
    simp only [Option.bind_some, gI_aS, i1, lt_, show nI C.length + 1 = nI (C.length + 1) from nI_add _ 1]
    rw [← eg]
  · rw [List.length_append]; rfl
  · exact i2
  · exact i3
  · exact i4
  · exact i5
  · show gA (aS σ 8 g) 45 j = _
    rw [gA_o (by decide)]; exact s1 j hj
  · show gA (aS σ 8 g) 8 (3 * j) = _ ∧ gA (aS σ 8 g) 8 (3 * j + 1) = _ ∧ gA (aS σ 8 g) 8 (3 * j + 2) = _
    rw [List.length_append] at hj
    have hj : j < C.length + 1 := hj
    rw [gA_same, getD_a, eg]
    by_cases e : j < C.length
    · rw [if_pos e, pk_un (by omega), pk_un (by omega), pk_un (by omega), pk_un (by omega), pk_un (by omega), pk_un (by omega), pk_un (by omega), pk_un (by omega), pk_un (by omega)]
      exact c1 j e
    · obtain rfl : j = C.length := by omega
      rw [if_neg e, if_pos rfl]
      refine ⟨?_, ?_, ?_⟩
      · rw [pk_un (by omega), pk_un (by omega), pk_us]
      · rw [pk_un (by omega), pk_us]
      · rw [pk_us]
  · show gA (aS σ 8 g) j = _
    rw [gA_o j1]; exact f1 j j1 j2
  · rw [gI_sI, if_neg (by omega)]; exact f3 k k1 k2 k3 k4
  · rw [gI_sI, if_neg (by omega)]; rfl
  · show gA (aS σ 8 g) j = _
    rw [gA_o j1]
/-- the top of the stack -/
theorem sm_top {k : Nat} (hS : SM σ0 (S ++ [k]) C O wh σ) (h45 : S.length < 45) : ¬ gI σ 48 ≤ 0 ∧ gI σ 48 - 1 = nI S.length ∧ rA σ 45 (nI S.length) = some (nI k) := by
  obtain ⟨⟨-, -, i3, -⟩, ⟨s1, -⟩, -⟩ := hS
  rw [List.length_append] at i3
  have i3 : gI σ 48 = nI (S.length + 1) := i3
  rw [i3]
  refine ⟨nI_ge (a := 0) (by omega) (by omega), by rw [show nI (S.length + 1) - 1 = nI (S.length + 1 - 1) from pl_sl (n := 1) (by show 1 ≤ S.length + 1; omega), Nat.add_sub_cancel], ?_⟩
  rw [rA45 h45, s1 S.length (by rw [List.length_append]; exact Nat.lt_succ_self _), getD_a, if_neg (by omega), if_pos rfl]
/-- one is taken from the stack -/
theorem sm_pop {k : Nat} (hS : SM σ0 (S ++ [k]) C O wh σ) (v : Int32) (hv : v = nI (1 + cn2 S)) : SM σ0 S C O wh (sI (sI σ 48 (nI S.length)) 49 v) ∧ tkS σ (sI (sI σ 48 (nI S.length)) 49 v) := by
  obtain ⟨⟨i1, i2, i3, i4, i5⟩, ⟨s1, s2⟩, c1, f1, f2, f3⟩ := hS
  refine ⟨⟨⟨i1, i2, rfl, hv, i5⟩, ⟨fun j hj => ?_, fun x hx => s2 x (List.mem_append.mpr (Or.inl hx))⟩, c1, f1, f2, fun k k1 k2 k3 k4 => ?_⟩, fun k hk => ?_, rfl, rfl, fun _ _ _ => rfl⟩
  · have := s1 j (by rw [List.length_append]; omega)
    rw [getD_a, if_pos hj] at this
    exact this
  · rw [gI_sI, if_neg (by omega), gI_sI, if_neg (by omega)]; exact f3 k k1 k2 k3 k4
  · rw [gI_sI, if_neg (by omega), gI_sI, if_neg (by omega)]
theorem sm_pop' {k : Nat} (hk : ¬ (k = 10 ∨ k = 13)) (hS : SM σ0 (S ++ [k]) C O wh σ) : SM σ0 S C O wh (sI σ 48 (nI S.length)) ∧ tkS σ (sI σ 48 (nI S.length)) := by
  have e : gI σ 49 = nI (1 + cn2 S) := by
    rw [hS.1.2.2.2.1, cn2_app]
    show nI (1 + (cn2 S + ((if k = 10 ∨ k = 13 then 1 else 0) + 0))) = _
    rw [if_neg hk]; rfl
  have := sm_pop hS (gI σ 49) e
  rw [show sI (sI σ 48 (nI S.length)) 49 (gI σ 49) = sI σ 48 (nI S.length) from sI_id (σ := sI σ 48 (nI S.length)) rfl] at this
  exact this
theorem sm_rng {k : Nat} (hS : SM σ0 (S ++ [k]) C O wh σ) : 10 ≤ k ∧ k ≤ 13 := hS.2.1.2 k (List.mem_append.mpr (Or.inr (List.mem_singleton.mpr rfl)))
def lastN (S : List Nat) (k : Nat) : Prop := ∀ S', S ≠ S' ++ [k]
/-- nots are done -/
theorem sm_nots (hl : lastN S 10) : ∀ x C σ fuel, SM σ0 (S ++ List.replicate x 10) C O wh σ → S.length + x + C.length < 45 → x < fuel → ∃ σ', lX5_nots_0 N fuel σ = some σ' ∧ SM σ0 S (C ++ List.replicate x (10, 0, 0)) O wh σ' ∧ tkS σ σ' := by
  intro x
  induction x with
  | zero =>
    intro C σ fuel hS hb hf
    obtain ⟨m, rfl⟩ : ∃ m, fuel = m + 1 := ⟨fuel - 1, by omega⟩
    rw [List.replicate_zero, List.append_nil] at hS
    refine ⟨σ, ?_, by rw [List.replicate_zero, List.append_nil]; exact hS, tkS.refl⟩
    rw [lX5_nots_0]
    rcases List.eq_nil_or_concat S with rfl | ⟨S', k, rfl⟩
    · rw [if_pos (by rw [hS.1.2.2.1]; decide)]
    · rw [List.concat_eq_append] at *
      rw [List.length_append] at hb
      have hb : S'.length + 1 + 0 + C.length < 45 := hb
      obtain ⟨t1, t2, t3⟩ := sm_top hS (by omega)
      have hk : k ≠ 10 := fun z => hl S' (by rw [z])
      have hr := sm_rng hS
      rw [if_neg t1, t2, t3, Option.bind_some, if_neg (show ¬ nI k = 10 from fun z => hk ((nI_eq (b := 10) (by omega) (by decide)).mp z))]
  | succ x ih =>
    intro C σ fuel hS hb hf
    obtain ⟨m, rfl⟩ : ∃ m, fuel = m + 1 := ⟨fuel - 1, by omega⟩
    rw [List.replicate_succ', ← List.append_assoc] at hS
    have len : (S ++ List.replicate x 10).length = S.length + x := by rw [List.length_append, List.length_replicate]
    obtain ⟨t1, t2, t3⟩ := sm_top hS (by rw [len]; omega)
    have d49 : gI σ 49 - 1 = nI (1 + cn2 (S ++ List.replicate x 10)) := by
      rw [hS.1.2.2.2.1, cn2_app (S ++ List.replicate x 10)]
      show nI (1 + (cn2 (S ++ List.replicate x 10) + (1 + 0))) - 1 = _
      rw [show nI (1 + (cn2 (S ++ List.replicate x 10) + (1 + 0))) - 1 = nI (1 + (cn2 (S ++ List.replicate x 10) + (1 + 0)) - 1) from pl_sl (n := 1) (by show 1 ≤ 1 + _; omega)]
      show nI (1 + (cn2 (S ++ List.replicate x 10) + (1 + 0)) - 1) = _
      rw [show 1 + (cn2 (S ++ List.replicate x 10) + (1 + 0)) - 1 = 1 + cn2 (S ++ List.replicate x 10) by omega]
    obtain ⟨p1, p2⟩ := sm_pop hS _ d49
    obtain ⟨σ1, c1, c2, c3⟩ := sm_code (N := N) p1 (by omega) 10 0 0
    obtain ⟨σ2, e1, e2, e3⟩ := ih (C ++ [(10, 0, 0)]) σ1 m c2 (by rw [List.length_append]; show S.length + x + (C.length + 1) < 45; omega) (by omega)
    refine ⟨σ2, ?_, ?_, (p2.trans c3).trans e3⟩
    · rw [lX5_nots_0, if_neg t1, t2, t3, Option.bind_some, if_pos (show nI 10 = 10 from rfl)]
      simp only [lt_, show gI (sI σ 48 (nI (S ++ List.replicate x 10).length)) 49 = gI σ 49 from rfl]
      rw [show fX5_code N (sI (sI σ 48 (nI (S ++ List.replicate x (10 : Nat)).length)) 49 (gI σ 49 - 1)) 10 0 0 = some σ1 from c1, Option.bind_some]
      exact e1
    · rw [List.append_assoc] at e2
      exact e2
/-- joins: none is done -/
theorem sm_j0 {till : Int32} {m : Nat} (hS : SM σ0 S C O wh σ) (hb : S.length < 45) (h11 : lastN S 11) (h12 : till = 12 → lastN S 12) : lX5_joins_0 N (m + 1) σ till = some σ := by
  rw [lX5_joins_0]
  rcases List.eq_nil_or_concat S with rfl | ⟨S', k, rfl⟩
  · rw [if_pos (by rw [hS.1.2.2.1]; decide)]
  · rw [List.concat_eq_append] at *
    rw [List.length_append] at hb
    have hb : S'.length + 1 < 45 := hb
    obtain ⟨t1, t2, t3⟩ := sm_top hS (by omega)
    have hr := sm_rng hS
    have k11 : k ≠ 11 := fun z => h11 S' (by rw [z])
    rw [if_neg t1, t2, t3, Option.bind_some, if_neg (show ¬ nI k = 11 from fun z => k11 ((nI_eq (b := 11) (by omega) (by decide)).mp z)), Option.bind_some]
    by_cases k12 : k = 12
    · have ht : ¬ till = 12 := fun z => h12 z S' (by rw [k12])
      rw [if_pos (show nI k = 12 by rw [k12]; rfl), if_neg ht]
    · rw [if_neg (show ¬ nI k = 12 from fun z => k12 ((nI_eq (b := 12) (by omega) (by decide)).mp z))]
/-- joins: one is done -/
theorem sm_j1 {till : Int32} {k m : Nat} (hS : SM σ0 (S ++ [k]) C O wh σ) (hb : S.length + 1 + C.length < 45) (hk : k = 11 ∨ (k = 12 ∧ till = 12)) : ∃ σ', lX5_joins_0 N (m + 1) σ till = lX5_joins_0 N m σ' till ∧ SM σ0 S (C ++ [(k, 0, 0)]) O wh σ' ∧ tkS σ σ' := by
  obtain ⟨t1, t2, t3⟩ := sm_top hS (by omega)
  obtain ⟨p1, p2⟩ := sm_pop' (by omega) hS
  obtain ⟨σ1, c1, c2, c3⟩ := sm_code (N := N) p1 (by omega) k 0 0
  have r : rA (sI σ 48 (nI S.length)) 45 (gI (sI σ 48 (nI S.length)) 48) = some (nI k) := t3
  have c1 : fX5_code N (sI σ 48 (nI S.length)) (nI k) 0 0 = some σ1 := c1
  refine ⟨σ1, ?_, c2, p2.trans c3⟩
  rw [lX5_joins_0, if_neg t1, t2, t3, Option.bind_some]
  rcases hk with rfl | ⟨rfl, ht⟩
  · rw [if_pos (show nI 11 = 11 from rfl)]
    simp only [lt_]
    rw [r, Option.bind_some, c1, Option.bind_some]
  · rw [if_neg (show ¬ nI 12 = 11 by decide), Option.bind_some, if_pos (show nI 12 = 12 from rfl), if_pos ht]
    simp only [lt_]
    rw [r, Option.bind_some, c1, Option.bind_some]
/-- one is put on the stack -/
theorem sm_push {k : Nat} (hS : SM σ0 S C O wh σ) (hb : S.length < 45) (hk : 10 ≤ k ∧ k ≤ 13) (v : Int32) (hv : v = nI (1 + cn2 (S ++ [k]))) : wA σ 45 (gI σ 48) (nI k) = some (aS σ 45 (upd (gA σ 45) S.length (nI k))) ∧ gI σ 48 + 1 = nI (S.length + 1) ∧ SM σ0 (S ++ [k]) C O wh (sI (sI (aS σ 45 (upd (gA σ 45) S.length (nI k))) 48 (nI (S.length + 1))) 49 v) ∧ tkS σ (sI (sI (aS σ 45 (upd (gA σ 45) S.length (nI k))) 48 (nI (S.length + 1))) 49 v) := by
  obtain ⟨⟨i1, i2, i3, i4, i5⟩, ⟨s1, s2⟩, c1, f1, f2, f3⟩ := hS
  refine ⟨?_, by rw [i3]; exact nI_add _ 1, ⟨⟨i1, i2, ?_, hv, i5⟩, ⟨fun j hj => ?_, fun x hx => ?_⟩, fun j hj => ?_, fun j j1 j2 => ?_, f2, fun k k1 k2 k3 k4 => ?_⟩, fun k hk => ?_, rfl, rfl, fun j j1 j2 => ?_⟩
  · rw [i3, wA45 hb, sA_aS]
  · rw [List.length_append]; rfl
  · show gA (aS σ 45 (upd (gA σ 45) S.length (nI k))) 45 j = _
    rw [List.length_append] at hj
    have hj : j < S.length + 1 := hj
    rw [gA_same, getD_a]
    by_cases e : j < S.length
    · rw [pk_un (by omega), if_pos e]; exact s1 j e
    · obtain rfl : j = S.length := by omega
      rw [pk_us, if_neg e, if_pos rfl]
  · rcases List.mem_append.mp hx with z | z
    · exact s2 x z
    · rw [List.mem_singleton.mp z]; exact hk
  · show gA (aS σ 45 (upd (gA σ 45) S.length (nI k))) 8 (3 * j) = _ ∧ gA (aS σ 45 (upd (gA σ 45) S.length (nI k))) 8 (3 * j + 1) = _ ∧ gA (aS σ 45 (upd (gA σ 45) S.length (nI k))) 8 (3 * j + 2) = _
    rw [gA_o (by decide)]; exact c1 j hj
  · show gA (aS σ 45 (upd (gA σ 45) S.length (nI k))) j = _
    rw [gA_o j2]; exact f1 j j1 j2
  · rw [gI_sI, if_neg (by omega), gI_sI, if_neg (by omega)]; exact f3 k k1 k2 k3 k4
  · rw [gI_sI, if_neg (by omega), gI_sI, if_neg (by omega)]; rfl
  · show gA (aS σ 45 (upd (gA σ 45) S.length (nI k))) j = _
    rw [gA_o j2]
theorem sm_push' {k : Nat} (hS : SM σ0 S C O wh σ) (hb : S.length < 45) (hk : k = 11 ∨ k = 12) : wA σ 45 (gI σ 48) (nI k) = some (aS σ 45 (upd (gA σ 45) S.length (nI k))) ∧ gI σ 48 + 1 = nI (S.length + 1) ∧ SM σ0 (S ++ [k]) C O wh (sI (aS σ 45 (upd (gA σ 45) S.length (nI k))) 48 (nI (S.length + 1))) ∧ tkS σ (sI (aS σ 45 (upd (gA σ 45) S.length (nI k))) 48 (nI (S.length + 1))) := by
  have e : gI σ 49 = nI (1 + cn2 (S ++ [k])) := by
    rw [hS.1.2.2.2.1, cn2_app]
    show _ = nI (1 + (cn2 S + ((if k = 10 ∨ k = 13 then 1 else 0) + 0)))
    rw [if_neg (by omega)]; rfl
  obtain ⟨p1, p2, p3, p4⟩ := sm_push hS hb (k := k) (by omega) (gI σ 49) e
  rw [show sI (sI (aS σ 45 (upd (gA σ 45) S.length (nI k))) 48 (nI (S.length + 1))) 49 (gI σ 49) = sI (aS σ 45 (upd (gA σ 45) S.length (nI k))) 48 (nI (S.length + 1)) from sI_id (σ := sI (aS σ 45 (upd (gA σ 45) S.length (nI k))) 48 (nI (S.length + 1))) rfl] at p3 p4
  exact ⟨p1, p2, p3, p4⟩
theorem sm_wh {v : Bool} (hS : SM σ0 S C O wh σ) : SM σ0 S C O v (sI σ 50 (bI v)) ∧ tkS σ (sI σ 50 (bI v)) := by
  obtain ⟨⟨i1, i2, i3, i4, i5⟩, s1, c1, f1, f2, f3⟩ := hS
  exact ⟨⟨⟨i1, i2, i3, i4, rfl⟩, s1, c1, f1, f2, fun k k1 k2 k3 k4 => by rw [gI_sI, if_neg (by omega)]; exact f3 k k1 k2 k3 k4⟩, fun k hk => by rw [gI_sI, if_neg (by omega)], rfl, rfl, fun _ _ _ => rfl⟩
theorem sm_on1 {O' : Nat} (hS : SM σ0 S C O wh σ) : SM σ0 S C O' wh (sI σ 47 (nI O')) ∧ tkS σ (sI σ 47 (nI O')) := by
  obtain ⟨⟨i1, i2, i3, i4, i5⟩, s1, c1, f1, f2, f3⟩ := hS
  exact ⟨⟨⟨i1, rfl, i3, i4, i5⟩, s1, c1, f1, f2, fun k k1 k2 k3 k4 => by rw [gI_sI, if_neg (by omega)]; exact f3 k k1 k2 k3 k4⟩, fun k hk => by rw [gI_sI, if_neg (by omega)], rfl, rfl, fun _ _ _ => rfl⟩
/-- a token is read on: stack and codes stay -/
theorem sm_mk (hS : SM σ0 S C O wh σ) (K : mK σ σ') : SM σ0 S C O wh σ' := by
  obtain ⟨⟨i1, i2, i3, i4, i5⟩, s1, c1, f1, f2, f3⟩ := hS
  have I : ∀ k, 46 ≤ k → k ≤ 50 → gI σ' k = gI σ k := fun k k1 k2 => K.2.2 k (by omega) (by omega) (by omega) (by omega) (by omega) (by omega) (by omega) (by omega)
  refine ⟨⟨by rw [I 46 (by decide) (by decide)]; exact i1, by rw [I 47 (by decide) (by decide)]; exact i2, by rw [I 48 (by decide) (by decide)]; exact i3, by rw [I 49 (by decide) (by decide)]; exact i4, by rw [I 50 (by decide) (by decide)]; exact i5⟩, by rw [K.1]; exact s1, by rw [K.1]; exact c1, by rw [K.1]; exact f1, K.2.1.trans f2, fun k k1 k2 k3 k4 => ?_⟩
  rw [K.2.2 k k1 (by omega) (by omega) (by omega) (by omega) (by omega) (by omega) k3]; exact f3 k k1 k2 k3 k4
end PUC
