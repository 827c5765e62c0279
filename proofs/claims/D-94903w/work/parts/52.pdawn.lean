/-! a day: both sides -/
/-- a loop that counts down -/
theorem lp_down {α β : Type} (l : Nat → α → Int32 → Option β) (st : Nat → α) (n : Nat) (r : β) (hs : ∀ m i, 1 ≤ i → i ≤ n → l (m + 1) (st i) (nI i) = l m (st (i - 1)) (nI (i - 1))) (he : ∀ m, l (m + 1) (st 0) (nI 0) = some r) : ∀ i fuel, i ≤ n → i < fuel → l fuel (st i) (nI i) = some r := by
  intro i
  induction i with
  | zero =>
    intro fuel _ hf
    obtain ⟨m, rfl⟩ : ∃ m, fuel = m + 1 := ⟨fuel - 1, by omega⟩
    exact he m
  | succ i ih =>
    intro fuel hi hf
    obtain ⟨m, rfl⟩ : ∃ m, fuel = m + 1 := ⟨fuel - 1, by omega⟩
    rw [hs m (i + 1) (by omega) hi]
    exact ih m (by omega) (by omega)
def shf (fd : Nat) (v : Nat → Int32) (i : Nat) : Int32 := if i = 0 ∨ fd ≤ i then 0 else v (i - 1)
section PDW
variable {h : HS} {g : Nat → Nat → Int32} {σ : MS} {N r b a : Nat} {F : Nat → Nat} {nm : Nat → Int64}
def dwn (g : Nat → Nat → Int32) (x i : Nat) : Nat → Nat → Int32 := fun y j => if y = x ∧ i < j ∧ j < 9 then g x (j - 1) else g y j
def zer (g : Nat → Nat → Int32) (x d i : Nat) : Nat → Nat → Int32 := fun y j => if y = x ∧ d ≤ j ∧ j < i then 0 else g y j
theorem co_older (hN : 200000 ≤ N) (hR : RugS h r) (hk : kR h r 0 = some a) (hH : ∀ g', (∀ y, imm b (kZ h) y → g' y = g y) → HouR h g' b a F nm) {x : Nat} (h1 : kT h x = 31) (h2 : kN h x = 9) (h3 : kG h 0 ≤ x) (hx : ¬ imm b (kZ h) x) : ∃ g', fX3_older N (iS h g) r x = some (iS h g') ∧ (∀ y, y ≠ x → g' y = g y) ∧ ∀ i, i < 9 → g' x i = shf (F 6) (g x) i := by
  have k6 := (hH g fun _ _ => rfl).1.1.2.2.2.2.2.2
  have rd : ∀ (g' : Nat → Nat → Int32) (i : Nat), i < 9 → aI (iS h g') x 31 (nI i) = some (g' x i) := fun g' i hi => aI_n (h := iS h g') h1 (by rw [kN_iS, h2]; exact hi) (by rw [kN_iS, h2]; decide)
  have wr : ∀ (g' : Nat → Nat → Int32) (i : Nat) (v : Int32), i < 9 → wI (iS h g') x 31 (nI i) v = some (iS h (u2 g' x i v)) := fun g' i v hi => wI_n (h := iS h g') h1 (by rw [kN_iS, h2]; exact hi) (by rw [kN_iS, h2]; decide) h3
  have e3 := lp_down (fun m (s : HS) i => lX3_older_3 N m s r x i) (fun i => iS h (dwn g x i)) 8 (iS h (dwn g x 0)) (fun m i i1 i8 => by
    rw [lX3_older_3]
    simp (disch := omega) only [pl_lef2, if_false, pl_s1, rd, wr, Option.bind_some, pl_m1]
    congr 2
    funext y j
    unfold dwn
    by_cases c1 : y = x
    · subst c1
      by_cases c2 : j = i
      · subst c2; rw [u2_eq, if_neg (by omega), if_pos (by omega)]
      · rw [u2_ne (Or.inr c2)]
        by_cases c3 : i < j ∧ j < 9
        · rw [if_pos ⟨rfl, c3⟩, if_pos (by omega)]
        · rw [if_neg (by omega), if_neg (by omega)]
    · rw [u2_nf c1, if_neg (by omega), if_neg (by omega)]) (fun m => by
    rw [lX3_older_3]; rfl) 8 N (by omega) (by omega)
  have d8 : dwn g x 8 = g := by funext y j; unfold dwn; rw [if_neg (by omega)]
  simp only [d8] at e3
  have hH2 := hH (u2 (dwn g x 0) x 0 0) (fun y hy => by
    have : y ≠ x := fun e => hx (e ▸ hy)
    rw [u2_nf this]; funext j; unfold dwn; rw [if_neg (by omega)])
  have e4 := lp_from (fun m (s : HS) i => lX3_older_33 N m s x i) (fun i => iS h (zer (u2 (dwn g x 0) x 0 0) x (F 6) i)) (F 6) 9 (iS h (zer (u2 (dwn g x 0) x 0 0) x (F 6) 9)) (fun m i i1 i9 => by
    rw [lX3_older_33]
    simp (disch := omega) only [pl_let, pl_lef, pl_ltt, pl_ltf, pl_eqf, pl_let1, pl_lef1, pl_ltt1, pl_ltf1, pl_eqf1, pl_let2, pl_lef2, pl_ltt2, pl_ltf2, pl_em1, if_true, if_false, ite_self, wr, Option.bind_some, pl_la, pl_al, pl_lm, pl_ml, nI_add, pk_mul, pl_sl, pl_m1]
    congr 2
    funext y j
    unfold zer
    by_cases c1 : y = x
    · subst c1
      by_cases c2 : j = i
      · subst c2; rw [u2_eq, if_pos (by omega)]
      · rw [u2_ne (Or.inr c2)]
        by_cases c3 : F 6 ≤ j ∧ j < i
        · rw [if_pos ⟨rfl, c3⟩, if_pos (by omega)]
        · rw [if_neg (by omega), if_neg (by omega)]
    · rw [u2_nf c1, if_neg (by omega), if_neg (by omega)]) (fun m => by
    rw [lX3_older_33]; rfl) (9 - F 6) (F 6) N (Nat.le_refl _) (by omega) (by omega)
  have z0 : zer (u2 (dwn g x 0) x 0 0) x (F 6) (F 6) = u2 (dwn g x 0) x 0 0 := by funext y j; unfold zer; rw [if_neg (by omega)]
  simp only [z0] at e4
  refine ⟨zer (u2 (dwn g x 0) x 0 0) x (F 6) 9, ?_, fun y hy => ?_, fun i hi => ?_⟩
  · unfold fX3_older
    rw [show lX3_older_3 N N (iS h g) r x 8 = some (iS h (dwn g x 0)) from e3]
    simp only [Option.bind_some]
    rw [show wI (iS h (dwn g x 0)) x 31 0 0 = some (iS h (u2 (dwn g x 0) x 0 0)) from wr _ 0 0 (by decide)]
    simp only [Option.bind_some, ru_f hR, hk, ho_2 hH2, e4]
  · funext j
    unfold zer
    rw [if_neg (by omega), u2_nf hy]
    unfold dwn
    rw [if_neg (by omega)]
  · unfold zer shf
    by_cases c1 : F 6 ≤ i
    · rw [if_pos ⟨rfl, c1, hi⟩, if_pos (Or.inr c1)]
    · rw [if_neg (by omega)]
      by_cases c2 : i = 0
      · subst c2; rw [u2_eq, if_pos (Or.inl rfl)]
      · rw [u2_ne (Or.inr c2), if_neg (by omega)]
        unfold dwn
        rw [if_pos (by omega)]
/-- the Model's row -/
def olF (f : Nat → Int32) (row fd : Nat) : Nat → Int32 := fun j => if row ≤ j ∧ j < row + 9 then shf fd (fun i => f (row + i)) (j - row) else f j
theorem mo_older (hN : 200000 ≤ N) (hM : MH (gA σ 6) F) {row : Nat} (hr : 429 ≤ row) (hr2 : row + 9 ≤ 10265) : fX5_older N σ (nI row) = some (aS σ 6 (olF (gA σ 6) row (F 6))) := by
  have k6 := hM.1.1.2.2.2.2.2.2
  unfold fX5_older
  obtain ⟨st, hst⟩ : ∃ st : Nat → Nat → Int32, st = fun i j => if row + i < j ∧ j < row + 9 then (if j - row < F 6 then gA σ 6 (j - 1) else 0) else gA σ 6 j := ⟨_, rfl⟩
  have e3 := lp_down (fun m (s : MS) i => lX5_older_3 N m s (nI row) i) (fun i => aS σ 6 (st i)) 8 (aS σ 6 (st 0)) (fun m i i1 i8 => by
    have hMa : MH (gA (aS σ 6 (st i)) 6) F := ⟨hM.1, fun j hj => by rw [gA_same, hst]; show (if _ then _ else _) = _; rw [if_neg (by omega)]; exact hM.2 j hj⟩
    rw [lX5_older_3, mo_6 hMa]
    simp (disch := omega) only [pl_lef2, if_false, Option.bind_some, pl_la, pl_al, pl_lm, pl_ml, nI_add, pk_mul, pl_sl, pl_m1, pl_s1, rA6, wA6, gA_same, sA_6]
    have q3 : (if nI (F 6) ≤ nI i then (some 0 : Option Int32) else some (st i (row + i - 1))) = some (if i < F 6 then gA σ 6 (row + i - 1) else 0) := by
      by_cases c : i < F 6
      · rw [if_neg (nI_ge c (by omega)), if_pos c, hst]
        show some (if _ then _ else _) = _
        rw [if_neg (by omega)]
      · rw [if_pos (nI_le (by omega) (by omega)), if_neg c]
    rw [q3]
    simp only [Option.bind_some]
    congr 2
    funext j
    rw [hst]
    unfold upd
    by_cases c2 : j = row + i
    · subst c2
      rw [if_pos rfl]
      show _ = (if _ then _ else _)
      rw [if_pos (show row + (i - 1) < row + i ∧ row + i < row + 9 by omega), show row + i - row = i by omega]
    · rw [if_neg c2]
      show (if _ then _ else _) = (if _ then _ else _)
      by_cases c3 : row + i < j ∧ j < row + 9
      · rw [if_pos c3, if_pos (show row + (i - 1) < j ∧ j < row + 9 by omega)]
      · rw [if_neg c3, if_neg (show ¬ (row + (i - 1) < j ∧ j < row + 9) by omega)]) (fun m => by
    rw [lX5_older_3]; rfl) 8 N (by omega) (by omega)
  have s8 : aS σ 6 (st 8) = σ := by
    rw [show st 8 = gA σ 6 by rw [hst]; funext j; show (if _ then _ else _) = _; rw [if_neg (by omega)], aS_id]
  simp only [s8] at e3
  rw [show lX5_older_3 N N σ (nI row) 8 = some (aS σ 6 (st 0)) from e3]
  simp only [Option.bind_some]
  rw [wA6 (by omega), sA_6]
  simp only [Option.bind_some]
  congr 2
  funext j
  rw [hst]
  unfold upd olF shf
  by_cases c1 : j = row
  · subst c1; rw [if_pos rfl, if_pos (by omega), if_pos (Or.inl (by omega))]
  · rw [if_neg c1]
    show (if _ then _ else _) = _
    by_cases c2 : row + 0 < j ∧ j < row + 9
    · rw [if_pos c2, if_pos (show row ≤ j ∧ j < row + 9 by omega)]
      by_cases c3 : j - row < F 6
      · rw [if_pos c3, if_neg (by omega)]; congr 1; omega
      · rw [if_neg c3, if_pos (Or.inr (by omega))]
    · rw [if_neg c2, if_neg (by omega)]
end PDW
