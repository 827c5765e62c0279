/-! what is said of somebody -/
section PUA
variable {h : HS} {g : Nat → Nat → Int32} {σ : MS} {N b a n p : Nat} {F : Nat → Nat}
theorem trod_both (hN : 200000 ≤ N) (W : NW h g b σ F a) (hp : p < F 2) {w : Nat} (hw : w < F 3) : ∃ v : Bool, fX3_trod N (iS h g) (b + 8) (nI p) (le h (rf h a 6) w) = some (bI v) ∧ fX5_hasTrod N σ (nI p) (nI w) = some (bI v) := by
  have hM := W.mh
  have k2 := hM.1.1.2.2.1
  have k3 := hM.1.1.2.2.2.1
  obtain ⟨kw1, kw2, kw3⟩ := hM.1.2.2.2.2.2 w hw
  have r1 : rA σ 6 (177 + nI w) = some (nI (F (177 + w))) := by rw [pl_la]; exact mo_i hM (by show 177 + w < 429; omega)
  refine exE2 (lp_two (fun m (_ : Unit) i => lX3_trod_2 N (iS h g) m (b + 8) (nI p) (le h (rf h a 6) w) i) (fun m (_ : Unit) i => lX5_hasTrod_2 N σ m (nI p) (nI w) i) (F (177 + w)) (fun i x y => True) (fun x y => (x = .inl () ∧ y = .inl ()) ∨ (x = .inr 1 ∧ y = .inr 1)) ?_ ?_ (F (177 + w)) 0 () () N (by omega) (by omega) trivial) fun r r' e1 e2 hq => ?_
  · rintro m i _ _ hi -
    have n1 : nI i + 1 = nI (i + 1) := nI_add _ 1
    have ht := W.tl hw hi
    have r4 : rA σ 6 (183 + 41 * nI w + nI i) = some (nI (F (183 + 41 * w + i))) := by rw [pl_lm, pl_la, nI_add]; exact mo_i hM (by show 183 + 41 * w + i < 429; omega)
    have C : lX3_trod_2 N (iS h g) (m + 1) (b + 8) (nI p) (le h (rf h a 6) w) (nI i) = if lo (TM (gA σ 6)) (F (183 + 41 * w + i)) p ≤ 0 then lX3_trod_2 N (iS h g) m (b + 8) (nI p) (le h (rf h a 6) w) (nI (i + 1)) else some (.inr 1) := by
      rw [lX3_trod_2, ho_w3 W.ho hw]
      simp only [Option.bind_some]
      rw [if_neg (nI_nlt (by omega) (by omega)), ho_w1 W.ho hw]
      simp only [Option.bind_some, ho_wt W.ho hw hi, ru_g W.ru g, co_on hN W.ru ht (show p < 6 by omega), W.lox ht (show p < 6 by omega), n1]
    have M : lX5_hasTrod_2 N σ (m + 1) (nI p) (nI w) (nI i) = if lo (TM (gA σ 6)) (F (183 + 41 * w + i)) p ≤ 0 then lX5_hasTrod_2 N σ m (nI p) (nI w) (nI (i + 1)) else some (.inr 1) := by
      rw [lX5_hasTrod_2, r1]
      simp only [Option.bind_some]
      rw [if_neg (nI_ge hi (by omega)), r4]
      simp only [Option.bind_some, mo_liesOf hN ht (show p < 6 by omega), n1]
    by_cases c : lo (TM (gA σ 6)) (F (183 + 41 * w + i)) p ≤ 0
    · rw [if_pos c] at C M
      exact Or.inr ⟨(), (), trivial, C, M⟩
    · rw [if_neg c] at C M
      exact Or.inl ⟨_, _, C, M, Or.inr ⟨rfl, rfl⟩⟩
  · rintro m _ _ -
    refine ⟨.inl (), .inl (), ?_, ?_, Or.inl ⟨rfl, rfl⟩⟩
    · show lX3_trod_2 N (iS h g) (m + 1) (b + 8) (nI p) (le h (rf h a 6) w) (nI (F (177 + w))) = _
      rw [lX3_trod_2, ho_w3 W.ho hw]
      simp only [Option.bind_some]
      rw [if_pos (nI_lt (by omega) (by omega))]
    · show lX5_hasTrod_2 N σ (m + 1) (nI p) (nI w) (nI (F (177 + w))) = _
      rw [lX5_hasTrod_2, r1]
      simp only [Option.bind_some]
      rw [if_pos (Int32.le_refl _)]
  · unfold fX3_trod fX5_hasTrod
    rw [show lX3_trod_2 N (iS h g) N (b + 8) (nI p) (le h (rf h a 6) w) 0 = some r from e1, show lX5_hasTrod_2 N σ N (nI p) (nI w) 0 = some r' from e2]
    rcases hq with ⟨rfl, rfl⟩ | ⟨rfl, rfl⟩
    · exact ⟨false, rfl, rfl⟩
    · exact ⟨true, rfl, rfl⟩
/-- a value is compared -/
def cmpB (s : Nat) (v n : Int32) : Bool := if s = 60 then !decide (n ≤ v) else if s = 61 then decide (v = n) else !decide (v ≤ n)
theorem val_c (hN : 200000 ≤ N) (W : NW h g b σ F a) (hp : p < F 2) {x : Nat} (hx : x < 6) {c : Nat} (hT : kT h c = 13) (h0 : g c 0 = nI x) : fX17_value N (iS h g) c (b + 8) (nI p) = some (if x = 5 then nI p else pvl (gA σ 6) F p (nI x)) := by
  have k2 := W.mh.1.1.2.2.1
  have p6 : p < 6 := by omega
  have R0 : fR (iS h g) (b + 8) 3 3 0 = some a := (ru_f W.ru g).trans W.2.2.2.2.1
  have O : ∀ j, oI (iS h g) c 13 13 j = some (g c j) := fun j => oI_n (h := iS h g) (Nat.le_of_eq hT.symm) (Nat.le_of_eq hT)
  have s3 : sm (fun t => lo (TC g (b + 8) 3) t p) 144 = sm (fun t => lo (TM (gA σ 6)) t p) 144 := sm_ext fun t ht => W.lox ht p6
  have s4 : sm (fun t => pos1 (lo (TC g (b + 8) 3) t p)) 144 = sm (fun t => pos1 (lo (TM (gA σ 6)) t p)) 144 := sm_ext fun t ht => by rw [W.lox ht p6]
  unfold fX17_value
  rw [R0]
  simp only [Option.bind_some, ho_R W.ho (k := 5) (by decide) (by decide), ls_g (ho_p W.ho), ls_get (ho_p W.ho) hp, ho_pg W.ho hp, O, h0, ho_p1 W.ho hp, ho_p2 W.ho hp, ho_p3 W.ho hp, ru_g W.ru g, co_of hN W.ru p6, co_tuftsOf hN W.ru p6, s3, s4]
  have hx6 : x = 0 ∨ x = 1 ∨ x = 2 ∨ x = 3 ∨ x = 4 ∨ x = 5 := by omega
  unfold pvl
  rcases hx6 with rfl | rfl | rfl | rfl | rfl | rfl <;> rfl
/-- a leaf: both sides -/
theorem leaf_both (hN : 200000 ≤ N) (W : NW h g b σ F a) (hp : p < F 2) (t0 : gI σ 0 = 0) {x s m c : Nat} (hx : x < 6) (hs : s = 60 ∨ s = 61 ∨ s = 62) (hm : m ≤ 999) (hT : kT h c = 13) (h0 : g c 0 = nI x) (h1 : g c 1 = nI s) (h2 : g c 2 = nI m) : ∃ v : Bool, fX17_holds N (iS h g) c (b + 8) (nI p) = some (bI v) ∧ fX5_isLeaf N σ (nI p) (nI (x + 1)) (nI s) (nI m) = some (bI v, σ) := by
  have k2 := W.mh.1.1.2.2.1
  have O : ∀ j, oI (iS h g) c 13 13 j = some (g c j) := fun j => oI_n (h := iS h g) (Nat.le_of_eq hT.symm) (Nat.le_of_eq hT)
  obtain ⟨vv, evv⟩ : ∃ vv, vv = if x = 5 then nI p else pvl (gA σ 6) F p (nI x) := ⟨_, rfl⟩
  refine ⟨cmpB s vv (nI m), ?_, ?_⟩
  · unfold fX17_holds
    rw [gT_n (h := iS h g) (Nat.le_of_eq hT.symm) (Nat.le_of_eq hT), val_c hN W hp hx hT h0, ← evv]
    simp only [Option.bind_some, O, h1, h2]
    unfold cmpB
    rcases hs with rfl | rfl | rfl
    · rw [if_pos (show nI 60 = 60 from rfl), if_pos rfl]
      by_cases c : nI m ≤ vv
      · rw [if_pos c, decide_eq_true c]; rfl
      · rw [if_neg c, decide_eq_false c]; rfl
    · rw [if_neg (show ¬ nI 61 = 60 by decide), if_pos (show nI 61 = 61 from rfl), if_neg (show ¬ (61 : Nat) = 60 by decide), if_pos (show (61 : Nat) = 61 from rfl)]
      by_cases c : vv = nI m
      · rw [if_pos c, decide_eq_true c]; rfl
      · rw [if_neg c, decide_eq_false c]; rfl
    · rw [if_neg (show ¬ nI 62 = 60 by decide), if_neg (show ¬ nI 62 = 61 by decide), if_neg (show ¬ (62 : Nat) = 60 by decide), if_neg (show ¬ (62 : Nat) = 61 by decide)]
      by_cases c : vv ≤ nI m
      · rw [if_pos c, decide_eq_true c]; rfl
      · rw [if_neg c, decide_eq_false c]; rfl
  · have st : sI σ 0 0 = σ := sI_id t0
    have isp : fX1_isIn (nI p) 0 (nI (F 2) - 1) = 1 := by
      rw [isIn_in _ (by omega), inB_n (by omega), decide_eq_true hp]; rfl
    have pv : x ≠ 5 → fX5_person N σ (nI p) (nI (x + 1) - 1) = some (vv, σ) := fun h5 => by
      rw [show nI (x + 1) - 1 = nI x from by rw [show nI (x + 1) - 1 = nI (x + 1 - 1) from pl_sl (n := 1) (by show 1 ≤ x + 1; omega), Nat.add_sub_cancel], W.mp hN, isp, if_neg (by decide)]
      have i5 : fX1_isIn (nI x) 0 5 = 1 := by
        have hx6 : x = 0 ∨ x = 1 ∨ x = 2 ∨ x = 3 ∨ x = 4 := by omega
        rcases hx6 with rfl | rfl | rfl | rfl | rfl <;> rfl
      rw [i5, if_neg (by decide), nI_clamp (by omega), st, evv, if_neg h5]
    have fin : ∀ (u : Int32) (ss : MS), (if nI s = 60 then (if nI m ≤ u then (some ((0 : Int32), ss)) else (some (1, ss))) else (if nI s = 61 then (if u = nI m then (some (1, ss)) else (some (0, ss))) else (if u ≤ nI m then (some (0, ss)) else (some (1, ss))))) = some (bI (cmpB s u (nI m)), ss) := fun u ss => by
      unfold cmpB
      rcases hs with rfl | rfl | rfl
      · rw [if_pos (show nI 60 = 60 from rfl), if_pos rfl]
        by_cases c : nI m ≤ u
        · rw [if_pos c, decide_eq_true c]; rfl
        · rw [if_neg c, decide_eq_false c]; rfl
      · rw [if_neg (show ¬ nI 61 = 60 by decide), if_pos (show nI 61 = 61 from rfl), if_neg (show ¬ (61 : Nat) = 60 by decide), if_pos (show (61 : Nat) = 61 from rfl)]
        by_cases c : u = nI m
        · rw [if_pos c, decide_eq_true c]; rfl
        · rw [if_neg c, decide_eq_false c]; rfl
      · rw [if_neg (show ¬ nI 62 = 60 by decide), if_neg (show ¬ nI 62 = 61 by decide), if_neg (show ¬ (62 : Nat) = 60 by decide), if_neg (show ¬ (62 : Nat) = 61 by decide)]
        by_cases c : u ≤ nI m
        · rw [if_pos c, decide_eq_true c]; rfl
        · rw [if_neg c, decide_eq_false c]; rfl
    unfold fX5_isLeaf
    rw [if_neg (show ¬ nI (x + 1) = 0 from fun z => by have := (nI_eq (b := 0) (by omega) (by decide)).mp z; omega)]
    by_cases h5 : x = 5
    · rw [if_pos (show nI (x + 1) = 6 by rw [h5]; rfl)]
      rw [if_pos h5] at evv
      rw [evv]
      exact fin (nI p) σ
    · rw [if_neg (show ¬ nI (x + 1) = 6 from fun z => by have := (nI_eq (b := 6) (by omega) (by decide)).mp z; omega), pv h5]
      simp only [Option.bind_some]
      exact fin vv σ
end PUA
