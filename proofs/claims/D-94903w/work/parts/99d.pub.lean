/-! what is said of somebody: the whole condition -/
section PUB
variable {h : HS} {g : Nat → Nat → Int32} {σ : MS} {N b a n p : Nat} {F : Nat → Nat}
/-- the Model's codes from the i-th on -/
def CDs (σ : MS) (i : Nat) (L : List (Nat × Nat × Nat)) : Prop := ∀ j, j < L.length → gA σ 6 (10085 + 3 * (i + j)) = nI (L.getD j (0, 0, 0)).1 ∧ gA σ 6 (10085 + 3 * (i + j) + 1) = nI (L.getD j (0, 0, 0)).2.1 ∧ gA σ 6 (10085 + 3 * (i + j) + 2) = nI (L.getD j (0, 0, 0)).2.2
theorem CDs.l {i : Nat} {L1 L2 : List (Nat × Nat × Nat)} (hC : CDs σ i (L1 ++ L2)) : CDs σ i L1 := fun j hj => by
  have := hC j (by rw [List.length_append]; omega)
  rw [List.getD_eq_getElem?_getD, List.getElem?_append_left hj] at this
  rw [List.getD_eq_getElem?_getD]; exact this
theorem CDs.r {i : Nat} {L1 L2 : List (Nat × Nat × Nat)} (hC : CDs σ i (L1 ++ L2)) : CDs σ (i + L1.length) L2 := fun j hj => by
  have := hC (L1.length + j) (by rw [List.length_append]; omega)
  rw [List.getD_eq_getElem?_getD, List.getElem?_append_right (by omega), show L1.length + j - L1.length = j by omega, show i + (L1.length + j) = i + L1.length + j by omega] at this
  rw [List.getD_eq_getElem?_getD]; exact this
theorem vpb (v : Bool) : vp_nar .boolean (bI v) = bI v := by cases v <;> rfl
theorem bIn (v : Bool) : (if bI v = 0 then (1 : Int32) else 0) = bI (!v) := by cases v <;> rfl
theorem w51 {f : Nat → Int32} {i : Nat} (hi : i < 45) (v : Int32) : wA (aS σ 51 f) 51 (nI i) v = some (aS σ 51 (upd f i v)) := (wA51 hi).trans (by rw [sA_6])
theorem r51 {f : Nat → Int32} {i : Nat} (hi : i < 45) : rA (aS σ 51 f) 51 (nI i) = some (f i) := (rA51 hi).trans (by rw [gA_same])
/-- a step of the Model, its place in the codes named -/
def isS (N n : Nat) (σ : MS) (y1 y2 y3 ix v1 : Int32) : Option MS := (if v1 ≤ y3 then (some σ) else ((rA σ 6 ix).bind fun v3 => (if v3 = 10 then ((rA σ 51 (y2 - 1)).bind fun v27 => (lt_ (if v27 = 0 then 1 else 0) fun q28 => ((wA σ 51 (y2 - 1) (vp_nar .boolean q28)).bind fun σ30 => lX5_isSaid_4 N n σ30 y1 y2 (y3 + 1)))) else ((rA σ 6 ix).bind fun v5 => ((if v5 = 11 then (some true) else ((rA σ 6 ix).bind fun v8 => (if v8 = 12 then (some true) else (some false)))).bind fun q6 => (if q6 = true then ((rA σ 6 ix).bind fun v10 => ((if v10 = 11 then ((rA σ 51 ((y2 + (-1)) - 1)).bind fun v17 => (if v17 = 0 then (some 0) else ((rA σ 51 (y2 + (-1))).bind fun v19 => (if v19 = 0 then (some 0) else (some 1))))) else ((rA σ 51 ((y2 + (-1)) - 1)).bind fun v13 => (if v13 = 0 then ((rA σ 51 (y2 + (-1))).bind fun v15 => (if v15 = 0 then (some 0) else (some 1))) else (some 1)))).bind fun q11 => ((wA σ 51 ((y2 + (-1)) - 1) (vp_nar .boolean q11)).bind fun σ21 => lX5_isSaid_4 N n σ21 y1 (y2 + (-1)) (y3 + 1)))) else ((rA σ 6 ix).bind fun v22 => ((rA σ 6 (ix + 1)).bind fun v23 => ((rA σ 6 (ix + 2)).bind fun v24 => ((fX5_isLeaf N σ y1 v22 v23 v24).bind fun r25 => ((wA r25.2 51 y2 (vp_nar .boolean r25.1)).bind fun σ26 => lX5_isSaid_4 N n σ26 y1 (y2 + 1) (y3 + 1))))))))))))
theorem is_eq {m : Nat} {y1 y2 y3 : Int32} : lX5_isSaid_4 N (m + 1) σ y1 y2 y3 = (rA σ 6 10084).bind fun v1 => isS N m σ y1 y2 y3 (10085 + 3 * y3) v1 := by
  rw [lX5_isSaid_4]; rfl
theorem cd_1 {i : Nat} {x : Nat × Nat × Nat} {f : Nat → Int32} (hC : CDs σ i [x]) (hi : i < 45) : rA (aS σ 51 f) 6 (10085 + 3 * nI i) = some (nI x.1) ∧ rA (aS σ 51 f) 6 (10085 + 3 * nI i + 1) = some (nI x.2.1) ∧ rA (aS σ 51 f) 6 (10085 + 3 * nI i + 2) = some (nI x.2.2) := by
  obtain ⟨c1, c2, c3⟩ := hC 0 (by simp)
  simp only [Nat.add_zero] at c1 c2 c3
  have n0 : (10085 : Int32) + 3 * nI i = nI (10085 + 3 * i) := by rw [pl_lm, pl_la]
  rw [n0, show nI (10085 + 3 * i) + 1 = nI (10085 + 3 * i + 1) from nI_add _ 1, show nI (10085 + 3 * i) + 2 = nI (10085 + 3 * i + 2) from nI_add _ 2, rA6 (by omega), rA6 (by omega), rA6 (by omega), gA_o (by decide), c1, c2, c3]
  exact ⟨rfl, rfl, rfl⟩
theorem cond_both (hN : 200000 ≤ N) (W : NW h g b σ F a) (hp : p < F 2) (t0 : gI σ 0 = 0) {tot : Nat} (htot : gA σ 6 10084 = nI tot) (h45 : tot ≤ 45) : ∀ d c L, CondR h g b F d c L → ∃ v : Bool, rHold N d (iS h g) c (b + 8) (nI p) = some (bI v) ∧ 1 ≤ L.length ∧ ∀ i n f, CDs σ i L → i + L.length ≤ tot → n + L.length ≤ 45 → ∃ f', (∀ m, lX5_isSaid_4 N (m + L.length) (aS σ 51 f) (nI p) (nI n) (nI i) = lX5_isSaid_4 N m (aS σ 51 f') (nI p) (nI (n + 1)) (nI (i + L.length))) ∧ f' n = bI v ∧ ∀ j, j < n → f' j = f j := by
  have r84 : ∀ f, rA (aS σ 51 f) 6 10084 = some (nI tot) := fun f => (rL6 (n := 10084) (by decide)).trans (by rw [gA_o (by decide)]; exact congrArg some htot)
  have leaf : ∀ (x : Nat × Nat × Nat) (v : Bool), (x.1 ≤ 6) → (∀ f, fX5_isLeaf N (aS σ 51 f) (nI p) (nI x.1) (nI x.2.1) (nI x.2.2) = some (bI v, aS σ 51 f)) → ∀ i n f, CDs σ i [x] → i + 1 ≤ tot → n + 1 ≤ 45 → ∃ f', (∀ m, lX5_isSaid_4 N (m + 1) (aS σ 51 f) (nI p) (nI n) (nI i) = lX5_isSaid_4 N m (aS σ 51 f') (nI p) (nI (n + 1)) (nI (i + 1))) ∧ f' n = bI v ∧ ∀ j, j < n → f' j = f j := fun x v hx hl i n f hC hi hn => by
    obtain ⟨c1, c2, c3⟩ := cd_1 (f := f) hC (by omega)
    refine ⟨upd f n (bI v), fun m => ?_, pk_us, fun j hj => pk_un (by omega)⟩
    rw [is_eq, r84, Option.bind_some]
    generalize (10085 : Int32) + 3 * nI i = ix at c1 c2 c3 ⊢
    unfold isS
    have z10 : ¬ nI x.1 = 10 := fun z => by have := (nI_eq (b := 10) (by omega) (by decide)).mp z; omega
    have z11 : ¬ nI x.1 = 11 := fun z => by have := (nI_eq (b := 11) (by omega) (by decide)).mp z; omega
    have z12 : ¬ nI x.1 = 12 := fun z => by have := (nI_eq (b := 12) (by omega) (by decide)).mp z; omega
    rw [if_neg (nI_ge (by omega) (by omega)), c1, Option.bind_some, if_neg z10, Option.bind_some, if_neg z11, Option.bind_some, if_neg z12, Option.bind_some, if_neg (show ¬ false = true by decide), Option.bind_some, c2, Option.bind_some, c3, Option.bind_some, hl f, Option.bind_some, vpb, w51 (show n < 45 by omega), Option.bind_some, show nI n + 1 = nI (n + 1) from nI_add _ 1, show nI i + 1 = nI (i + 1) from nI_add _ 1]
  intro d
  induction d with
  | zero => intro c L hc; exact hc.elim
  | succ d ih =>
    intro c L hc
    obtain ⟨im, hc⟩ := hc
    rcases hc with ⟨a1, a2, L1, a3, rfl⟩ | ⟨a1, a2, a3, L1, L2, k, a4, a5, a6, rfl⟩ | ⟨a1, w, a2, a3, rfl⟩ | ⟨a1, x, s, m, a2, a3, a4, a5, a6, a7, rfl⟩
    · -- not
      obtain ⟨v, e1, e2, e3⟩ := ih _ _ a3
      refine ⟨!v, ?_, by rw [List.length_append]; omega, fun i n f hC hi hn => ?_⟩
      · unfold rHold
        rw [kT_iS, if_pos a1]
        unfold fX15_holds
        rw [fR_n (h := iS h g) (Nat.le_of_eq a1.symm) (Nat.le_of_eq a1), kR_iS, a2]
        simp only [Option.bind_some, e1]
        cases v <;> rfl
      · rw [List.length_append] at hi hn
        have hi : i + (L1.length + 1) ≤ tot := hi
        have hn : n + (L1.length + 1) ≤ 45 := hn
        obtain ⟨f1, q1, q2, q3⟩ := e3 i n f hC.l (by omega) (by omega)
        obtain ⟨c1, -, -⟩ := cd_1 (f := f1) hC.r (by omega)
        refine ⟨upd f1 n (bI (!v)), fun m => ?_, pk_us, fun j hj => by rw [pk_un (by omega)]; exact q3 j hj⟩
        rw [List.length_append, show m + (L1.length + [((10 : Nat), (0 : Nat), (0 : Nat))].length) = (m + 1) + L1.length by show m + (L1.length + 1) = _; omega, q1 (m + 1), is_eq, r84, Option.bind_some]
        generalize (10085 : Int32) + 3 * nI (i + L1.length) = ix at c1 ⊢
        unfold isS
        have n1 : nI (n + 1) - 1 = nI n := by rw [show nI (n + 1) - 1 = nI (n + 1 - 1) from pl_sl (n := 1) (by show 1 ≤ n + 1; omega), Nat.add_sub_cancel]
        rw [if_neg (nI_ge (by omega) (by omega)), c1, Option.bind_some, if_pos (show nI 10 = 10 from rfl), n1, r51 (show n < 45 by omega), Option.bind_some, lt_, q2, bIn, vpb, w51 (show n < 45 by omega), Option.bind_some, show nI (i + L1.length) + 1 = nI (i + (L1.length + [((10 : Nat), (0 : Nat), (0 : Nat))].length)) from nI_add _ 1]
    · -- two
      obtain ⟨v1, e1, e2, e3⟩ := ih _ _ a4
      obtain ⟨v2, f1', f2', f3'⟩ := ih _ _ a5
      have kk : k = 11 ∨ k = 12 := a6.elim (fun z => Or.inl z.2) (fun z => Or.inr z.2)
      refine ⟨if k = 11 then v1 && v2 else v1 || v2, ?_, by rw [List.length_append, List.length_append]; omega, fun i n f hC hi hn => ?_⟩
      · unfold rHold
        rw [kT_iS, if_neg (by omega), if_neg (by omega), if_neg (by omega), if_pos a1]
        unfold fX18_holds
        rw [oI_n (h := iS h g) (Nat.le_of_eq a1.symm) (Nat.le_of_eq a1), kI_iS, fR_n (h := iS h g) (Nat.le_of_eq a1.symm) (Nat.le_of_eq a1), kR_iS, a2, fR_n (h := iS h g) (Nat.le_of_eq a1.symm) (Nat.le_of_eq a1), kR_iS, a3]
        simp only [Option.bind_some, e1, f1']
        rcases a6 with ⟨z, rfl⟩ | ⟨z, rfl⟩
        · rw [z, if_neg (by decide)]
          cases v1 <;> cases v2 <;> rfl
        · rw [z, if_pos rfl]
          cases v1 <;> cases v2 <;> rfl
      · rw [List.length_append, List.length_append] at hi hn
        have hi : i + (L1.length + L2.length + 1) ≤ tot := hi
        have hn : n + (L1.length + L2.length + 1) ≤ 45 := hn
        obtain ⟨g1, q1, q2, q3⟩ := e3 i n f hC.l.l (by omega) (by omega)
        obtain ⟨g2, r1, r2, r3⟩ := f3' (i + L1.length) (n + 1) g1 hC.l.r (by omega) (by omega)
        have hC3 := hC.r
        rw [List.length_append, ← Nat.add_assoc] at hC3
        obtain ⟨c1, -, -⟩ := cd_1 (f := g2) hC3 (by omega)
        have gn : g2 n = bI v1 := by rw [r3 n (by omega)]; exact q2
        refine ⟨upd g2 n (bI (if k = 11 then v1 && v2 else v1 || v2)), fun m => ?_, pk_us, fun j hj => by rw [pk_un (by omega), r3 j (by omega)]; exact q3 j hj⟩
        rw [List.length_append, List.length_append, show m + (L1.length + L2.length + [((k : Nat), (0 : Nat), (0 : Nat))].length) = (m + 1 + L2.length) + L1.length by show m + (L1.length + L2.length + 1) = _; omega, q1 (m + 1 + L2.length), r1 (m + 1), is_eq, r84, Option.bind_some]
        generalize (10085 : Int32) + 3 * nI (i + L1.length + L2.length) = ix at c1 ⊢
        unfold isS
        have n1 : nI (n + 1 + 1) + -1 = nI (n + 1) := pl_m1 (by omega)
        have n2 : nI (n + 1) - 1 = nI n := by rw [show nI (n + 1) - 1 = nI (n + 1 - 1) from pl_sl (n := 1) (by show 1 ≤ n + 1; omega), Nat.add_sub_cancel]
        have nx : nI (i + L1.length + L2.length) + 1 = nI (i + (L1.length + L2.length + [((k : Nat), (0 : Nat), (0 : Nat))].length)) := (nI_add _ 1).trans (congrArg nI (by show i + L1.length + L2.length + 1 = i + (L1.length + L2.length + 1); omega))
        rcases kk with rfl | rfl
        · have : (if bI v1 = 0 then (some (0 : Int32)) else (if bI v2 = 0 then (some 0) else (some 1))) = some (bI (v1 && v2)) := by cases v1 <;> cases v2 <;> rfl
          rw [if_neg (nI_ge (by omega) (by omega)), c1, Option.bind_some, if_neg (show ¬ nI 11 = 10 by decide), Option.bind_some, if_pos (show nI 11 = 11 from rfl), Option.bind_some, if_pos (show true = true from rfl), Option.bind_some, if_pos (show nI 11 = 11 from rfl), n1, n2, r51 (show n < 45 by omega), Option.bind_some, r51 (show n + 1 < 45 by omega), Option.bind_some, gn, r2, this, Option.bind_some, vpb, w51 (show n < 45 by omega), Option.bind_some, nx, if_pos (show (11 : Nat) = 11 from rfl)]
        · have : (if bI v1 = 0 then (if bI v2 = 0 then (some (0 : Int32)) else (some 1)) else (some 1)) = some (bI (v1 || v2)) := by cases v1 <;> cases v2 <;> rfl
          rw [if_neg (nI_ge (by omega) (by omega)), c1, Option.bind_some, if_neg (show ¬ nI 12 = 10 by decide), Option.bind_some, if_neg (show ¬ nI 12 = 11 by decide), Option.bind_some, if_pos (show nI 12 = 12 from rfl), Option.bind_some, if_pos (show true = true from rfl), Option.bind_some, if_neg (show ¬ nI 12 = 11 by decide), n1, n2, r51 (show n < 45 by omega), Option.bind_some, r51 (show n + 1 < 45 by omega), Option.bind_some, gn, r2, this, Option.bind_some, vpb, w51 (show n < 45 by omega), Option.bind_some, nx, if_neg (show ¬ (12 : Nat) = 11 by decide)]
    · -- trod
      obtain ⟨v, e1, e2⟩ := trod_both (N := N) hN W hp a2
      refine ⟨v, ?_, by simp, fun i n f hC hi hn => ?_⟩
      · unfold rHold
        rw [kT_iS, if_neg (by omega), if_pos a1]
        unfold fX16_holds
        rw [show fR (iS h g) (b + 8) 3 3 0 = some a from (ru_f W.ru g).trans W.2.2.2.2.1]
        simp only [Option.bind_some, ho_R W.ho (k := 6) (by decide) (by decide)]
        rw [oI_n (h := iS h g) (Nat.le_of_eq a1.symm) (Nat.le_of_eq a1), kI_iS, a3]
        simp only [Option.bind_some, ls_g (ho_w W.ho), ls_get (ho_w W.ho) a2, ho_wg W.ho a2, ru_g W.ru g, e1]
        cases v <;> rfl
      · refine leaf (0, 0, w) v (Nat.zero_le _) (fun f => ?_) i n f hC hi hn
        have Wf : NW h g b (aS σ 51 f) F a := W.of (fun _ _ _ => rfl) (gA_o (by decide)) rfl
        obtain ⟨v', e1', e2'⟩ := trod_both (N := N) hN Wf hp a2
        have : v' = v := by
          rw [e1] at e1'
          have := Option.some.inj e1'
          cases v <;> cases v' <;> first | rfl | (exact absurd this (by decide))
        rw [this] at e2'
        unfold fX5_isLeaf
        rw [if_pos (show nI 0 = 0 from rfl), e2']
        cases v <;> rfl
    · -- than
      obtain ⟨v, e1, e2⟩ := leaf_both (N := N) hN W hp t0 a2 a3 a4 a1 a5 a6 a7
      refine ⟨v, ?_, by simp, fun i n f hC hi hn => ?_⟩
      · unfold rHold
        rw [kT_iS, if_neg (by omega), if_neg (by omega), if_pos a1]
        exact e1
      · refine leaf (x + 1, s, m) v (by show x + 1 ≤ 6; omega) (fun f => ?_) i n f hC hi hn
        have Wf : NW h g b (aS σ 51 f) F a := W.of (fun _ _ _ => rfl) (gA_o (by decide)) rfl
        obtain ⟨v', e1', e2'⟩ := leaf_both (N := N) hN Wf hp t0 a2 a3 a4 a1 a5 a6 a7
        have : v' = v := by
          rw [e1] at e1'
          have := Option.some.inj e1'
          cases v <;> cases v' <;> first | rfl | (exact absurd this (by decide))
        rw [this] at e2'
        exact e2'
theorem op_said (hN : 200000 ≤ N) : LO_said N b (LR b) := by
  intro n h σ x1 hL
  obtain ⟨F, a, hL⟩ := hL.f
  have hL := hL.less.th 0
  obtain ⟨σ1, es1⟩ : ∃ σ1, σ1 = sI σ 0 0 := ⟨_, rfl⟩
  rw [← es1] at hL
  have W := hL.nw
  have hF := W.1
  have k2 := W.mh.1.1.2.2.1
  have t0 : gI σ1 0 = 0 := by rw [es1]; rfl
  obtain ⟨-, -, -, ⟨⟨-, -, -, -, -, hS⟩, -⟩, -⟩ := id hL
  have o5 : oR h b 1 1 5 = some (kR h b 5) := fx_o hF (kI h)
  have r84 : rA σ1 6 10084 = some (gA σ1 6 10084) := rL6 (n := 10084) (by decide)
  unfold fX1_said fX5_said
  rw [o5, lt_, ← es1, r84]
  simp only [Option.bind_some]
  rcases hS with ⟨s1, s2⟩ | ⟨q, L, s1, s2, s3, s4, s5, s6⟩
  · have s2 : gA σ1 6 10084 = 0 := s2
    rw [s1, s2, if_pos rfl]
    exact ⟨-1, σ1, rfl, rfl, hL.lr⟩
  · have s5 : gA σ1 6 10084 = nI L.length := s5
    have nz : ¬ nI L.length = 0 := fun z => by have := (nI_eq (b := 0) (by omega) (by decide)).mp z; omega
    rw [s1, s5, if_neg nz]
    have CD : CDs σ1 0 L := fun j hj => by
      have := s6 j hj
      rw [Nat.zero_add, show 10085 + 3 * j = 10084 + (1 + 3 * j) by omega, show 10084 + (1 + 3 * j) + 1 = 10084 + (1 + 3 * j + 1) by omega, show 10084 + (1 + 3 * j) + 2 = 10084 + (1 + 3 * j + 2) by omega]
      exact this
    have R3 : fR h b 1 1 3 = some a := W.r3
    have R4 : fR h b 1 1 4 = some (b + 8) := W.r4
    have R5 : fR h b 1 1 5 = some q := (fx_f hF (kI h)).trans s1
    have H5 : fR h a 2 2 5 = some (rf h a 5) := ho_R W.ho (k := 5) (by decide) (by decide)
    have G5 : ∀ {α : Type} (x : Option α), gT h (rf h a 5) 15 15 x = x := fun x => ls_g (ho_p W.ho)
    have S5 : fJ2_size N h (rf h a 5) = some (nI (F 2)) := ls_size (N := N) (ho_p W.ho)
    -- the loop
    have key : ∀ k p c f fuel, p + k = F 2 → c ≤ p → k < fuel → ∃ f', (∃ c', c' ≤ F 2 ∧ lX1_said_13 N (rHold N 60) h fuel b x1 (nI c) (nI p) = some (.inl (nI c')) ∧ lX5_said_27 N fuel (aS σ1 51 f) x1 (nI c) (nI p) = some (.inl (aS σ1 51 f', nI c'))) ∨ (∃ p' c', c' < 6 ∧ x1 = nI c' ∧ lX1_said_13 N (rHold N 60) h fuel b x1 (nI c) (nI p) = some (.inr (nI p')) ∧ lX5_said_27 N fuel (aS σ1 51 f) x1 (nI c) (nI p) = some (.inr (nI p', aS σ1 51 f'))) := by
      intro k
      induction k with
      | zero =>
        intro p c f fuel hp hc hf
        obtain ⟨m, rfl⟩ : ∃ m, fuel = m + 1 := ⟨fuel - 1, by omega⟩
        refine ⟨f, Or.inl ⟨c, by omega, ?_, ?_⟩⟩
        · rw [lX1_said_13, R3]
          simp only [Option.bind_some, H5, G5, S5]
          rw [if_pos (nI_le (by omega) (by omega))]
        · have hMa : MH (gA (aS σ1 51 f) 6) F := by rw [gA_o (by decide)]; exact W.mh
          rw [lX5_said_27, mo_2 hMa]
          simp only [Option.bind_some]
          rw [if_pos (nI_le (by omega) (by omega))]
      | succ k ih =>
        intro p c f fuel hp hc hf
        obtain ⟨m, rfl⟩ : ∃ m, fuel = m + 1 := ⟨fuel - 1, by omega⟩
        have hpF : p < F 2 := by omega
        obtain ⟨v, e1, e2, e3⟩ := cond_both (N := N) hN W hpF t0 s5 s3 60 q L s4
        obtain ⟨f1, q1, q2, -⟩ := e3 0 0 f CD (by omega) (by omega)
        have hMa : MH (gA (aS σ1 51 f) 6) F := by rw [gA_o (by decide)]; exact W.mh
        have sd : fX5_isSaid N (aS σ1 51 f) (nI p) = some (bI v, aS σ1 51 f1) := by
          have := q1 (N - L.length)
          rw [show N - L.length + L.length = N by omega] at this
          unfold fX5_isSaid
          rw [show lX5_isSaid_4 N N (aS σ1 51 f) (nI p) 0 0 = lX5_isSaid_4 N N (aS σ1 51 f) (nI p) (nI 0) (nI 0) from rfl, this]
          obtain ⟨mm, em⟩ : ∃ mm, N - L.length = mm + 1 := ⟨N - L.length - 1, by omega⟩
          rw [em, is_eq, show rA (aS σ1 51 f1) 6 10084 = some (nI L.length) from (rL6 (n := 10084) (by decide)).trans (by rw [gA_o (by decide)]; exact congrArg some s5), Option.bind_some]
          unfold isS
          rw [if_pos (by rw [Nat.zero_add]; exact Int32.le_refl _)]
          simp only [Option.bind_some]
          rw [show rA (aS σ1 51 f1) 51 0 = some (f1 0) from r51 (i := 0) (by decide), q2]
          cases v <;> rfl
        have C : lX1_said_13 N (rHold N 60) h (m + 1) b x1 (nI c) (nI p) = if bI v = 0 then lX1_said_13 N (rHold N 60) h m b x1 (nI c) (nI (p + 1)) else if nI c = x1 then some (.inr (nI p)) else lX1_said_13 N (rHold N 60) h m b x1 (nI (c + 1)) (nI (p + 1)) := by
          rw [lX1_said_13, R3]
          simp only [Option.bind_some, H5, G5, S5]
          rw [if_neg (nI_ge hpF (by omega)), R5, R4]
          simp only [Option.bind_some]
          rw [show rHold N 60 h q (b + 8) (nI p) = some (bI v) from e1]
          simp only [Option.bind_some, show nI c + 1 = nI (c + 1) from nI_add _ 1, show nI p + 1 = nI (p + 1) from nI_add _ 1]
        have M : lX5_said_27 N (m + 1) (aS σ1 51 f) x1 (nI c) (nI p) = if bI v = 0 then lX5_said_27 N m (aS σ1 51 f1) x1 (nI c) (nI (p + 1)) else if nI c = x1 then some (.inr (nI p, aS σ1 51 f1)) else lX5_said_27 N m (aS σ1 51 f1) x1 (nI (c + 1)) (nI (p + 1)) := by
          rw [lX5_said_27, mo_2 hMa]
          simp only [Option.bind_some]
          rw [if_neg (nI_ge hpF (by omega)), sd]
          simp only [Option.bind_some, show nI c + 1 = nI (c + 1) from nI_add _ 1, show nI p + 1 = nI (p + 1) from nI_add _ 1]
        rw [C, M]
        by_cases z : bI v = 0
        · rw [if_pos z, if_pos z]
          exact ih (p + 1) c f1 m (by omega) (by omega) (by omega)
        · rw [if_neg z, if_neg z]
          by_cases y : nI c = x1
          · rw [if_pos y, if_pos y]
            exact ⟨f1, Or.inr ⟨p, c, by omega, y.symm, rfl, rfl⟩⟩
          · rw [if_neg y, if_neg y]
            exact ih (p + 1) (c + 1) f1 m (by omega) (by omega) (by omega)
    obtain ⟨f', hk⟩ := key (F 2) 0 0 (gA σ1 51) N (by omega) (by omega) (by omega)
    rw [aS_id] at hk
    have LE : LR b n h (aS σ1 51 f') := by
      obtain ⟨-, -, hLt, -, -, hR, -⟩ := id hL
      have ga : ∀ j, j ≠ 51 → gA (aS σ1 51 f') j = gA σ1 j := fun j hj => gA_o hj
      exact (hL.chg (g' := kI h) (σ' := aS σ1 51 f') (fun _ _ _ => rfl) rfl (hLt.of rfl rfl rfl rfl rfl (ga _ (by decide))) (hR.of rfl rfl rfl ⟨rfl, rfl, rfl, rfl⟩ ⟨rfl, rfl, rfl, rfl⟩ ⟨ga _ (by decide), ga _ (by decide), ga _ (by decide), ga _ (by decide)⟩) (ga _ (by decide)) rfl rfl rfl (ga _ (by decide)) (ga _ (by decide)) (ga _ (by decide)) rfl).lr
    show ∃ v σ', (osm (lX1_said_13 N (rHold N 60) h N b x1 0 0) id fun q12 => (if x1 = (-1) then (some q12) else (some (-1)))) = some v ∧ _
    rcases hk with ⟨c', hc', e1, e2⟩ | ⟨p', c', hc', ex, e1, e2⟩
    · rw [show lX1_said_13 N (rHold N 60) h N b x1 0 0 = some (.inl (nI c')) from e1, show lX5_said_27 N N σ1 x1 0 0 = some (.inl (aS σ1 51 f', nI c')) from e2]
      by_cases cm : x1 = -1
      · refine ⟨nI c', aS σ1 51 f', by simp only [osm, if_pos cm], ?_, LE⟩
        rw [if_pos (by rw [cm]; decide)]
        simp only [osm, if_pos cm]
      · by_cases lm : (-1 : Int32) ≤ x1
        · refine ⟨-1, aS σ1 51 f', by simp only [osm, if_neg cm], ?_, LE⟩
          rw [if_pos lm]
          simp only [osm, if_neg cm]
        · refine ⟨-1, σ1, by simp only [osm, if_neg cm], ?_, hL.lr⟩
          rw [if_neg lm]
    · rw [show lX1_said_13 N (rHold N 60) h N b x1 0 0 = some (.inr (nI p')) from e1, show lX5_said_27 N N σ1 x1 0 0 = some (.inr (nI p', aS σ1 51 f')) from e2]
      refine ⟨nI p', aS σ1 51 f', rfl, ?_, LE⟩
      have lm : (-1 : Int32) ≤ x1 := by
        rw [ex]
        exact Int32.le_trans (show (-1 : Int32) ≤ 0 by decide) (nI_le (a := 0) (by omega) (by omega))
      rw [if_pos lm]; rfl
end PUB
