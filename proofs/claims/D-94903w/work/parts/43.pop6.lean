/-! operations: person, tuft -/
section PO6
variable {b N n a : Nat} {h : HS} {g : Nat → Nat → Int32} {σ : MS} {F : Nat → Nat}
theorem need1 {h : HS} : fX1_need N h 1 = some (.inr (), h) := rfl
theorem tK_T (h : HS) (a t x : Nat) : kT (tK h a t) x = if x = a then t else kT h x := rfl
/-- what is thrown -/
theorem need0 (hz : kZ h + 1 ≤ kG h 1) (hw : kW h + 6 ≤ kG h 2) (hg : kG h 0 ≤ kZ h) : ∃ h', fX1_need N h 0 = some (.inl (kZ h), h') ∧ grow h h' ∧ kZ h' = kZ h + 1 ∧ kW h' = kW h + 6 ∧ kT h' (kZ h) = 19 := by
  refine ⟨tK (tA h 21 0 6) (kZ h) 19, ?_, ⟨?_, rfl, fun q hq => ⟨?_, ?_, ?_, ?_⟩⟩, rfl, rfl, ?_⟩
  · unfold fX1_need nO fJ18_init
    rw [if_pos rfl, if_pos ⟨hz, hw⟩]
    simp only [Option.bind_some]
    rw [if_pos ⟨by rw [kT_tA, if_pos rfl], hg, by rw [kR_tA, if_pos rfl]⟩]; rfl
  · show kZ h ≤ kZ h + 1; omega
  · rw [tK_T, if_neg (by omega), kT_tA, if_neg (by omega)]
  · show kN (tA h 21 0 6) q = _
    rw [kN_tA, if_neg (by omega)]
  · funext j
    show (if q = kZ h then fun _ => 0 else (tA h 21 0 6).2.2.1 q) j = _
    rw [if_neg (by omega)]
    show kI (tA h 21 0 6) q j = _
    rw [kI_tA, if_neg (by omega)]
  · funext j
    show (if q = kZ h then fun _ => none else (tA h 21 0 6).2.2.2.1 q) j = _
    rw [if_neg (by omega)]
    show kR (tA h 21 0 6) q j = _
    rw [kR_tA, if_neg (by omega)]
  · rw [tK_T, if_pos rfl]
theorem thr0 : fX5_throwsIf N σ 0 = some (0, sI σ 0 0) := rfl
theorem thr1 : fX5_throwsIf N σ 1 = some (1, sI σ 0 1) := rfl
theorem out_w (hL : LR b n h σ) (v : Int32) : wI h (b + 18419) 41 0 v = some (iS h (u2 (kI h) (b + 18419) 0 v)) := by
  obtain ⟨⟨hF, ⟨o1, o2, o3⟩, -⟩, -⟩ := hL
  exact (wI_n (h := h) (n := 0) o2 (by rw [o3]; decide) (by rw [o3]; decide) (by have := hF.2.1; omega)).trans rfl
theorem LR.fails (hL : LR b (n + 1) h σ) : ∃ h', fX1_need N h 0 = some (.inl (kZ h), h') ∧ kT h' (kZ h) = 19 ∧ LR b n h' (sI σ 0 1) := by
  obtain ⟨⟨hF, ⟨o1, o2, o3⟩, r1, r2⟩, -⟩ := id hL
  obtain ⟨h', e1, e2, e3, e4, e5⟩ := need0 (N := N) (h := h) (by omega) (by omega) (by have := hF.2.1; omega)
  exact ⟨h', e1, e5, (hL.less.grow e2 (by omega) (by omega)).thrown 1⟩
theorem mo_pl (hN : 200000 ≤ N) {p : Nat} (hp : p < 6) (y : Int32) : lX5_person_39 N σ N (nI p) y 0 0 0 = some (sm (fun t => lo (TM (gA σ 6)) t p) 144, sm (fun t => pos1 (lo (TM (gA σ 6)) t p)) 144) := by
  refine lp_fold (fun m (s : Int32 × Int32) i => lX5_person_39 N σ m (nI p) y s.1 s.2 i) (fun i => (sm (fun t => lo (TM (gA σ 6)) t p) i, sm (fun t => pos1 (lo (TM (gA σ 6)) t p)) i)) 144 _ (fun m i hi => ?_) (fun m => ?_) 144 0 N rfl (by omega)
  · simp only
    rw [lX5_person_39, mo_liesOf hN hi hp]
    simp (disch := omega) only [pl_let, pl_lef, pl_ltt, pl_ltf, pl_eqf, pl_let1, pl_lef1, pl_ltt1, pl_ltf1, pl_eqf1, pl_let2, pl_lef2, pl_ltt2, pl_ltf2, pl_em1, if_true, if_false, ite_self, pl_la, pl_al, pl_lm, pl_ml, nI_add, pk_mul, pl_sl, pl_m1, Option.bind_some]
    by_cases q : lo (TM (gA σ 6)) i p ≤ 0
    · rw [if_pos q, show sm (fun t => pos1 (lo (TM (gA σ 6)) t p)) (i + 1) = sm (fun t => pos1 (lo (TM (gA σ 6)) t p)) i + 0 from congrArg _ (if_pos q)]; rfl
    · rw [if_neg q, show sm (fun t => pos1 (lo (TM (gA σ 6)) t p)) (i + 1) = sm (fun t => pos1 (lo (TM (gA σ 6)) t p)) i + 1 from congrArg _ (if_neg q)]; rfl
  · simp only
    rw [lX5_person_39]; rfl
/-- what is said of a person -/
def pvl (f : Nat → Int32) (F : Nat → Nat) (p : Nat) (y : Int32) : Int32 := if y = 0 then nI (F (7 + p)) else if y = 1 then nI (F (13 + p)) else if y = 2 then nI (F (19 + p)) else if y = 3 then sm (fun t => lo (TM f) t p) 144 else if y = 4 then sm (fun t => pos1 (lo (TM f) t p)) 144 else f (430 + p)
theorem NW.lox (W : NW h g b σ F a) {t p : Nat} (ht : t < 144) (hp : p < 6) : lo (TC g (b + 8) 3) t p = lo (TM (gA σ 6)) t p := lo_ext fun i hi => W.rr.2.2.1 t p i ht hp hi
theorem NW.mp (W : NW h g b σ F a) (hN : 200000 ≤ N) (x y : Int32) : fX5_person N σ x y = if fX1_isIn x 0 (nI (F 2) - 1) = 0 then some (0, sI σ 0 1) else if fX1_isIn y 0 5 = 0 then some (0, sI σ 0 1) else some (pvl (gA σ 6) F x.toNatClampNeg y, sI σ 0 0) := by
  have k2 : F 2 ≤ 6 := W.mh.1.1.2.2.1
  have W0 := W.th 0
  unfold fX5_person
  simp only [W.mP, Option.bind_some, isIn_5, lt_]
  rcases isIn_cs x (n := F 2) (by omega) with ⟨h9, -⟩ | ⟨h9, p, hp, rfl⟩
  · simp only [h9, eq_self, if_true, thr1, Option.bind_some, one0, if_false]
  · simp only [h9, one0, if_false]
    rcases isIn01 y 0 5 with c | c
    · simp only [c, eq_self, if_true, thr1, Option.bind_some, one0, if_false]
    · simp only [c, one0, if_false, thr0, Option.bind_some, Bool.false_eq_true, eq_self, if_true, mo_pl hN (show p < 6 by omega)]
      rw [nI_clamp (show p < 2 ^ 31 by omega)]
      simp (disch := omega) only [pl_la, pl_al, pl_lm, pl_ml, nI_add, pk_mul, pl_sl, pl_m1, mo_i W0.mh, Option.bind_some, rA6]
      unfold pvl
      by_cases c0 : y = 0
      · subst c0; rfl
      by_cases c1 : y = 1
      · subst c1; rfl
      by_cases c2 : y = 2
      · subst c2; rfl
      by_cases c3 : y = 3
      · subst c3; rfl
      by_cases c4 : y = 4
      · subst c4; rfl
      simp only [c0, c1, c2, c3, c4, if_false]; rfl
theorem NW.cp (W : NW h (kI h) b σ F a) (hN : 200000 ≤ N) {p : Nat} (hp : p < F 2) (y : Int32) (c : fX1_isIn y 0 5 = 1) : fX1_person N h b (nI p) y = some (.inr (pvl (gA σ 6) F p y), h) := by
  have k2 : F 2 ≤ 6 := W.mh.1.1.2.2.1
  have h9 : fX1_isIn (nI p) 0 (nI (F 2) - 1) = 1 := by rw [isIn_in _ (by omega), inB_n (by omega), decide_eq_true hp]; rfl
  have I8 := ru_I8 W.ru (kI h) (i := p) (by omega)
  have G := fun {α : Type} (x : Option α) => (fx_g W.1 (kI h) : gT (iS h (kI h)) b 1 1 x = x)
  have P := W.cP (N := N) (nI p)
  have R3 := W.r3
  have R4 := W.r4
  have R5 := ho_R W.ho (k := 5) (by decide) (by decide)
  have L1 := fun {α : Type} (x : Option α) => (ls_g (ho_p W.ho) : gT (iS h (kI h)) (rf h a 5) 15 15 x = x)
  have L2 := ls_get (N := N) (ho_p W.ho) hp
  have L3 := fun {α : Type} (x : Option α) => (ho_pg W.ho hp : gT (iS h (kI h)) (le h (rf h a 5) p) 9 9 x = x)
  have P1 := ho_p1 W.ho hp
  have P2 := ho_p2 W.ho hp
  have P3 := ho_p3 W.ho hp
  have T1 := co_of (N := N) (g := kI h) hN W.ru (show p < 6 by omega)
  have T2 := co_tuftsOf (N := N) (g := kI h) hN W.ru (show p < 6 by omega)
  have R8 := ru_R8 W.ru (kI h)
  have Gr := fun {α : Type} (x : Option α) => (ru_g W.ru (kI h) : gT (iS h (kI h)) (b + 8) 3 3 x = x)
  rw [iS_k] at P R3 R4 R5 L2 P1 P2 P3 T1 T2 R8 I8
  simp only [iS_k] at G L1 L3 Gr
  unfold fX1_person
  simp only [G, P, h9, c, one0, if_false, lt_, Option.bind_some, Bool.false_eq_true, need1, thr, R3, R5, L1, L2, L3, P1, P2, P3, R4, Gr, T1, T2, R8, I8]
  rw [sm_ext (f := fun t => lo (TC (kI h) (b + 8) 3) t p) (f' := fun t => lo (TM (gA σ 6)) t p) fun t ht => W.lox ht (by omega), sm_ext (f := fun t => pos1 (lo (TC (kI h) (b + 8) 3) t p)) (f' := fun t => pos1 (lo (TM (gA σ 6)) t p)) fun t ht => by rw [W.lox ht (by omega)], W.rr.2.1 p (by omega)]
  unfold pvl
  by_cases c0 : y = 0
  · subst c0; rfl
  by_cases c1 : y = 1
  · subst c1; rfl
  by_cases c2 : y = 2
  · subst c2; rfl
  by_cases c3 : y = 3
  · subst c3; rfl
  by_cases c4 : y = 4
  · subst c4; rfl
  simp only [c0, c1, c2, c3, c4, if_false]
theorem op_person (hN : 200000 ≤ N) : LO_person N b (b + 18419) (LR b) := by
  intro n h σ x y hL
  obtain ⟨F, a, W⟩ := hL.nw
  have k2 : F 2 ≤ 6 := W.mh.1.1.2.2.1
  have G := fun {α : Type} (x : Option α) => (fx_g W.1 (kI h) : gT (iS h (kI h)) b 1 1 x = x)
  have P := W.cP (N := N) x
  simp only [iS_k] at G
  rw [iS_k] at P
  have bad : (fX1_isIn x 0 (nI (F 2) - 1) = 0 ∨ fX1_isIn y 0 5 = 0) → fX5_person N σ x y = some (0, sI σ 0 1) → ∃ (k v : Int32) (h' : HS) (σ' : MS), fX0_person N h b x y (b + 18419) = some (k, h') ∧ fX5_person N σ x y = some (v, σ') ∧ gI σ' 0 = k ∧ (k = 0 → kI h' (b + 18419) 0 = v) ∧ LR b n h' σ' := by
    intro c e
    obtain ⟨h', e1, e2, e3⟩ := hL.fails (N := N)
    refine ⟨1, 0, h', sI σ 0 1, ?_, e, rfl, fun q => absurd q (by decide), e3⟩
    unfold fX0_person fX1_person
    simp only [G, P, Option.bind_some, lt_]
    have hc : (if fX1_isIn x 0 (nI (F 2) - 1) = 0 then true else if fX1_isIn y 0 5 = 0 then true else false) = true := by
      rcases c with c | c
      · rw [if_pos c]
      · by_cases c2 : fX1_isIn x 0 (nI (F 2) - 1) = 0
        · rw [if_pos c2]
        · rw [if_neg c2, if_pos c]
    simp only [hc, if_true, e1, Option.bind_some, thr]
    exact gT_n (by rw [e2]; decide) (by rw [e2]; decide)
  have em := W.mp hN x y
  rcases isIn_cs x (n := F 2) (by omega) with ⟨h9, -⟩ | ⟨h9, p, hp, rfl⟩
  · exact bad (Or.inl h9) (by rw [em, if_pos h9])
  · rcases isIn01 y 0 5 with c | c
    · exact bad (Or.inr c) (by rw [em, if_pos c, ite_self])
    · rw [h9, c, if_neg (by decide), if_neg (by decide), nI_clamp (show p < 2 ^ 31 by omega)] at em
      refine ⟨0, pvl (gA σ 6) F p y, _, sI σ 0 0, ?_, em, rfl, fun _ => ?_, (hL.less.out (pvl (gA σ 6) F p y)).thrown 0⟩
      · unfold fX0_person
        rw [G, W.cp hN hp y c]
        simp only [Option.bind_some, thr, out_w hL]
      · rw [kI_iS, u2_eq]
end PO6
section PO6b
variable {b N n a : Nat} {h : HS} {g : Nat → Nat → Int32} {σ : MS} {F : Nat → Nat}
theorem rA429 : rA σ 6 429 = some (gA σ 6 429) := rL6 (n := 429) (by decide)
theorem NW.mdoor (W : NW h g b σ F a) (hN : 200000 ≤ N) {t : Nat} (ht : t < 144) : ((∃ k, k < F 5 ∧ F (169 + k) = t) → fX5_isDoor N σ (nI t) = some 1) ∧ ((∀ k, k < F 5 → F (169 + k) ≠ t) → fX5_isDoor N σ (nI t) = some 0) := by
  have k5 : F 5 ≤ 8 := W.mh.1.1.2.2.2.2.2.1
  have hd : ∀ k, k < F 5 → F (169 + k) < 144 := fun k hk => tuf_lt W.mh.1.1.1 W.mh.1.1.2.1 (W.mh.1.2.2.2.2.1 k hk)
  have step : ∀ m i, i < F 5 → lX5_isDoor_2 N σ (m + 1) (nI t) (nI i) = if F (169 + i) = t then some (.inr 1) else lX5_isDoor_2 N σ m (nI t) (nI (i + 1)) := by
    intro m i hi
    have := hd i hi
    rw [lX5_isDoor_2]
    simp (disch := omega) only [mo_5 W.mh, Option.bind_some, pl_let, pl_lef, pl_ltt, pl_ltf, pl_eqf, pl_let1, pl_lef1, pl_ltt1, pl_ltf1, pl_eqf1, pl_let2, pl_lef2, pl_ltt2, pl_ltf2, pl_em1, if_true, if_false, ite_self, pl_la, pl_al, pl_lm, pl_ml, nI_add, pk_mul, pl_sl, pl_m1, mo_i W.mh]
    by_cases c : F (169 + i) = t
    · rw [if_pos c, if_pos (congrArg nI c)]
    · rw [if_neg c, if_neg (fun q => c ((nI_eq (by omega) (by omega)).mp q))]
  constructor
  · intro hex
    have key : ∀ j, j ≤ F 5 → (∀ k, k < j → F (169 + k) ≠ t) ∨ ∃ k, k < j ∧ F (169 + k) = t ∧ ∀ i, i < k → F (169 + i) ≠ t := by
      intro j
      induction j with
      | zero => intro _; exact Or.inl fun k hk => by omega
      | succ j ih =>
        intro hj
        rcases ih (by omega) with h1 | ⟨k, h1, h2, h3⟩
        · by_cases c : F (169 + j) = t
          · exact Or.inr ⟨j, by omega, c, h1⟩
          · exact Or.inl fun k hk => by
              rcases Nat.lt_succ_iff_lt_or_eq.mp hk with q | q
              · exact h1 k q
              · subst q; exact c
        · exact Or.inr ⟨k, by omega, h2, h3⟩
    rcases key (F 5) (Nat.le_refl _) with h1 | ⟨k, h1, h2, h3⟩
    · obtain ⟨k, k1, k2⟩ := hex
      exact absurd k2 (h1 k k1)
    · unfold fX5_isDoor
      have e := lp_fold (fun m (_ : Unit) i => lX5_isDoor_2 N σ m (nI t) i) (fun _ => ()) k (.inr 1) (fun m i hi => by rw [step m i (by omega), if_neg (h3 i hi)]) (fun m => by rw [step m k h1, if_pos h2]) k 0 N (by omega) (by omega)
      rw [show lX5_isDoor_2 N σ N (nI t) 0 = some (.inr 1) from e]; rfl
  · intro hno
    unfold fX5_isDoor
    have e := lp_fold (fun m (_ : Unit) i => lX5_isDoor_2 N σ m (nI t) i) (fun _ => ()) (F 5) (.inl ()) (fun m i hi => by rw [step m i hi, if_neg (hno i hi)]) (fun m => by
      rw [lX5_isDoor_2]
      simp (disch := omega) only [mo_5 W.mh, Option.bind_some, pl_let, pl_lef, pl_ltt, pl_ltf, pl_eqf, pl_let1, pl_lef1, pl_ltt1, pl_ltf1, pl_eqf1, pl_let2, pl_lef2, pl_ltt2, pl_ltf2, pl_em1, if_true, if_false, ite_self]) (F 5) 0 N (by omega) (by omega)
    rw [show lX5_isDoor_2 N σ N (nI t) 0 = some (.inl ()) from e]; rfl
/-- what is said of a tuft: one value for both sides -/
theorem NW.tv (W : NW h (kI h) b σ F a) (hN : 200000 ≤ N) {t : Nat} (ht : t < 144) (htf : tuf F t) (y : Int32) (c : fX1_isIn y 0 7 = 1) : ∃ v, fX1_tuft N h b (nI t) y = some (.inr v, h) ∧ fX5_tuft N σ (nI t) y = some (v, sI σ 0 0) := by
  have W0 := W.th 0
  have k2 : F 2 ≤ 6 := W.mh.1.1.2.2.1
  have k6 : F 6 ≤ 9 := W.mh.1.1.2.2.2.2.2.2.2
  have hw := W.mh.1.2.2.2.1 t ht
  have T := ho_tuft (N := N) W.ho (nI t)
  have T5 := W.mt (N := N) (nI t)
  have et : tfN F (nI t) = 1 := by rw [tfN_n (by omega), if_pos (tufD_iff.mpr htf)]
  have Gh := fun {α : Type} (x : Option α) => (ho_g W.ho : gT (iS h (kI h)) a 2 2 x = x)
  have R3 := W.r3
  have R4 := W.r4
  have Gr := fun {α : Type} (x : Option α) => (ru_g W.ru (kI h) : gT (iS h (kI h)) (b + 8) 3 3 x = x)
  have D := W.cd hN ht
  have A := co_onAll (N := N) (g := kI h) hN W.ru ht
  have R84 := ru_R4 W.ru (kI h)
  have R85 := ru_R5 W.ru (kI h)
  have R86 := ru_R6 W.ru (kI h)
  have R87 := ru_R7 W.ru (kI h)
  have I4 := ru_I4 W.ru (kI h) ht
  have I5 := ru_I5 W.ru (kI h) ht
  have I6 := ru_I6 W.ru (kI h) ht
  have I7 := ru_I7 W.ru (kI h) ht
  have H8 := ho_R W.ho (k := 8) (by decide) (by decide)
  have H9 := ho_R W.ho (k := 9) (by decide) (by decide)
  have Wl := ho_wall W.ho ht
  obtain ⟨-, d2, d3, d4⟩ := W.ho.2.2.2.2.2.2.2.2.2.2.2.2
  have Dr : aI (iS h (kI h)) (rf h a 9) 33 (nI t) = some (kI h (rf h a 9) t) := aI_n (h := iS h (kI h)) d2 (by rw [kN_iS, d3]; exact ht) (by rw [kN_iS, d3]; decide)
  simp only [iS_k] at T Gh R3 R4 Gr D A R84 R85 R86 R87 I4 I5 I6 I7 H8 H9 Wl Dr
  have eA : sm (fun p => lo (TC (kI h) (b + 8) 3) t p) 6 = sm (fun p => lo (TM (gA σ 6)) t p) (F 2) := by
    rw [sm_ext (f' := fun p => lo (TM (gA σ 6)) t p) fun p hp => W.lox ht hp]
    exact sm_cut k2 fun p p1 p2 => sm_zero fun i hi => W.rr.2.2.2.1 t p i ht p1 p2 hi
  obtain ⟨m1, m2⟩ := W0.mdoor (N := N) hN ht
  have ey : y = 0 ∨ y = 1 ∨ y = 2 ∨ y = 3 ∨ y = 4 ∨ y = 5 ∨ y = 6 ∨ y = 7 := by
    rcases isIn_cs y (n := 8) (by decide) with ⟨h9, -⟩ | ⟨h9, i, hi, rfl⟩
    · rw [show fX1_isIn y 0 7 = fX1_isIn y 0 (nI 8 - 1) from isIn_lit y 7 (by decide), h9] at c; exact absurd c (by decide)
    · have : i = 0 ∨ i = 1 ∨ i = 2 ∨ i = 3 ∨ i = 4 ∨ i = 5 ∨ i = 6 ∨ i = 7 := by omega
      rcases this with rfl | rfl | rfl | rfl | rfl | rfl | rfl | rfl <;> simp [nI]
  have c5 : fX5_isIn y 0 7 = 1 := c
  unfold fX1_tuft fX5_tuft
  simp only [R3, Gh, T, T5, et, c, c5, one0, if_false, lt_, Option.bind_some, Bool.false_eq_true, need1, thr, R4, Gr, D, A, R84, R85, R86, R87, I4, I5, I6, I7, H8, H9, Wl, Dr, thr0, eq_self, if_true]
  have t0 : rA (sI σ 0 0) 6 (436 + 4 * nI t) = some (gA σ 6 (436 + 4 * t)) := by rw [pl_lm, pl_la]; exact rA6 (by show 436 + 4 * t < 10265; omega)
  have t1 : rA (sI σ 0 0) 6 (436 + 4 * nI t + 1) = some (gA σ 6 (436 + 4 * t + 1)) := by rw [pl_lm, pl_la, pl_al]; exact rA6 (by show 436 + 4 * t + 1 < 10265; omega)
  have t2 : rA (sI σ 0 0) 6 (436 + 4 * nI t + 2) = some (gA σ 6 (436 + 4 * t + 2)) := by rw [pl_lm, pl_la, pl_al]; exact rA6 (by show 436 + 4 * t + 2 < 10265; omega)
  have t3 : rA (sI σ 0 0) 6 (436 + 4 * nI t + 3) = some (gA σ 6 (436 + 4 * t + 3)) := by rw [pl_lm, pl_la, pl_al]; exact rA6 (by show 436 + 4 * t + 3 < 10265; omega)
  have t4 : rA (sI σ 0 0) 6 (25 + nI t) = some (nI (F (25 + t))) := by rw [pl_la]; exact mo_i W0.mh (by show 25 + t < 429; omega)
  have t5 : rA (sI σ 0 0) 6 429 = some (gA σ 6 429) := rA429
  have t6 := W0.md hN ht
  have t7 := mo_treads hN W0.mh ht
  rcases ey with rfl | rfl | rfl | rfl | rfl | rfl | rfl | rfl
  all_goals
    simp (decide := true) only [if_true, if_false, t0, t1, t2, t3, t4, t5, t6, t7, Option.bind_some, eA]
    rcases W.rr.2.2.2.2.2 t ht with ⟨c1, c2, c3, c4, c5, c6⟩ | ⟨w, o, d, sl, e, ⟨q1, q2, q3, q4, q5⟩, c1, c2, c3, c4, c5, c6, c7, c8, c9, c10⟩
  · rw [c1]; exact ⟨_, rfl, rfl⟩
  · rw [c2, if_neg (show ¬ nI (w + 1) ≤ 0 from nI_nle (by omega) (by omega))]; exact ⟨_, rfl, rfl⟩
  · rw [c1]; exact ⟨_, rfl, rfl⟩
  · rw [c2, if_neg (show ¬ nI (w + 1) ≤ 0 from nI_nle (by omega) (by omega))]; exact ⟨_, rfl, rfl⟩
  · rw [c1, c2]; exact ⟨_, rfl, rfl⟩
  · rw [c2, c6, if_neg (show ¬ nI (w + 1) ≤ 0 from nI_nle (by omega) (by omega)), show nI (w + 1) - 1 = nI w from nI_pred w]; exact ⟨_, rfl, rfl⟩
  · rw [c1, c3]; exact ⟨_, rfl, rfl⟩
  · rw [c2, c3, c7, if_neg (show ¬ nI (w + 1) ≤ 0 from nI_nle (by omega) (by omega))]; exact ⟨_, rfl, rfl⟩
  · rw [c1, c4]; exact ⟨_, rfl, rfl⟩
  · rw [c2, c4, c8, if_neg (show ¬ nI (w + 1) ≤ 0 from nI_nle (by omega) (by omega))]; exact ⟨_, rfl, rfl⟩
  · rw [c1, c5]; exact ⟨_, rfl, rfl⟩
  · rw [c1, c2, c5, c9, if_neg (show ¬ nI (w + 1) ≤ 0 from nI_nle (by omega) (by omega)), show nI (d + o) - nI d = nI o by rw [pk_sub (by omega)]; congr 1; omega]; exact ⟨_, rfl, rfl⟩
  · have : F (25 + t) = 0 ∨ F (25 + t) = 1 := by omega
    rw [c1]
    rcases this with q | q <;> rw [q] <;> exact ⟨_, rfl, rfl⟩
  · have : F (25 + t) = 0 ∨ F (25 + t) = 1 := by omega
    rw [c2, if_neg (show ¬ nI (w + 1) ≤ 0 from nI_nle (by omega) (by omega))]
    rcases this with q | q <;> rw [q] <;> exact ⟨_, rfl, rfl⟩
  · rw [c1]
    rcases d4 t ht with ⟨e1, e2⟩ | ⟨e1, e2⟩
    · rw [e1, m1 e2]; exact ⟨_, rfl, rfl⟩
    · rw [e1, m2 e2]; exact ⟨_, rfl, rfl⟩
  · rw [c2, if_neg (show ¬ nI (w + 1) ≤ 0 from nI_nle (by omega) (by omega))]
    rcases d4 t ht with ⟨e1, e2⟩ | ⟨e1, e2⟩
    · rw [e1, m1 e2]; exact ⟨_, rfl, rfl⟩
    · rw [e1, m2 e2]; exact ⟨_, rfl, rfl⟩
theorem op_tuft (hN : 200000 ≤ N) : LO_tuft N b (b + 18419) (LR b) := by
  intro n h σ x y hL
  obtain ⟨F, a, W⟩ := hL.nw
  have G := fun {α : Type} (x : Option α) => (fx_g W.1 (kI h) : gT (iS h (kI h)) b 1 1 x = x)
  have Gh := fun {α : Type} (x : Option α) => (ho_g W.ho : gT (iS h (kI h)) a 2 2 x = x)
  have R3 := W.r3
  have T := ho_tuft (N := N) W.ho x
  have T5 := W.mt (N := N) x
  simp only [iS_k] at G Gh R3 T
  have bad : (tfN F x = 0 ∨ fX1_isIn y 0 7 = 0) → ∃ (k v : Int32) (h' : HS) (σ' : MS), fX0_tuft N h b x y (b + 18419) = some (k, h') ∧ fX5_tuft N σ x y = some (v, σ') ∧ gI σ' 0 = k ∧ (k = 0 → kI h' (b + 18419) 0 = v) ∧ LR b n h' σ' := by
    intro c
    obtain ⟨h', e1, e2, e3⟩ := hL.fails (N := N)
    have hc : (if tfN F x = 0 then true else if fX1_isIn y 0 7 = 0 then true else false) = true := by
      rcases c with c | c
      · rw [if_pos c]
      · by_cases c2 : tfN F x = 0
        · rw [if_pos c2]
        · rw [if_neg c2, if_pos c]
    refine ⟨1, 0, h', sI σ 0 1, ?_, ?_, rfl, fun q => absurd q (by decide), e3⟩
    · unfold fX0_tuft fX1_tuft
      simp only [G, R3, Gh, T, Option.bind_some, lt_, hc, if_true, e1, thr]
      exact gT_n (by rw [e2]; decide) (by rw [e2]; decide)
    · unfold fX5_tuft
      have hc5 : (if tfN F x = 0 then true else if fX5_isIn y 0 7 = 0 then true else false) = true := hc
      simp only [T5, Option.bind_some, lt_]
      rw [if_pos hc5, thr1]
      rfl
  rcases tfN_cs F W.mh.1.1.1 W.mh.1.1.2.1 x with q | ⟨q, t, ht, htf, rfl⟩
  · exact bad (Or.inl q)
  · rcases isIn01 y 0 7 with c | c
    · exact bad (Or.inr c)
    · obtain ⟨v, e1, e2⟩ := W.tv hN ht htf y c
      refine ⟨0, v, _, sI σ 0 0, ?_, e2, rfl, fun _ => ?_, (hL.less.out v).thrown 0⟩
      · unfold fX0_tuft
        rw [G, e1]
        simp only [Option.bind_some, thr, out_w hL]
      · rw [kI_iS, u2_eq]
end PO6b
