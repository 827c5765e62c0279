/-! sentences: or() -/
def OrP (N : Nat) (σ0 : MS) (S : List Nat) (C : List CD3) (O : Nat) (σ : MS) (L : List CD3) (σ2 σ3 : MS) : Prop :=
  fX5_nots N σ = some σ2 ∧ tkS σ σ2 ∧ tkS σ2 σ3 ∧ fX5_joins N σ2 12 = some σ3 ∧ SM σ0 S (C ++ L) O true σ3
/-- or() after some ands -/
def OrI (N : Nat) (h0 : HS) (b rd sz Z W a : Nat) (F : Nat → Nat) (σ0 : MS) (t O : Nat) (S : List Nat) (C : List CD3) (h : HS) (σ : MS) (c : Nat) (L : List CD3) : Prop :=
  ∃ Sx Cx σ2 σ3, SX h0 b rd sz Z W a σ0 t O Sx Cx true h σ ∧ OrP N σ0 S C O σ L σ2 σ3 ∧ kI h rd 11 = nI (cn2 S) ∧ CondR h (kI h) b F L.length c L ∧ (C ++ L).length + S.length + 1 ≤ 2 * O ∧ fX5_isWord σ 6385252 = 0
/-- or() from S and C -/
def OrC (N : Nat) (h0 : HS) (b rd sz Z W a : Nat) (F : Nat → Nat) (σ0 : MS) (r : Option ((Nat ⊕ Nat) × HS)) (O : Nat) (S : List Nat) (C : List CD3) (h : HS) (σ : MS) : Prop :=
  SFa N h0 Z W σ0 O r σ ∨ ∃ c h' σ' t' O' L k, r = some (.inr c, h') ∧ O < O' ∧ k + 1 ≤ 3 * (O' - O) ∧ (∀ n, lX5_sentence_48 N (n + k) σ 1 = lX5_sentence_48 N n σ' 1) ∧ OrI N h0 b rd sz Z W a F σ0 t' O' S C h' σ' c L ∧ sK rd h h' ∧ fX5_isWord σ' 28530 = 0
section PUR
variable {h0 h h' h2 : HS} {σ0 σ σ' σ1 σ2 σ3 : MS} {N b rd sz Z W a O t n c : Nat} {F : Nat → Nat} {S : List Nat} {C L L2 : List CD3} {rec : HS → Nat → Option ((Nat ⊕ Nat) × HS)}
theorem lastN_ne {j k : Nat} (h : j ≠ k) : lastN (S ++ [j]) k := fun S' z => by
  have := (List.append_inj' z rfl).2
  exact h (List.cons.inj this).1
/-- after the first and() -/
theorem orp_1 (hN : 200 ≤ N) (A : AndP N σ0 S C O σ L σ2 σ3) (h11 : lastN S 11) (h12 : lastN S 12) (hb : S.length < 45) : OrP N σ0 S C O σ L σ2 σ3 := by
  obtain ⟨m, rfl⟩ : ∃ m, N = m + 2 := ⟨N - 2, by omega⟩
  have j0 : ∀ m', lX5_joins_0 (m + 2) (m' + 1) σ3 12 = some σ3 := fun m' => sm_j0 A.2.2.2.2 hb h11 (fun _ => h12)
  refine ⟨A.1, A.2.1, A.2.2.1, ?_, A.2.2.2.2⟩
  unfold fX5_joins
  rcases A.2.2.2.1 with e | e
  · rw [e, j0]; rfl
  · rw [e, j0]; rfl
/-- after a later and() -/
theorem orp_2 (hN : 200 ≤ N) (A : AndP N σ0 (S ++ [12]) (C ++ L) O σ L2 σ2 σ3) (h11 : lastN S 11) (h12 : lastN S 12) (hb : S.length + 1 + (C ++ L ++ L2).length < 45) : ∃ σ4, OrP N σ0 S C O σ (L ++ L2 ++ [(12, 0, 0)]) σ2 σ4 := by
  obtain ⟨m, rfl⟩ : ∃ m, N = m + 3 := ⟨N - 3, by omega⟩
  obtain ⟨a1, a2, a3, a4, a5⟩ := A
  have fin : ∀ σ4 : MS, SM σ0 S (C ++ L ++ L2 ++ [(12, 0, 0)]) O true σ4 → (SM σ0 S (C ++ (L ++ L2 ++ [(12, 0, 0)])) O true σ4 ∧ ∀ m', lX5_joins_0 (m + 3) (m' + 1) σ4 12 = some σ4) := fun σ4 hS => ⟨by simp only [List.append_assoc] at hS ⊢; exact hS, fun m' => sm_j0 hS (by omega) h11 (fun _ => h12)⟩
  rcases a4 with e | e
  · obtain ⟨σ4, j1, j2, j3⟩ := sm_j1 (N := m + 3) (till := 12) (m := m + 2) a5 hb (Or.inr ⟨rfl, rfl⟩)
    obtain ⟨f1, f2⟩ := fin σ4 j2
    refine ⟨σ4, a1, a2, a3.trans j3, ?_, f1⟩
    unfold fX5_joins
    rw [e, j1, f2]; rfl
  · obtain ⟨σ4, j1, j2, j3⟩ := sm_j1 (N := m + 3) (till := 12) (m := m + 1) a5 hb (Or.inr ⟨rfl, rfl⟩)
    obtain ⟨f1, f2⟩ := fin σ4 j2
    refine ⟨σ4, a1, a2, a3.trans j3, ?_, f1⟩
    unfold fX5_joins
    rw [e, j1, f2]; rfl
/-- or -/
theorem be_or (A : OrP N σ0 S C O σ L σ2 σ3) (w : fX5_isWord σ 6385252 = 0) (w' : fX5_isWord σ 28530 = 1) : fX5_behind N σ = ((wA σ3 45 (gI σ3 48) 12).bind fun a => ((fX5_next N (sI (sI a 48 (gI a 48 + 1)) 50 0)).bind fun r => some (1, r))) := by
  obtain ⟨a1, a2, a3, j, -⟩ := A
  have w2 : fX5_isWord σ2 6385252 = 0 := by rw [a2.word, w]
  have w2' : ¬ fX5_isWord σ2 28530 = 0 := by rw [a2.word, w']; decide
  have w3 : fX5_isWord σ3 6385252 = 0 := by rw [a3.word]; exact w2
  unfold fX5_behind
  rw [a1, Option.bind_some, ltE, if_pos (by rw [if_pos w2, if_neg w2']), if_pos w2, j, Option.bind_some, if_pos w3]
  rfl
theorem or_st (hN : 200000 ≤ N) (m1 : Z + 60 ≤ kG h0 1) (m2 : W + 500 ≤ kG h0 2) (h11 : lastN S 11) (h12 : lastN S 12)
    (hR : ∀ t' O' C' h' σ', SX h0 b rd sz Z W a σ0 t' O' (S ++ [12]) C' false h' σ' → kI h' rd 11 = nI (cn2 (S ++ [12])) → AndC N h0 b rd sz Z W a F σ0 (fX13_and N rec h' rd) O' (S ++ [12]) C' h' σ')
    (hI : OrI N h0 b rd sz Z W a F σ0 t O S C h σ c L) (wd : fX5_isWord σ 28530 = 1) (wc : fX6_is N h rd (kG h 29) = some 1) (k11 : gI σ 11 ≠ 0) :
    (∃ fa h', (∀ n, lX13_or_5 N rec (n + 1) h rd c = some (.inr (.inl fa, h'))) ∧ SFw N h0 Z W σ0 O (some (.inl fa, h')) σ) ∨
    ∃ c' h' σ' t' O' L' k, (∀ n, lX13_or_5 N rec (n + 1) h rd c = lX13_or_5 N rec n h' rd c') ∧ O < O' ∧ O' ≤ 20 ∧ k ≤ 3 * (O' - O) ∧ (∀ n, lX5_sentence_48 N (n + k) σ 1 = lX5_sentence_48 N n σ' 1) ∧ OrI N h0 b rd sz Z W a F σ0 t' O' S C h' σ' c' L' ∧ sK rd h h' := by
  obtain ⟨Sx, Cx, σ2, σ3, X0, A, w11, hc, hl, wa⟩ := hI
  obtain ⟨⟨P, R⟩, ⟨T, A9, I⟩, hS, f15, hO, b1, b2⟩ := id X0
  have b1 : t + 1 ≤ 2 * O := b1
  have hl' : (C ++ L).length + S.length + 1 ≤ 2 * O := hl
  have i50 : gI σ 50 = 1 := hS.1.2.2.2.2
  obtain ⟨p1, p2, p3, p4⟩ := sm_push' A.2.2.2.2 (by omega) (k := 12) (Or.inr rfl)
  obtain ⟨σ4, e4⟩ : ∃ s, s = sI (sI (aS σ3 45 (upd (gA σ3 45) S.length (nI 12))) 48 (nI (S.length + 1))) 50 0 := ⟨_, rfl⟩
  have W4 := sm_wh (v := false) p3
  rw [show sI (sI (aS σ3 45 (upd (gA σ3 45) S.length (nI 12))) 48 (nI (S.length + 1))) 50 (bI false) = σ4 from e4.symm] at W4
  have tk : tkS σ σ4 := ((A.2.1.trans A.2.2.1).trans p4).trans W4.2
  have be : fX5_behind N σ = ((fX5_next N σ4).bind fun r => some (1, r)) := by
    rw [be_or A wa wd, show wA σ3 45 (gI σ3 48) 12 = _ from p1, Option.bind_some, e4, ← p2]
    rfl
  have R4 : PRS h0 b rd sz 200 (Z + t) (W + 8 * t) true P h σ4 := R.ms (tk.2.2.2 1 (by decide) (by decide)) (by rw [tk.2.2.1]) tk.2.1 fun k hk => tk.1 k (by omega)
  obtain ⟨h3, σ5, P1, g1, g2, R5, g4, g5, g6⟩ := go_both (N := N) hN R4.1
  have S5 : SM σ0 (S ++ [12]) (C ++ L) O false σ5 := sm_mk W4.1 g6.m
  have st : ∀ n, lX5_sentence_48 N (n + 1) σ 1 = lX5_sentence_48 N n σ5 1 := fun n => by
    rw [lp_be i50 k11 (show fX5_behind N σ = some (1, σ5) by rw [be, g2, Option.bind_some]), if_neg (by decide)]
  have K3 : sK rd h h3 := g6.c.sk
  have G3 : kG h3 = kG h0 := R5.1.2.1.1.2.1
  obtain ⟨n1, R6⟩ := R5.nw (k := 14) (n := 3) (by decide) (by rw [G3]; omega) (by rw [G3]; omega)
  obtain ⟨q, eq⟩ : ∃ q, q = kZ h3 := ⟨_, rfl⟩
  obtain ⟨h4, eh4⟩ : ∃ x, x = tA h3 14 0 3 := ⟨_, rfl⟩
  rw [← eh4, ← eq] at n1
  rw [← eh4] at R6
  have rl : rd < kZ h := R.rb.1.2.2.2.2
  have rl3 : rd < kZ h3 := R5.rb.1.2.2.2.2
  have K4 : sK rd h h4 := by rw [eh4]; exact K3.n rl
  have z4 : q < kZ h4 := by rw [eh4, eq]; exact Nat.lt_succ_self _
  have T4q : kT h4 q = 14 := by rw [eh4, eq, kT_tA, if_pos rfl]
  have N4q : kR h4 q 0 = none := by rw [eh4, eq, kR_tA, if_pos rfl]
  have T4 : kT h4 rd = 7 := K4.2.1.trans T
  have i4 : ∀ j, j = 10 ∨ j = 11 → kI h4 rd j = kI h rd j := fun j hj => by
    rw [eh4, kI_tA, if_neg (by omega)]; exact g6.c.2.2.2 j (by omega)
  have cn : cn2 (S ++ [12]) = cn2 S := by rw [cn2_app]; rfl
  have X4 : SX h0 b rd sz Z W a σ0 (t + 1) O (S ++ [12]) (C ++ L) false h4 σ5 := by
    refine ⟨⟨P1, R6⟩, ⟨T4, (K4.2.2.1 9 (by decide)).trans A9, ?_⟩, S5, ?_, hO, ?_, ?_⟩
    · rw [i4 10 (Or.inl rfl)]; exact I
    · rw [g6.2.2.2.2.2.2 15 (by decide) (by decide) (by decide) (by decide) (by decide), tk.1 15 (by decide)]; exact f15
    · show t + 1 + 0 ≤ 2 * O; omega
    · rw [List.length_append (as := S)]; show (C ++ L).length + (S.length + 1) + 0 ≤ 2 * O; omega
  have eN : ∀ n, lX13_or_5 N rec (n + 1) h rd c = ((fX13_and N rec h4 rd).bind fun r6 => thr r6.1 (fun b6 => some (.inr (.inl b6, r6.2))) fun w6 => ((fX18_init N r6.2 q c w6 0).bind fun r7 => lX13_or_5 N rec n r7 rd q)) := fun n => by
    rw [lX13_or_5, gT_n (by rw [T]; exact Nat.le_refl _) (by rw [T]; exact Nat.le_refl _), wc, Option.bind_some, if_neg (by decide), gT_n (by rw [T]; exact Nat.le_refl _) (by rw [T]; exact Nat.le_refl _), g1, Option.bind_some, n1, Option.bind_some]
    exact gT_n (by rw [T4]; exact Nat.le_refl _) (by rw [T4]; exact Nat.le_refl _)
  rcases hR _ _ _ _ _ X4 (by rw [i4 11 (Or.inr rfl), cn]; exact w11) with H | ⟨c2, h5, σ6, t', O', L2, k, y1, y2, y3, y4, yI, y7, yw⟩
  · obtain ⟨fa, h', -, -, z, -⟩ := id H
    exact Or.inl ⟨fa, h', fun n => by rw [eN, z]; rfl, H.sw (fun _ _ y => by rw [← z]; exact y) st⟩
  · obtain ⟨Sy, Cy, s2, s3, y5, AP, y6, y8, hl2⟩ := yI
    obtain ⟨⟨P5, R7⟩, ⟨T5, A5, I5⟩, S6, f5, o5, d1, d2⟩ := id y5
    have d1' : t' + 1 ≤ 2 * O' := d1
    have ls : (S ++ [12]).length = S.length + 1 := by rw [List.length_append]; rfl
    rw [ls] at hl2
    obtain ⟨a1, a2, a3, a4⟩ := y7.1.2.2 q z4 (show ¬ q = rd by omega)
    have G5 : kG h5 = kG h0 := R7.1.2.1.1.2.1
    have gz : kG h5 0 ≤ q := by have := R5.1.2.2.2.1.1; rw [G3] at this; rw [G5, eq]; exact this
    have K5 : sK rd h h5 := K4.trans y7
    have H1 : CondR h5 (kI h5) b F L.length c L := hc.ond K5.1 (fun y _ z => by have z : y = rd := z; rw [z, T]; exact Or.inl ⟨by decide, by decide⟩) _ _ _
    have z0 := R5.1.2.1.1.1
    have zb := R.1.2.1.2.2.1
    have z5 : q < kZ h5 := Nat.lt_of_lt_of_le z4 y7.1.1
    obtain ⟨h6, u1, u2, u3, u4, u5, u6⟩ := two_set (N := N) (v := false) (a1.trans T4q) (by rw [a4]; exact N4q) gz z5 (by omega) H1 y8
    have K6 : sK rd h h6 := K5.w u2 (by rw [eq]; exact K3.1.1) rl
    obtain ⟨v1, v2, v3, v4⟩ := u2.2.2 rd R7.rb.1.2.2.2.2 (show ¬ rd = q by omega)
    have rm1 : Z + t' + 0 + 10 ≤ kG h5 1 := by rw [G5]; omega
    have rm2 : W + 8 * t' + 8 * 0 + 100 ≤ kG h5 2 := by rw [G5]; omega
    obtain ⟨s4, OP⟩ := orp_2 (N := N) (by omega) AP h11 h12 (by omega)
    refine Or.inr ⟨q, h6, σ6, t', O', L ++ L2 ++ [(12, 0, 0)], k + 1, fun n => ?_, y2, o5, by omega, fun n => ?_, ⟨_, _, s2, s4, ⟨⟨P5, ?_⟩, ⟨v1.trans T5, by rw [v4]; exact A5, by rw [v3]; exact I5⟩, S6, f5, o5, d1, d2⟩, OP, by rw [v3, y6, cn], ?_, ?_, yw⟩, K6⟩
    · rw [eN, y1, Option.bind_some]
      show ((fX18_init N h5 q c c2 0).bind _) = _
      rw [show fX18_init N h5 q c c2 0 = some h6 from u1, Option.bind_some]
    · rw [← Nat.add_assoc, st, y4]
    · exact PRS.obj (t := 0) R7 u2 (fun y _ z => by have z : y = q := z; rw [z, a1, T4q]; exact ⟨by rw [eq]; exact z0, by decide, by decide⟩) (by rw [u4]; exact Nat.le_refl _) (by rw [u5]; exact Nat.le_refl _) rm1 rm2
    · refine CondR.up _ _ _ _ u6 ?_
      rw [List.length_append, List.length_append]; exact Nat.le_refl _
    · simp only [List.length_append, List.length_cons, List.length_nil] at hl2 ⊢
      omega
end PUR
