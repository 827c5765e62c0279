/-! sentences: bracket(), and one() by depth -/
section PUT
variable {h0 h h' h2 : HS} {σ0 σ σ' σ1 σ2 σ3 : MS} {N b rd sz Z W a O t n c : Nat} {F : Nat → Nat} {S : List Nat} {C L L2 : List CD3} {rec : HS → Nat → Option ((Nat ⊕ Nat) × HS)}
theorem brk_c (hN : 200000 ≤ N) (m1 : Z + 60 ≤ kG h0 1) (m2 : W + 500 ≤ kG h0 2)
    (hR : ∀ S', (S' = S ++ [13] ∨ S' = S ++ [13] ++ [11] ∨ S' = S ++ [13] ++ [12] ∨ S' = S ++ [13] ++ [12] ++ [11]) → ∀ t' O' C' h' σ', SX h0 b rd sz Z W a σ0 t' O' S' C' false h' σ' → kI h' rd 11 = nI (cn2 S') → OneC N h0 b rd sz Z W a F σ0 (rec h' rd) O' S' C' h' σ')
    (hX : SX h0 b rd sz Z W a σ0 t O (S ++ [13]) C false h σ) (w11 : kI h rd 11 = nI (cn2 (S ++ [13]))) : BrC N h0 b rd sz Z W a F σ0 (fX13_bracket N rec h rd) O S C h σ := by
  have T := hX.2.1.1
  unfold fX13_bracket
  rw [gT_n (by rw [T]; exact Nat.le_refl _) (by rw [T]; exact Nat.le_refl _)]
  rcases or_c hN m1 m2 (lastN_ne (by decide)) (lastN_ne (by decide)) (lastN_ne (by decide)) hR hX w11 with H | ⟨c, h1, σ1, t1, O1, L, k, y1, y2, y3, y4, y5, y7, yw⟩
  · obtain ⟨fa, h', σ', k, z, z2⟩ := H
    exact Or.inl ⟨fa, h', σ', k, by rw [z]; rfl, z2⟩
  · obtain ⟨Sx, Cx, s2, s3, X1, OP, y6, y8, hl, wa⟩ := y5
    obtain ⟨⟨P, R⟩, ⟨T1, A9, I⟩, hS, f15, o1, b1, b2⟩ := id X1
    have b1 : t1 + 1 ≤ 2 * O1 := b1
    have i50 : gI σ1 50 = 1 := hS.1.2.2.2.2
    have ls : (S ++ [13]).length = S.length + 1 := by rw [List.length_append]; rfl
    rw [ls] at hl
    have tk : tkS σ1 s3 := OP.2.1.trans OP.2.2.1
    have R3 : PRS h0 b rd sz 200 (Z + t1) (W + 8 * t1) true P h1 s3 := R.ms (tk.2.2.2 1 (by decide) (by decide)) (by rw [tk.2.2.1]) tk.2.1 fun k hk => tk.1 k (by omega)
    have o : ∀ k, oI h1 rd 7 7 k = some (kI h1 rd k) := fun k => oI_n (by omega) (by omega)
    have gt : ∀ {α : Type} (x : Option α), gT h1 rd 7 7 x = x := fun x => gT_n (by omega) (by omega)
    rw [y1, Option.bind_some]
    show BrC N h0 b rd sz Z W a F σ0 ((oI h1 rd 7 7 4).bind fun v2 => ((if v2 = 6 then ((oI h1 rd 7 7 7).bind fun v5 => (if v5 = 41 then (some false) else (some true))) else (some true)).bind fun q3 => (if q3 = true then (gT h1 rd 7 7 (((fX6_need N h1 rd 0 1).bind fun r7 => thr r7.1 (fun b7 => some (.inl b7, r7.2)) fun w7 => gT r7.2 rd 7 7 (((fX6_go N r7.2 rd).bind fun r8 => some (.inr c, r8)))))) else (gT h1 rd 7 7 (((fX6_need N h1 rd 1 1).bind fun r9 => thr r9.1 (fun b9 => some (.inl b9, r9.2)) fun w9 => gT r9.2 rd 7 7 (((fX6_go N r9.2 rd).bind fun r10 => some (.inr c, r10))))))))) O S C h σ
    rw [o 4, Option.bind_some, o 7]
    rcases tk_br R.tk (c := 41) (Or.inr rfl) with ⟨k4, k7, sg, m11⟩ | ⟨np, sg⟩
    · have k7 : kI h1 rd 7 = 41 := k7
      have sg : fX5_isSign σ1 41 = 1 := sg
      have i48 : gI s3 48 = nI (S.length + 1) := by rw [OP.2.2.2.2.1.2.2.1, ls]
      have S3 := OP.2.2.2.2
      have d49 : gI s3 49 - 1 = nI (1 + cn2 S) := by
        rw [S3.1.2.2.2.1, cn2_app]
        exact pl_sl (n := 1) (a := 1 + (cn2 S + 1)) (by show 1 ≤ 1 + (cn2 S + 1); omega)
      have d48 : gI s3 48 - 1 = nI S.length := by
        rw [i48]; exact pl_sl (n := 1) (by show 1 ≤ S.length + 1; omega)
      obtain ⟨q1, q2⟩ := sm_pop S3 _ d49
      obtain ⟨σ4, e4⟩ : ∃ s, s = sI (sI s3 48 (nI S.length)) 49 (gI s3 49 - 1) := ⟨_, rfl⟩
      rw [← e4] at q1 q2
      have R4 : PRS h0 b rd sz 200 (Z + t1) (W + 8 * t1) true P h1 σ4 := R3.ms (q2.2.2.2 1 (by decide) (by decide)) (by rw [q2.2.2.1]) q2.2.1 fun k hk => q2.1 k (by omega)
      obtain ⟨h3, σ5, P1, g1, g2, R5, g4, g5, g6⟩ := go_both (N := N) hN R4.1
      have be : fX5_behind N σ1 = some (1, σ5) := by
        rw [be_no OP wa yw, if_neg (by rw [tk.sign, sg, if_neg (by decide), if_neg (by rw [i48]; exact fun z => by have := (nI_eq (b := 0) (by omega) (by decide)).mp z; omega)]; decide), d48, show sI (sI s3 48 (nI S.length)) 49 (gI s3 49 - 1) = σ4 from e4.symm, g2, Option.bind_some]
      have st : ∀ n, lX5_sentence_48 N (n + 1) σ1 1 = lX5_sentence_48 N n σ5 1 := fun n => by
        rw [lp_be i50 (by rw [m11]; decide) be, if_neg (by decide)]
      have K3 : sK rd h1 h3 := g6.c.sk
      rw [if_pos k4, Option.bind_some, if_pos k7, Option.bind_some, if_neg (by decide), gt, need_1, Option.bind_some]
      refine Or.inr ⟨c, h3, σ5, t1, O1, L, k + 1, ?_, by omega, by omega, fun n => ?_, ⟨⟨P1, R5⟩, ⟨K3.2.1.trans T1, (K3.2.2.1 9 (by decide)).trans A9, ?_⟩, sm_mk q1 g6.m, ?_, o1, b1, ?_⟩, ?_, y7.trans K3, ?_⟩
      · show gT h1 rd 7 7 (((fX6_go N h1 rd).bind fun r10 => some ((Sum.inr c : Nat ⊕ Nat), r10))) = _
        rw [gt, g1]; rfl
      · rw [← Nat.add_assoc, Nat.add_right_comm, y4, st]
      · exact (g6.c.2.2.2 10 (by omega)).trans I
      · rw [g6.2.2.2.2.2.2 15 (by decide) (by decide) (by decide) (by decide) (by decide), q2.1 15 (by decide), tk.1 15 (by decide)]; exact f15
      · show (C ++ L).length + S.length + 1 ≤ 2 * O1; omega
      · rw [g6.c.2.2.2 11 (by omega), y6, cn2_app]
        rfl
      · exact y8.ond K3.1 (fun y _ z => by have z : y = rd := z; rw [z, T1]; exact Or.inl ⟨by decide, by decide⟩) _ _ _
    · obtain ⟨fa, h', e1, e2⟩ := need_0 (N := N) R3 (k := 1) fun _ => rfl
      have np : ¬ (kI h1 rd 4 = 6 ∧ kI h1 rd 7 = 41) := np
      have q : (if kI h1 rd 4 = 6 then ((some (kI h1 rd 7)).bind fun v5 => (if v5 = 41 then (some false) else (some true))) else (some true)) = some true := by
        by_cases c4 : kI h1 rd 4 = 6
        · rw [if_pos c4, Option.bind_some, if_neg fun z => np ⟨c4, z⟩]
        · rw [if_neg c4]
      rw [q, Option.bind_some, if_pos rfl, gt, e1, Option.bind_some]
      refine Or.inl ((sfw_end OP i50 wa yw (by rw [ls]; omega) (fun _ => sg) (fun z => by rw [z] at ls; simp at ls) rfl e2 (by omega) (by omega)).sa (fun _ _ z => z) y3 (by omega) o1 y4)
theorem one_all (hN : 200000 ≤ N) (X : SF h0 b a F σ0) (m1 : Z + 60 ≤ kG h0 1) (m2 : W + 500 ≤ kG h0 2) : ∀ d S, 9 ≤ d + cn2 S → cn2 S ≤ 8 → ∀ t O C h σ, SX h0 b rd sz Z W a σ0 t O S C false h σ → kI h rd 11 = nI (cn2 S) → OneC N h0 b rd sz Z W a F σ0 (rOne N d h rd) O S C h σ := by
  intro d
  induction d with
  | zero => intro S h1 h2; omega
  | succ d ih =>
    intro S c1 c2 t O C h σ hX w11
    show OneC N h0 b rd sz Z W a F σ0 (fX13_one N (rOne N d) h rd) O S C h σ
    obtain ⟨⟨P, R⟩, ⟨T, -, -⟩, -⟩ := id hX
    rcases tk_br R.tk (c := 40) (Or.inl rfl) with ⟨k4, k7, sg, m11⟩ | ⟨np, sg⟩
    · refine one_br hN m1 m2 hX w11 k4 k7 sg m11 fun c8 t' O' C' h' σ' X' w' => brk_c hN m1 m2 (fun S' hS' => ?_) X' w'
      have cS : cn2 S' = cn2 S + 1 := by
        rcases hS' with rfl | rfl | rfl | rfl <;> simp only [cn2_app] <;> rfl
      exact ih S' (by omega) (by omega)
    · obtain ⟨r6, r7, r8, e6, e7, e8, w6, v6, lf, wd⟩ := lf_both (N := N) hN R T
      rcases v6 with rfl | rfl
      · exact one_leaf hN X m1 m2 hX w11 w6 sg np
      · refine one_not hN m1 m2 hX w11 w6 fun c8 t' O' C' h' σ' X' w' => ih (S ++ [10]) ?_ ?_ t' O' C' h' σ' X' w'
        · rw [cn2_app]; show 9 ≤ d + (cn2 S + 1); omega
        · rw [cn2_app]; show cn2 S + 1 ≤ 8; omega
/-- read(), behind its first token -/
theorem rd_top (hN : 200000 ≤ N) (X : SF h0 b a F σ0) (m1 : Z + 60 ≤ kG h0 1) (m2 : W + 500 ≤ kG h0 2) (hX : SX h0 b rd sz Z W a σ0 0 0 [] [] false h σ) (w11 : kI h rd 11 = 0) :
    (∃ fa h' σ', ((fX13_or N (rOne N 12) h rd).bind fun r2 => thr r2.1 (fun b2 => some (.inl b2, r2.2)) fun w2 => ((oI r2.2 rd 7 7 4).bind fun v3 => (if v3 = 0 then (gT r2.2 rd 7 7 (((fX6_need N r2.2 rd 1 1).bind fun r6 => thr r6.1 (fun b6 => some (.inl b6, r6.2)) fun w6 => some (.inr w2, r6.2)))) else (gT r2.2 rd 7 7 (((fX6_need N r2.2 rd 0 1).bind fun r5 => thr r5.1 (fun b5 => some (.inl b5, r5.2)) fun w5 => some (.inr w2, r5.2))))))) = some ((Sum.inl fa : Nat ⊕ Nat), h') ∧ lX5_sentence_48 N N σ 1 = some (.inr (-1 - gI σ' 16, σ')) ∧ FLT h0 (Z + 41) (W + 328) h' fa σ' ∧ SMe σ0 σ') ∨
    ∃ c h' σ' L O' P, ((fX13_or N (rOne N 12) h rd).bind fun r2 => thr r2.1 (fun b2 => some (.inl b2, r2.2)) fun w2 => ((oI r2.2 rd 7 7 4).bind fun v3 => (if v3 = 0 then (gT r2.2 rd 7 7 (((fX6_need N r2.2 rd 1 1).bind fun r6 => thr r6.1 (fun b6 => some (.inl b6, r6.2)) fun w6 => some (.inr w2, r6.2)))) else (gT r2.2 rd 7 7 (((fX6_need N r2.2 rd 0 1).bind fun r5 => thr r5.1 (fun b5 => some (.inl b5, r5.2)) fun w5 => some (.inr w2, r5.2))))))) = some ((Sum.inr c : Nat ⊕ Nat), h') ∧ lX5_sentence_48 N N σ 1 = some (.inl σ') ∧ SM σ0 [] L O' true σ' ∧ PRS h0 b rd sz 200 (Z + 40) (W + 320) true P h' σ' ∧ gI σ' 15 = 0 ∧ CondR h' (kI h') b F L.length c L ∧ L.length ≤ 40 ∧ kI h' rd 10 = nI O' ∧ kT h' rd = 7 ∧ sK rd h h' := by
  have ln : ∀ k, lastN ([] : List Nat) k := fun k S' z => by
    have := congrArg List.length z
    rw [List.length_append] at this
    simp at this
  have sf : ∀ {r : Option ((Nat ⊕ Nat) × HS)}, SFa N h0 Z W σ0 0 r σ → ∃ fa h' σ', r = some (.inl fa, h') ∧ lX5_sentence_48 N N σ 1 = some (.inr (-1 - gI σ' 16, σ')) ∧ FLT h0 (Z + 41) (W + 328) h' fa σ' ∧ SMe σ0 σ' := fun H => by
    obtain ⟨fa, h', σ', k, z1, z2, z3, z4, z5⟩ := H
    refine ⟨fa, h', σ', z1, ?_, z4, z5⟩
    have := z3 (N - k)
    rw [Nat.sub_add_cancel (by omega)] at this
    exact this
  rcases or_c hN m1 m2 (ln 10) (ln 11) (ln 12) (fun S' hS' => one_all hN X m1 m2 12 S' (by omega) (by
    rcases hS' with rfl | rfl | rfl | rfl <;> decide)) hX w11 with H | ⟨c, h1, σ1, t1, O1, L, k, y1, y2, y3, y4, y5, y7, yw⟩
  · obtain ⟨fa, h', σ', z1, z2⟩ := sf H
    exact Or.inl ⟨fa, h', σ', by rw [z1]; rfl, z2⟩
  · obtain ⟨Sx, Cx, s2, s3, X1, OP, y6, y8, hl, wa⟩ := y5
    obtain ⟨⟨P, R⟩, ⟨T1, A9, I⟩, hS, f15, o1, b1, b2⟩ := id X1
    have b1 : t1 + 1 ≤ 2 * O1 := b1
    have i50 : gI σ1 50 = 1 := hS.1.2.2.2.2
    have hl : L.length + 0 + 1 ≤ 2 * O1 := hl
    have tk : tkS σ1 s3 := OP.2.1.trans OP.2.2.1
    have R3 : PRS h0 b rd sz 200 (Z + t1) (W + 8 * t1) true P h1 s3 := R.ms (tk.2.2.2 1 (by decide) (by decide)) (by rw [tk.2.2.1]) tk.2.1 fun k hk => tk.1 k (by omega)
    have o : ∀ k, oI h1 rd 7 7 k = some (kI h1 rd k) := fun k => oI_n (by omega) (by omega)
    have gt : ∀ {α : Type} (x : Option α), gT h1 rd 7 7 x = x := fun x => gT_n (by omega) (by omega)
    have G1 : kG h1 = kG h0 := R.1.2.1.1.2.1
    rw [y1, Option.bind_some]
    simp only [thr]
    rw [o 4, Option.bind_some]
    rcases tk_stop R.tk with ⟨k4, m11⟩ | ⟨k4, m11⟩
    · right
      refine ⟨c, h1, s3, L, O1, P, ?_, ?_, OP.2.2.2.2, R3.mono (by omega) (by omega) (by rw [G1]; omega) (by rw [G1]; omega), (tk.1 15 (by decide)).trans f15, y8, by omega, I, T1, y7⟩
      · rw [if_pos k4, gt, need_1]; rfl
      · obtain ⟨n, rfl⟩ : ∃ n, N = n + 2 + k := ⟨N - 2 - k, by omega⟩
        have e0 : lX5_sentence_48 (n + 2 + k) (n + 2 + k) σ 1 = lX5_sentence_48 (n + 2 + k) (n + 2) σ1 1 := y4 (n + 2)
        rw [e0, lp_en i50 m11, OP.1, Option.bind_some, OP.2.2.2.1, Option.bind_some, if_pos (by rw [OP.2.2.2.2.1.2.2.1]; decide), lp_0]
    · left
      obtain ⟨fa, h', e1, e2⟩ := need_0 (N := N) R3 (k := 1) fun _ => rfl
      obtain ⟨fa', h2, σ', z1, z2⟩ := sf ((sfw_end (Z := Z) (W := W) (r := some (.inl fa, h')) OP i50 wa yw (by decide) (fun z => absurd rfl z) (fun _ => m11) rfl e2 (by omega) (by omega)).sa (fun _ _ z => z) y3 (by omega) o1 y4)
      refine ⟨fa', h2, σ', ?_, z2⟩
      rw [if_neg k4, gt, e1, Option.bind_some]
      exact z1
end PUT
