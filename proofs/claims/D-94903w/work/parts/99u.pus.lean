/-! sentences: or() whole -/
section PUS
variable {h0 h h' h2 : HS} {σ0 σ σ' σ1 σ2 σ3 : MS} {N b rd sz Z W a O t n c : Nat} {F : Nat → Nat} {S : List Nat} {C L L2 : List CD3} {rec : HS → Nat → Option ((Nat ⊕ Nat) × HS)}
theorem or_lp (hN : 200000 ≤ N) (m1 : Z + 60 ≤ kG h0 1) (m2 : W + 500 ≤ kG h0 2) (h11 : lastN S 11) (h12 : lastN S 12)
    (hR : ∀ t' O' C' h' σ', SX h0 b rd sz Z W a σ0 t' O' (S ++ [12]) C' false h' σ' → kI h' rd 11 = nI (cn2 (S ++ [12])) → AndC N h0 b rd sz Z W a F σ0 (fX13_and N rec h' rd) O' (S ++ [12]) C' h' σ') :
    ∀ m n t O h σ c L, 20 - O ≤ m → m < n → OrI N h0 b rd sz Z W a F σ0 t O S C h σ c L →
    (∃ fa h', lX13_or_5 N rec n h rd c = some (.inr (.inl fa, h')) ∧ SFw N h0 Z W σ0 O (some (.inl fa, h')) σ) ∨
    ∃ c' h' σ' t' O' L' k, lX13_or_5 N rec n h rd c = some (.inl (h', c')) ∧ O ≤ O' ∧ O' ≤ 20 ∧ k ≤ 3 * (O' - O) ∧ (∀ n, lX5_sentence_48 N (n + k) σ 1 = lX5_sentence_48 N n σ' 1) ∧ OrI N h0 b rd sz Z W a F σ0 t' O' S C h' σ' c' L' ∧ sK rd h h' ∧ fX5_isWord σ' 28530 = 0 := by
  intro m
  induction m using Nat.strongRecOn with
  | _ m ih =>
    intro n t O h σ c L hm hn hI
    obtain ⟨n, rfl⟩ : ∃ x, n = x + 1 := ⟨n - 1, by omega⟩
    obtain ⟨Sx, Cx, σ2, σ3, X0, -⟩ := id hI
    obtain ⟨⟨P, R⟩, ⟨T, -, -⟩, -, -, hO, -⟩ := X0
    obtain ⟨v, wc, wd, hv⟩ := is_both (N := N) (w := 28530) hN R (k := 29) (by decide) (by decide) (by unfold okW; decide) (by decide)
    rcases hv with rfl | ⟨rfl, kd⟩
    · exact Or.inr ⟨c, h, σ, t, O, L, 0, by rw [lX13_or_5, gT_n (by rw [T]; exact Nat.le_refl _) (by rw [T]; exact Nat.le_refl _), wc, Option.bind_some, if_pos rfl], Nat.le_refl _, hO, Nat.zero_le _, fun _ => rfl, hI, sK.refl, wd⟩
    · have k11 : gI σ 11 ≠ 0 := by
        rcases tk_word R.tk with ⟨-, z, -⟩ | ⟨z, -⟩
        · rw [z]; decide
        · exact absurd kd z
      rcases or_st hN m1 m2 h11 h12 hR hI wd wc k11 with ⟨fa, h', e1, e2⟩ | ⟨c', h', σ', t', O', L', k, e1, e2, e3, e4, e5, e6, e7⟩
      · exact Or.inl ⟨fa, h', e1 n, e2⟩
      · rcases ih (m - 1) (by omega) n t' O' h' σ' c' L' (by omega) (by omega) e6 with ⟨fa, h2, f1, f2⟩ | ⟨c2, h2, s2, t2, O2, L2, k2, f1, f2, f3, f4, f5, f6, f7, f8⟩
        · exact Or.inl ⟨fa, h2, by rw [e1, f1], f2.sw (fun _ _ z => z) e4 (by omega) e3 e5⟩
        · exact Or.inr ⟨c2, h2, s2, t2, O2, L2, k2 + k, by rw [e1, f1], by omega, f3, by omega, fun n => by rw [← Nat.add_assoc, e5, f5], f6, e7.trans f7, f8⟩
theorem or_c (hN : 200000 ≤ N) (m1 : Z + 60 ≤ kG h0 1) (m2 : W + 500 ≤ kG h0 2) (h10 : lastN S 10) (h11 : lastN S 11) (h12 : lastN S 12)
    (hR : ∀ S', (S' = S ∨ S' = S ++ [11] ∨ S' = S ++ [12] ∨ S' = S ++ [12] ++ [11]) → ∀ t' O' C' h' σ', SX h0 b rd sz Z W a σ0 t' O' S' C' false h' σ' → kI h' rd 11 = nI (cn2 S') → OneC N h0 b rd sz Z W a F σ0 (rec h' rd) O' S' C' h' σ')
    (hX : SX h0 b rd sz Z W a σ0 t O S C false h σ) (w11 : kI h rd 11 = nI (cn2 S)) : OrC N h0 b rd sz Z W a F σ0 (fX13_or N rec h rd) O S C h σ := by
  have T := hX.2.1.1
  unfold fX13_or
  rw [gT_n (by rw [T]; exact Nat.le_refl _) (by rw [T]; exact Nat.le_refl _)]
  rcases and_c hN m1 m2 h10 h11 (hR S (Or.inl rfl)) (hR (S ++ [11]) (Or.inr (Or.inl rfl))) hX w11 with H | ⟨c, h1, σ1, t1, O1, L, k, y1, y2, y3, y4, y5, y7, yw⟩
  · obtain ⟨fa, h', σ', k, z, z2⟩ := H
    exact Or.inl ⟨fa, h', σ', k, by rw [z]; rfl, z2⟩
  · obtain ⟨Sx, Cx, s2, s3, X1, AP, y6, y8, hl⟩ := y5
    have o1 : O1 ≤ 20 := X1.2.2.2.2.1
    have hI : OrI N h0 b rd sz Z W a F σ0 t1 O1 S C h1 σ1 c L := ⟨Sx, Cx, s2, s3, X1, orp_1 (by omega) AP h11 h12 (by omega), y6, y8, hl, yw⟩
    rw [y1, Option.bind_some]
    show OrC N h0 b rd sz Z W a F σ0 (osm (lX13_or_5 N rec N h1 rd c) id fun q8 => some (.inr q8.2, q8.1)) O S C h σ
    rcases or_lp hN m1 m2 h11 h12 (fun t' O' C' h' σ' X w => and_c hN m1 m2 (lastN_ne (by decide)) (lastN_ne (by decide)) (hR (S ++ [12]) (Or.inr (Or.inr (Or.inl rfl)))) (hR (S ++ [12] ++ [11]) (Or.inr (Or.inr (Or.inr rfl)))) X w) 20 N t1 O1 h1 σ1 c _ (by omega) (by omega) hI with ⟨fa, h2, f1, f2⟩ | ⟨c2, h2, s2, t2, O2, L2, k2, f1, f2, f3, f4, f5, f6, f7, f8⟩
    · rw [f1]
      exact Or.inl (f2.sa (fun _ _ z => z) y3 (by omega) o1 y4)
    · rw [f1]
      exact Or.inr ⟨c2, h2, s2, t2, O2, L2, k2 + k, rfl, by omega, by omega, fun n => by rw [← Nat.add_assoc, y4, f5], f6, y7.trans f7, f8⟩
/-- what comes behind, no and, no or -/
theorem be_no (A : OrP N σ0 S C O σ L σ2 σ3) (w : fX5_isWord σ 6385252 = 0) (w' : fX5_isWord σ 28530 = 0) : fX5_behind N σ = (if (if (fX5_isSign σ3 41) = 0 then true else (if (gI σ3 48) = 0 then true else false)) = true then some (0, (fX5_bad σ3 1).2) else ((fX5_next N (sI (sI σ3 48 (gI σ3 48 - 1)) 49 (gI σ3 49 - 1))).bind fun r => some (1, r))) := by
  obtain ⟨a1, a2, a3, j, -⟩ := A
  have w2 : fX5_isWord σ2 6385252 = 0 := by rw [a2.word, w]
  have w2' : fX5_isWord σ2 28530 = 0 := by rw [a2.word, w']
  unfold fX5_behind
  rw [a1, Option.bind_some, ltE, if_neg (by rw [if_pos w2, if_pos w2']; decide), j, Option.bind_some, ltE]
  rfl
/-- a fault at the end of or() -/
theorem sfw_end {r : Option ((Nat ⊕ Nat) × HS)} {fa Zm Wm : Nat} {h1 : HS} (A : OrP N σ0 S C O σ L σ2 σ3) (i50 : gI σ 50 = 1) (w : fX5_isWord σ 6385252 = 0) (w' : fX5_isWord σ 28530 = 0) (hb : S.length < 45) (hs : S ≠ [] → fX5_isSign σ 41 = 0) (h0' : S = [] → gI σ 11 ≠ 0) (hr : r = some (.inl fa, h1)) (hF : FLT h0 Zm Wm h1 fa (fX5_bad σ3 1).2) (z1 : Zm ≤ Z + 41) (z2 : Wm ≤ W + 328) : SFw N h0 Z W σ0 O r σ := by
  obtain ⟨a1, a2, a3, j, hS⟩ := id A
  refine ⟨fa, h1, (fX5_bad σ3 1).2, 1, hr, by omega, fun n => ?_, hF.mono z1 z2, hS.e.bad⟩
  have i48 : gI σ3 48 = nI S.length := hS.1.2.2.1
  by_cases c : gI σ 11 = 0
  · have ne : S ≠ [] := fun z => h0' z c
    have hl : 0 < S.length := List.length_pos_iff.mpr ne
    rw [lp_en i50 c, a1, Option.bind_some, j, Option.bind_some, if_neg (by rw [i48]; exact nI_ge (a := 0) hl (by omega))]
  · have q : (if (fX5_isSign σ3 41) = 0 then true else (if (gI σ3 48) = 0 then true else false)) = true := by
      by_cases e : S = []
      · by_cases s : fX5_isSign σ3 41 = 0
        · rw [if_pos s]
        · rw [if_neg s, if_pos (by rw [i48, e]; rfl)]
      · rw [if_pos (by rw [(a2.trans a3).sign]; exact hs e)]
    rw [lp_be i50 c (by rw [be_no A w w', if_pos q]), if_pos rfl]
end PUS
