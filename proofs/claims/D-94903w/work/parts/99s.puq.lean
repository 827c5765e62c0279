/-! sentences: and() whole -/
/-- and() from S and C -/
def AndC (N : Nat) (h0 : HS) (b rd sz Z W a : Nat) (F : Nat → Nat) (σ0 : MS) (r : Option ((Nat ⊕ Nat) × HS)) (O : Nat) (S : List Nat) (C : List CD3) (h : HS) (σ : MS) : Prop :=
  SFa N h0 Z W σ0 O r σ ∨ ∃ c h' σ' t' O' L k, r = some (.inr c, h') ∧ O < O' ∧ k + 1 ≤ 3 * (O' - O) ∧ (∀ n, lX5_sentence_48 N (n + k) σ 1 = lX5_sentence_48 N n σ' 1) ∧ AndI N h0 b rd sz Z W a F σ0 t' O' S C h' σ' c L ∧ sK rd h h' ∧ fX5_isWord σ' 6385252 = 0
section PUQ
variable {h0 h h' h2 : HS} {σ0 σ σ' σ1 : MS} {N b rd sz Z W a O t n c : Nat} {F : Nat → Nat} {S : List Nat} {C L : List CD3} {rec : HS → Nat → Option ((Nat ⊕ Nat) × HS)}
theorem and_lp (hN : 200000 ≤ N) (m1 : Z + 60 ≤ kG h0 1) (m2 : W + 500 ≤ kG h0 2) (h11 : lastN S 11)
    (hR : ∀ t' O' C' h' σ', SX h0 b rd sz Z W a σ0 t' O' (S ++ [11]) C' false h' σ' → kI h' rd 11 = nI (cn2 (S ++ [11])) → OneC N h0 b rd sz Z W a F σ0 (rec h' rd) O' (S ++ [11]) C' h' σ') :
    ∀ m n t O h σ c L, 20 - O ≤ m → m < n → AndI N h0 b rd sz Z W a F σ0 t O S C h σ c L →
    (∃ fa h', lX13_and_5 N rec n h rd c = some (.inr (.inl fa, h')) ∧ SFw N h0 Z W σ0 O (some (.inl fa, h')) σ) ∨
    ∃ c' h' σ' t' O' L' k, lX13_and_5 N rec n h rd c = some (.inl (h', c')) ∧ O ≤ O' ∧ O' ≤ 20 ∧ k ≤ 3 * (O' - O) ∧ (∀ n, lX5_sentence_48 N (n + k) σ 1 = lX5_sentence_48 N n σ' 1) ∧ AndI N h0 b rd sz Z W a F σ0 t' O' S C h' σ' c' L' ∧ sK rd h h' ∧ fX5_isWord σ' 6385252 = 0 := by
  intro m
  induction m with
  | zero =>
    intro n t O h σ c L hm hn hI
    obtain ⟨n, rfl⟩ : ∃ x, n = x + 1 := ⟨n - 1, by omega⟩
    obtain ⟨Sx, Cx, σ2, σ3, X0, -⟩ := id hI
    obtain ⟨⟨P, R⟩, ⟨T, -, -⟩, -, -, hO, -⟩ := X0
    obtain ⟨v, wc, wd, hv⟩ := is_both (N := N) (w := 6385252) hN R (k := 28) (by decide) (by decide) (by unfold okW; decide) (by decide)
    rcases hv with rfl | ⟨rfl, kd⟩
    · exact Or.inr ⟨c, h, σ, t, O, L, 0, by rw [lX13_and_5, gT_n (by rw [T]; exact Nat.le_refl _) (by rw [T]; exact Nat.le_refl _), wc, Option.bind_some, if_pos rfl], Nat.le_refl _, hO, Nat.zero_le _, fun _ => rfl, hI, sK.refl, wd⟩
    · have k11 : gI σ 11 ≠ 0 := by
        rcases tk_word R.tk with ⟨-, z, -⟩ | ⟨z, -⟩
        · rw [z]; decide
        · exact absurd kd z
      rcases and_st hN m1 m2 h11 hR hI wd wc k11 with ⟨fa, h', e1, e2⟩ | ⟨c', h', σ', t', O', L', k, e1, e2, e3, -⟩
      · exact Or.inl ⟨fa, h', e1 n, e2⟩
      · omega
  | succ m ih =>
    intro n t O h σ c L hm hn hI
    obtain ⟨n, rfl⟩ : ∃ x, n = x + 1 := ⟨n - 1, by omega⟩
    obtain ⟨Sx, Cx, σ2, σ3, X0, -⟩ := id hI
    obtain ⟨⟨P, R⟩, ⟨T, -, -⟩, -, -, hO, -⟩ := X0
    obtain ⟨v, wc, wd, hv⟩ := is_both (N := N) (w := 6385252) hN R (k := 28) (by decide) (by decide) (by unfold okW; decide) (by decide)
    rcases hv with rfl | ⟨rfl, kd⟩
    · exact Or.inr ⟨c, h, σ, t, O, L, 0, by rw [lX13_and_5, gT_n (by rw [T]; exact Nat.le_refl _) (by rw [T]; exact Nat.le_refl _), wc, Option.bind_some, if_pos rfl], Nat.le_refl _, hO, Nat.zero_le _, fun _ => rfl, hI, sK.refl, wd⟩
    · have k11 : gI σ 11 ≠ 0 := by
        rcases tk_word R.tk with ⟨-, z, -⟩ | ⟨z, -⟩
        · rw [z]; decide
        · exact absurd kd z
      rcases and_st hN m1 m2 h11 hR hI wd wc k11 with ⟨fa, h', e1, e2⟩ | ⟨c', h', σ', t', O', L', k, e1, e2, e3, e4, e5, e6, e7⟩
      · exact Or.inl ⟨fa, h', e1 n, e2⟩
      · rcases ih n t' O' h' σ' c' L' (by omega) (by omega) e6 with ⟨fa, h2, f1, f2⟩ | ⟨c2, h2, s2, t2, O2, L2, k2, f1, f2, f3, f4, f5, f6, f7, f8⟩
        · exact Or.inl ⟨fa, h2, by rw [e1, f1], f2.sw (fun _ _ z => z) e4 (by omega) e3 e5⟩
        · exact Or.inr ⟨c2, h2, s2, t2, O2, L2, k2 + k, by rw [e1, f1], by omega, f3, by omega, fun n => by rw [← Nat.add_assoc, e5, f5], f6, e7.trans f7, f8⟩
theorem and_c (hN : 200000 ≤ N) (m1 : Z + 60 ≤ kG h0 1) (m2 : W + 500 ≤ kG h0 2) (h10 : lastN S 10) (h11 : lastN S 11)
    (hR0 : ∀ t' O' C' h' σ', SX h0 b rd sz Z W a σ0 t' O' S C' false h' σ' → kI h' rd 11 = nI (cn2 S) → OneC N h0 b rd sz Z W a F σ0 (rec h' rd) O' S C' h' σ')
    (hR : ∀ t' O' C' h' σ', SX h0 b rd sz Z W a σ0 t' O' (S ++ [11]) C' false h' σ' → kI h' rd 11 = nI (cn2 (S ++ [11])) → OneC N h0 b rd sz Z W a F σ0 (rec h' rd) O' (S ++ [11]) C' h' σ')
    (hX : SX h0 b rd sz Z W a σ0 t O S C false h σ) (w11 : kI h rd 11 = nI (cn2 S)) : AndC N h0 b rd sz Z W a F σ0 (fX13_and N rec h rd) O S C h σ := by
  have T := hX.2.1.1
  unfold fX13_and
  rw [gT_n (by rw [T]; exact Nat.le_refl _) (by rw [T]; exact Nat.le_refl _)]
  rcases hR0 _ _ _ _ _ hX w11 with H | ⟨c, h1, σ1, t1, O1, x, L0, k, y1, y2, y3, y4, y5, y6, y7, y8⟩
  · obtain ⟨fa, h', σ', k, z, z2⟩ := H
    exact Or.inl ⟨fa, h', σ', k, by rw [z]; rfl, z2⟩
  · obtain ⟨-, -, S1, -, o1, -, d2⟩ := id y5
    have d2 : (C ++ L0).length + (S ++ List.replicate x 10).length + 1 ≤ 2 * O1 := d2
    rw [List.length_append (as := S), List.length_replicate] at d2
    obtain ⟨σ2, A⟩ := andp_1 (N := N) (by omega) S1 h10 (by omega)
    have hI : AndI N h0 b rd sz Z W a F σ0 t1 O1 S C h1 σ1 c (L0 ++ List.replicate x (10, 0, 0)) := by
      refine ⟨_, _, σ2, σ2, y5, A, y6, ?_, ?_⟩
      · rw [List.length_append, List.length_replicate]; exact y8
      · simp only [List.length_append, List.length_replicate] at d2 ⊢; omega
    rw [y1, Option.bind_some]
    show AndC N h0 b rd sz Z W a F σ0 (osm (lX13_and_5 N rec N h1 rd c) id fun q8 => some (.inr q8.2, q8.1)) O S C h σ
    rcases and_lp hN m1 m2 h11 hR 20 N t1 O1 h1 σ1 c _ (by omega) (by omega) hI with ⟨fa, h2, f1, f2⟩ | ⟨c2, h2, s2, t2, O2, L2, k2, f1, f2, f3, f4, f5, f6, f7, f8⟩
    · rw [f1]
      exact Or.inl (f2.sa (fun _ _ z => z) y3 (by omega) o1 y4)
    · rw [f1]
      exact Or.inr ⟨c2, h2, s2, t2, O2, L2, k2 + k, rfl, by omega, by omega, fun n => by rw [← Nat.add_assoc, y4, f5], f6, y7.trans f7, f8⟩
end PUQ
