/-! readers: a word or a number is read to its end, both sides -/
def TF (y2 : Bool) (j : Nat) (y3 : Int32) (l : List Nat) (num : Int32) : Prop := (y3 = 0 ∨ y3 = 1) ∧ l.length = min j 7 ∧ (y3 = 1 → ∀ c, c ∈ l → lt8 c = y2 ∧ c < 128) ∧ (y3 = 1 → y2 = false → ∃ k, k < 10 ^ min j 3 ∧ num = nI k)
section PTG
variable {hA h h' : HS} {σ0 σ σ' : MS} {N b rd sz lim P1 sb ar : Nat} {y2 : Bool}
theorem go_eq {n : Nat} {y2 y3 : Int32} : lX6_go_221 N (n + 1) h rd y2 y3 sb = ((oI h rd 5 7 3).bind fun v37 => gT h rd 5 7 (((fX6_byteAt N h rd v37).bind fun r38 => ((if (fX6_isLetter r38) = 0 then ((oI h rd 5 7 3).bind fun v42 => gT h rd 5 7 (((fX6_byteAt N h rd v42).bind fun r43 => (if (fX6_isDigit r43) = 0 then (some false) else (some true))))) else (some true)).bind fun q40 => (if q40 = true then ((if y3 = 0 then (some true) else ((oI h rd 5 7 3).bind fun v48 => gT h rd 5 7 (((fX6_byteAt N h rd v48).bind fun r49 => (if (fX6_isLetter r49) = y2 then (some false) else (some true)))))).bind fun q46 => (if q46 = true then gBd N (fun s => lX6_go_221 N n s rd y2 0 sb) h rd sb else gBd N (fun s => lX6_go_221 N n s rd y2 1 sb) h rd sb)) else (some (h, y3))))))) := by
  rw [lX6_go_221]; rfl
theorem nx_eq {n : Nat} {y2 y3 : Int32} : lX5_next_181 N (n + 1) σ y2 y3 = ((fX5_peek N σ).bind fun r23 => ((if (fX5_isSmall r23) = 0 then ((fX5_peek N σ).bind fun r27 => (if (fX5_isDigit r27) = 0 then (some false) else (some true))) else (some true)).bind fun q25 => (if q25 = true then ((if y3 = 0 then (some true) else ((fX5_peek N σ).bind fun r32 => (if (fX5_isSmall r32) = y2 then (some false) else (some true)))).bind fun q30 => (if q30 = true then mBd N (fun s => lX5_next_181 N n s y2 0) σ else mBd N (fun s => lX5_next_181 N n s y2 1) σ)) else (some (σ, y3))))) := by
  rw [lX5_next_181]; rfl
theorem TF.next {j : Nat} {y3 : Int32} {l : List Nat} {num : Int32} {c : Nat} (hT : TF y2 j y3 l num) (hc : lt8 c = true ∨ dg8 c = true) : TF y2 (j + 1) (if y3 = 0 then 0 else if bI (lt8 c) = bI y2 then 1 else 0) (nxL j l c) (nxN j num c) := by
  obtain ⟨t1, t2, t3, t4⟩ := hT
  have c8 : c < 128 := by
    rcases hc with q | q
    · have := of_decide_eq_true q; omega
    · have := of_decide_eq_true q; omega
  have lb : ∀ y : Bool, bI (lt8 c) = bI y → lt8 c = y := fun y q => by
    cases h1 : lt8 c <;> cases y <;> rw [h1] at q <;> first | rfl | (exact absurd q (by decide))
  refine ⟨?_, ?_, fun q => ?_, fun q y0 => ?_⟩
  · by_cases z : y3 = 0
    · rw [if_pos z]; exact Or.inl rfl
    · rw [if_neg z]
      by_cases y : bI (lt8 c) = bI y2
      · rw [if_pos y]; exact Or.inr rfl
      · rw [if_neg y]; exact Or.inl rfl
  · unfold nxL
    by_cases z : j < 7
    · rw [if_pos z, List.length_append, t2]; show min j 7 + 1 = _; omega
    · rw [if_neg z, t2]; omega
  · have z : ¬ y3 = 0 := fun z => by rw [if_pos z] at q; cases q
    rw [if_neg z] at q
    have y : bI (lt8 c) = bI y2 := by
      by_cases y : bI (lt8 c) = bI y2
      · exact y
      · rw [if_neg y] at q; cases q
    have t3 := t3 (t1.resolve_left z)
    intro x hx
    unfold nxL at hx
    by_cases z7 : j < 7
    · rw [if_pos z7] at hx
      rcases List.mem_append.mp hx with w | w
      · exact t3 x w
      · rw [List.mem_singleton.mp w]; exact ⟨lb y2 y, c8⟩
    · rw [if_neg z7] at hx; exact t3 x hx
  · have z : ¬ y3 = 0 := fun z => by rw [if_pos z] at q; cases q
    rw [if_neg z] at q
    have y : bI (lt8 c) = bI y2 := by
      by_cases y : bI (lt8 c) = bI y2
      · exact y
      · rw [if_neg y] at q; cases q
    obtain ⟨k, k1, k2⟩ := t4 (t1.resolve_left z) y0
    have lc := lb y2 y
    rw [y0] at lc
    have dc : 48 ≤ c ∧ c ≤ 57 := by
      rcases hc with w | w
      · rw [lc] at w; cases w
      · exact of_decide_eq_true w
    unfold nxN
    by_cases z3 : j < 3
    · rw [if_pos z3]
      refine ⟨10 * k + c - 48, ?_, ?_⟩
      · rw [show min (j + 1) 3 = min j 3 + 1 by omega, Nat.pow_succ]; omega
      · rw [k2, show (10 : Int32) * nI k = nI (10 * k) from pl_lm 10 k, nI_add]
        exact pl_sl (n := 48) (by show 48 ≤ 10 * k + c; omega)
    · rw [if_neg z3]
      exact ⟨k, by rw [show min (j + 1) 3 = min j 3 by omega]; exact k1, k2⟩
/-- the whole loop -/
theorem tok_loop (R : RB hA b rd sz lim P1 σ0) (h5 : kI hA rd 5 = nI P1) (ne : rd ≠ b + 1 ∧ sb ≠ b + 1 ∧ ar ≠ b + 1) (nr : rd ≠ sb ∧ rd ≠ ar) : ∀ k j h σ y3 l num fuel, P1 + j + k = sz → k < fuel → LSc hA h rd P1 j sb ar l num → LSm σ0 σ P1 j l num → TF y2 j y3 l num → ∃ j' h' σ' y3' l' num', j ≤ j' ∧ P1 + j' ≤ sz ∧ lX6_go_221 N fuel h rd (bI y2) y3 sb = some (h', y3') ∧ lX5_next_181 N fuel σ (bI y2) y3 = some (σ', y3') ∧ LSc hA h' rd P1 j' sb ar l' num' ∧ LSm σ0 σ' P1 j' l' num' ∧ TF y2 j' y3' l' num' ∧ ((P1 + j < sz ∧ (lt8 (ocN σ0 (P1 + j)) = true ∨ dg8 (ocN σ0 (P1 + j)) = true)) → j < j') := by
  have s940 := R.2.2.1.2.1
  have rl := R.1.2.2.2.2
  have ext : ∀ j h σ y3 l num n, P1 + j ≤ sz → LSc hA h rd P1 j sb ar l num → LSm σ0 σ P1 j l num → (P1 + j < sz → lt8 (ocN σ (P1 + j)) = false ∧ dg8 (ocN σ (P1 + j)) = false) → lX6_go_221 N (n + 1) h rd (bI y2) y3 sb = some (h, y3) ∧ lX5_next_181 N (n + 1) σ (bI y2) y3 = some (σ, y3) := fun j h σ y3 l num n hj L M hn => by
    have R1 := LSc.rb R L M ne hj
    have o3 : oI h rd 5 7 3 = some (nI (P1 + j)) := by rw [rb_o R1, L.1]
    have b1 := (oc_n (σ := σ) (P1 + j)).2
    rw [go_eq, nx_eq, isL5, isD5, mo_peek R1.2.2.2.2.1 M.1 s940 (by omega)]
    simp only [o3, Option.bind_some, rb_g R1, rb_byte R1 (show P1 + j < 2000 by omega)]
    by_cases c : P1 + j < sz
    · obtain ⟨q1, q2⟩ := hn c
      rw [if_pos c, if_pos c, isL b1, isD b1, q1, q2, bI_f, if_pos rfl, if_pos rfl]
      exact ⟨rfl, rfl⟩
    · rw [if_neg c, if_neg c]
      exact ⟨rfl, rfl⟩
  intro k
  induction k with
  | zero =>
    intro j h σ y3 l num fuel hk hf L M T
    obtain ⟨n, rfl⟩ : ∃ n, fuel = n + 1 := ⟨fuel - 1, by omega⟩
    obtain ⟨e1, e2⟩ := ext j h σ y3 l num n (by omega) L M (fun z => by omega)
    exact ⟨j, h, σ, y3, l, num, Nat.le_refl _, by omega, e1, e2, L, M, T, fun z => by omega⟩
  | succ k ih =>
    intro j h σ y3 l num fuel hk hf L M T
    obtain ⟨n, rfl⟩ : ∃ n, fuel = n + 1 := ⟨fuel - 1, by omega⟩
    have cj : P1 + j < sz := by omega
    obtain ⟨c, hc⟩ : ∃ c, ocN σ (P1 + j) = c := ⟨_, rfl⟩
    have oc0 : ocN σ0 (P1 + j) = c := by rw [← hc]; unfold ocN; rw [M.2.2.2.2.2.1]
    have b1 := (oc_n (σ := σ) (P1 + j)).2
    rw [hc] at b1
    by_cases al : lt8 c = true ∨ dg8 c = true
    · have c8 : c < 128 := by
        rcases al with q | q
        · have := of_decide_eq_true q; omega
        · have := of_decide_eq_true q; omega
      have R1 := LSc.rb R L M ne (by omega)
      have o3 : oI h rd 5 7 3 = some (nI (P1 + j)) := by rw [rb_o R1, L.1]
      have bt : fX6_byteAt N h rd (nI (P1 + j)) = some (nI c) := by rw [rb_byte R1 (by omega), if_pos cj, hc]
      have pk : fX5_peek N σ = some (nI c) := by rw [mo_peek R1.2.2.2.2.1 M.1 s940 (by omega), if_pos cj, hc]
      have T' := T.next al
      have h5' : kI h rd 5 = nI P1 := by rw [L.2.2.1 5 (by decide) (by decide)]; exact h5
      have q40 : ((if bI (lt8 c) = 0 then (if bI (dg8 c) = 0 then (some false) else (some true)) else (some true)) : Option Bool) = some true := by
        rcases al with q | q
        · rw [q, bI_t, if_neg (by decide)]
        · cases hl : lt8 c with
          | true => rw [bI_t, if_neg (by decide)]
          | false => rw [bI_f, if_pos rfl, q, bI_t, if_neg (by decide)]
      obtain ⟨f', hf'⟩ : ∃ f' : Int32, f' = if y3 = 0 then 0 else if bI (lt8 c) = bI y2 then 1 else 0 := ⟨_, rfl⟩
      rw [← hf'] at T'
      obtain ⟨h1, g1, g2⟩ := gB_ok (N := N) R1 h5' L T.2.1 hc c8 cj nr rl (fun s => lX6_go_221 N n s rd (bI y2) f' sb)
      obtain ⟨s1, m1, m2⟩ := mB_ok (N := N) M R1.2.2.2.2.1 s940 hc b1 cj (fun s => lX5_next_181 N n s (bI y2) f')
      obtain ⟨j', h', σ', y3', l', num', p1, p2, p3, p4, p5, p6, p7, p8⟩ := ih (j + 1) h1 s1 f' _ _ n (by omega) (by omega) g2 m2 T'
      refine ⟨j', h', σ', y3', l', num', by omega, p2, ?_, ?_, p5, p6, p7, fun _ => by omega⟩
      · rw [← p3, ← g1, go_eq]
        simp only [o3, Option.bind_some, rb_g R1, bt, isL b1, isD b1]
        rw [q40]
        simp only [Option.bind_some, if_true]
        by_cases z : y3 = 0
        · rw [if_pos z] at hf'
          rw [if_pos z, hf']
          simp only [Option.bind_some, if_true]
        · rw [if_neg z] at hf'
          rw [if_neg z]
          by_cases y : bI (lt8 c) = bI y2
          · rw [if_pos y] at hf'
            rw [if_pos y, hf']
            simp only [Option.bind_some, Bool.false_eq_true, if_false]
          · rw [if_neg y] at hf'
            rw [if_neg y, hf']
            simp only [Option.bind_some, if_true]
      · rw [← p4, ← m1, nx_eq, isL5, isD5]
        simp only [pk, Option.bind_some, isL b1, isD b1]
        rw [q40]
        simp only [Option.bind_some, if_true]
        by_cases z : y3 = 0
        · rw [if_pos z] at hf'
          rw [if_pos z, hf']
          simp only [Option.bind_some, if_true]
        · rw [if_neg z] at hf'
          rw [if_neg z]
          by_cases y : bI (lt8 c) = bI y2
          · rw [if_pos y] at hf'
            rw [if_pos y, hf']
            simp only [Option.bind_some, Bool.false_eq_true, if_false]
          · rw [if_neg y] at hf'
            rw [if_neg y, hf']
            simp only [Option.bind_some, if_true]
    · have al1 : lt8 c = false := by cases q : lt8 c with
        | true => exact absurd (Or.inl q) al
        | false => rfl
      have al2 : dg8 c = false := by cases q : dg8 c with
        | true => exact absurd (Or.inr q) al
        | false => rfl
      obtain ⟨e1, e2⟩ := ext j h σ y3 l num n (by omega) L M (fun _ => by rw [hc]; exact ⟨al1, al2⟩)
      exact ⟨j, h, σ, y3, l, num, Nat.le_refl _, by omega, e1, e2, L, M, T, fun z => absurd (by rw [oc0] at z; exact z.2) al⟩
end PTG
