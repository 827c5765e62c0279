/-! operation: years, whole -/
section PY2
variable {h : HS} {g : Nat → Nat → Int32} {σ : MS} {N b a n : Nat} {F : Nat → Nat}
theorem ls_emp {l : Nat} (hL : LstR h g b l n) (hn : n < 2147483648) : fJ2_isEmpty N (iS h g) l = some (if n = 0 then 1 else 0) := by
  have e := ls_size (N := N) hL
  unfold fJ2_size at e
  unfold fJ2_isEmpty
  cases c : oI (iS h g) l 15 15 2 with
  | none => rw [c] at e; simp only [Option.bind_none] at e; exact absurd e (by simp)
  | some v =>
    rw [c] at e
    simp only [Option.bind_some, Option.some.injEq] at e
    subst e
    simp only [Option.bind_some]
    by_cases z : n = 0
    · subst z; rfl
    · have z2 : ¬ nI n = 0 := fun e => z ((nI_eq (b := 0) hn (by decide)).mp e)
      rw [if_neg z, if_neg z2]
theorem op_years (hN : 200000 ≤ N) : LO_years N b (LR b) := by
  intro n h σ x y z hL
  obtain ⟨F, a, hf⟩ := hL.less.f
  have W := hf.nw
  have k2 : F 2 ≤ 6 := W.mh.1.1.2.2.1
  have k3 : F 3 ≤ 6 := W.mh.1.1.2.2.2.1
  have G := fun {α : Type} (x : Option α) => (fx_g W.1 (kI h) : gT (iS h (kI h)) b 1 1 x = x)
  have R3 := W.r3
  have R4 := W.r4
  have I1 := ru_i W.ru (kI h) (k := 1)
  have H5 := ho_R W.ho (k := 5) (by decide) (by decide)
  have H6 := ho_R W.ho (k := 6) (by decide) (by decide)
  have G5 := fun {α : Type} (x : Option α) => (ls_g (ho_p W.ho) : gT (iS h (kI h)) (rf h a 5) 15 15 x = x)
  have G6 := fun {α : Type} (x : Option α) => (ls_g (ho_w W.ho) : gT (iS h (kI h)) (rf h a 6) 15 15 x = x)
  have E5 := ls_emp (N := N) (ho_p W.ho) (by omega)
  have E6 := ls_emp (N := N) (ho_w W.ho) (by omega)
  simp only [iS_k] at G R3 R4 I1 H5 H6 G5 G6 E5 E6
  obtain ⟨⟨d, d1, d2, d3⟩, -⟩ := id W.rr
  have m9 : rA (sI σ 0 0) 6 429 = some (nI d) := by rw [rA429]; exact congrArg some d2
  have m2 : rA (sI σ 0 0) 6 2 = some (nI (F 2)) := mo_i (i := 2) (W.th 0).mh (by decide)
  have m3 : rA (sI σ 0 0) 6 3 = some (nI (F 3)) := mo_i (i := 3) (W.th 0).mh (by decide)
  have cx : fX5_isIn x 1 60 = fX1_isIn x 1 60 := rfl
  have cy : fX5_isIn y 1 9 = fX1_isIn y 1 9 := rfl
  have bad : ∃ (v : Int32) (h' : HS) (σ' : MS), (some ((-1 : Int32), h)) = some (v, h') ∧ some ((-1 : Int32), sI σ 0 0) = some (v, σ') ∧ LR b n h' σ' := ⟨-1, h, sI σ 0 0, rfl, rfl, hL.less.thrown 0⟩
  unfold fX1_years fX5_years
  simp only [lt_, cx, cy]
  rcases isIn_20 x (m := 60) (by decide) with h1 | ⟨h1, j, j1, j2, rfl⟩
  · have h1 : fX1_isIn x 1 60 = 0 := h1
    simp only [h1, eq_self, if_true]; exact bad
  have h1 : fX1_isIn (nI j) 1 60 = 1 := h1
  simp only [h1, one0, if_false]
  rcases isIn_20 y (m := 9) (by decide) with h2 | ⟨h2, k, q1, q2, rfl⟩
  · have h2 : fX1_isIn y 1 9 = 0 := h2
    simp only [h2, eq_self, if_true]; exact bad
  have h2 : fX1_isIn (nI k) 1 9 = 1 := h2
  simp only [h2, one0, if_false, R3, H5, G5, E5, m2, Option.bind_some]
  by_cases p2 : F 2 = 0
  · have z2 : nI (F 2) = 0 := by rw [p2]; rfl
    simp only [p2, eq_self, if_true, one0, if_false, show nI 0 = (0 : Int32) from rfl]; exact bad
  have z2 : ¬ nI (F 2) = 0 := fun e => p2 ((nI_eq (b := 0) (by omega) (by decide)).mp e)
  simp only [p2, z2, if_false, eq_self, if_true, H6, G6, E6, m3, Option.bind_some]
  by_cases p3 : F 3 = 0
  · have z3 : nI (F 3) = 0 := by rw [p3]; rfl
    simp only [p3, eq_self, if_true, one0, if_false, show nI 0 = (0 : Int32) from rfl]; exact bad
  have z3 : ¬ nI (F 3) = 0 := fun e => p3 ((nI_eq (b := 0) (by omega) (by decide)).mp e)
  simp only [p3, z3, if_false, eq_self, if_true, R4, I1, d3, m9, Option.bind_some, nI_add]
  by_cases c : d + j ≤ 999
  · have c9 : nI (d + j) ≤ 999 := nI_le (b := 999) c (by decide)
    simp only [c9, if_true, G]
    obtain ⟨h', σ', e1, e2, hf', e3, -⟩ := snap hN (hf.th 0)
    have W' := hf'.nw
    rw [e1, e2]
    simp only [Option.bind_some]
    have P := fx_p W'.1 (kI h') (k := 30) (v := z)
    rw [iS_k] at P
    rw [P]
    simp only [Option.bind_some]
    obtain ⟨w1, -, w3⟩ := W'.mh.1.2.2.2.2.2 0 (by omega)
    obtain ⟨t1, t2⟩ := w3 0 (by omega)
    have Y0 : YR b n F a (d + 0) (iS h' (u2 (kI h') b 30 z)) (sI σ' 44 z) := ⟨hf'.seed z z, (u2_eq _ _ _ _).trans (by rw [gI_sI, if_pos rfl]), (congrFun e3 429).trans d2⟩
    obtain ⟨s, s', l1, l2, Y⟩ := yr_all (N := N) (d := d) (k := k) (j := j) hN (by omega) (by omega) (by omega) (by omega) (by omega) c Y0
    have l1 : lX1_years_75 N N (iS h' (u2 (kI h') b 30 z)) b (nI j) (nI k) 0 = some s := l1
    have l2 : lX5_years_73 N N (sI σ' 44 z) (nI j) (nI k) 0 = some s' := l2
    have W2 := Y.1.nw
    have I2 := ru_i W2.ru (kI s) (k := 1)
    rw [iS_k] at I2
    obtain ⟨⟨d', y1, y2, y3⟩, -⟩ := id W2.rr
    have m8 : rA s' 6 429 = some (nI d') := by rw [rA429, y2]
    have R4' : fR s b 1 1 4 = some (b + 8) := W2.r4
    rw [l1, l2]
    simp only [Option.bind_some, R4', I2, y3, m8]
    exact ⟨_, _, _, rfl, rfl, Y.1.lr⟩
  · have c9 : ¬ nI (d + j) ≤ 999 := nI_ge (a := 999) (by omega) (by omega)
    simp only [c9, if_false]
    exact bad
end PY2
