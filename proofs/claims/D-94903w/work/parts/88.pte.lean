/-! readers: the tape, and what is skipped -/
def setR (h : HS) (a : Nat) (f : Nat → Int32) : HS := iS h (fun x => if x = a then f else kI h x)
section PTE
variable {h h' : HS} {σ σ' : MS} {N b rd sz lim P : Nat} {f f' : Nat → Int32}
theorem setR_I : kI (setR h rd f) rd = f := by
  show (fun x => if x = rd then f else kI h x) rd = f
  simp
theorem setR_o {x : Nat} (hx : x ≠ rd) : kI (setR h rd f) x = kI h x := by
  show (fun x => if x = rd then f else kI h x) x = kI h x
  simp [hx]
theorem tI_set {k : Nat} {v : Int32} : tI h rd k v = setR h rd (upd (kI h rd) k v) := rfl
theorem setR_set : setR (setR h rd f) rd f' = setR h rd f' := by
  unfold setR
  show iS h _ = iS h _
  congr 1
  funext x
  by_cases c : x = rd
  · simp [c]
  · simp only [if_neg c]
    show (fun x => if x = rd then f else kI h x) x = _
    simp [c]
theorem tI_setR {k : Nat} {v : Int32} : tI (setR h rd f) rd k v = setR h rd (upd f k v) := by rw [tI_set, setR_set, setR_I]
theorem setR_id : setR h rd (kI h rd) = h := by
  unfold setR
  have : (fun x => if x = rd then kI h rd else kI h x) = kI h := by
    funext x
    by_cases c : x = rd
    · simp [c]
    · simp [c]
  rw [this]; rfl
theorem ond.setR : ond (fun q => q = rd) h (setR h rd f) := ⟨Nat.le_refl _, rfl, fun q _ hn => ⟨rfl, rfl, setR_o hn, rfl⟩⟩
/-- a reader at its tape, both sides -/
def RB (h : HS) (b rd sz lim P : Nat) (σ : MS) : Prop := (5 ≤ kT h rd ∧ kT h rd ≤ 7 ∧ kG h 0 ≤ rd ∧ b + 18420 ≤ rd ∧ rd < kZ h) ∧ (kR h rd 0 = some (b + 1) ∧ kT h (b + 1) = 32 ∧ kN h (b + 1) = 940 ∧ ∀ i, i < 940 → kI h (b + 1) i = gA σ 1 i) ∧ (P ≤ sz ∧ sz ≤ 940 ∧ lim ≤ 940) ∧ (kI h rd 1 = nI sz ∧ kI h rd 2 = nI lim ∧ kI h rd 3 = nI P) ∧ gI σ 3 = nI sz ∧ gI σ 5 = nI lim ∧ gI σ 4 = nI P
theorem RB.row (R : RB h b rd sz lim P σ) {P' : Nat} (hP : P' ≤ sz) (e1 : f 1 = kI h rd 1) (e2 : f 2 = kI h rd 2) (e3 : f 3 = nI P') (m1 : gI σ' 3 = gI σ 3) (m2 : gI σ' 5 = gI σ 5) (m3 : gI σ' 4 = nI P') (m4 : gA σ' 1 = gA σ 1) : RB (setR h rd f) b rd sz lim P' σ' := by
  obtain ⟨r1, ⟨r2, r3, r4, r5⟩, r6, ⟨r7, r8, r9⟩, r10, r11, r12⟩ := R
  refine ⟨r1, ⟨r2, r3, r4, fun i hi => ?_⟩, ⟨hP, r6.2⟩, ⟨?_, ?_, ?_⟩, m1.trans r10, m2.trans r11, m3⟩
  · rw [setR_o (by have := r1.2.2.2.1; omega), m4]; exact r5 i hi
  · rw [setR_I, e1]; exact r7
  · rw [setR_I, e2]; exact r8
  · rw [setR_I]; exact e3
theorem rb_o (R : RB h b rd sz lim P σ) {k : Nat} : oI h rd 5 7 k = some (kI h rd k) := oI_n R.1.1 R.1.2.1
theorem rb_p (R : RB h b rd sz lim P σ) {k : Nat} {v : Int32} : pI h rd 5 7 k v = some (tI h rd k v) := pI_n R.1.1 R.1.2.1 R.1.2.2.1
theorem rb_g {α : Type} {x : Option α} (R : RB h b rd sz lim P σ) : gT h rd 5 7 x = x := gT_n R.1.1 R.1.2.1
theorem rb_f (R : RB h b rd sz lim P σ) {k : Nat} : fR h rd 5 7 k = kR h rd k := fR_n R.1.1 R.1.2.1
theorem rb_byte (R : RB h b rd sz lim P σ) {p : Nat} (hp : p < 2000) : fX6_byteAt N h rd (nI p) = some (if p < sz then nI (ocN σ p) else 0) := by
  obtain ⟨-, ⟨r2, r3, r4, r5⟩, ⟨r6, r6', -⟩, ⟨r7, -⟩, -⟩ := id R
  unfold fX6_byteAt
  rw [rb_o R, r7]
  simp only [Option.bind_some]
  by_cases c : p < sz
  · rw [if_neg (nI_ge c (by omega)), if_pos c, rb_f R, r2]
    simp only [Option.bind_some]
    rw [aI_n r3 (by rw [r4]; omega) (by rw [r4]; decide), r5 p (by omega)]
    exact congrArg some (oc_n p).1
  · rw [if_pos (nI_le (by omega) (by omega)), if_neg c]
theorem mo_peek (h3 : gI σ 3 = nI sz) (h4 : gI σ 4 = nI P) (hs : sz ≤ 940) (hP : P < 2000) : fX5_peek N σ = some (if P < sz then nI (ocN σ P) else -1) := by
  unfold fX5_peek
  rw [h3, h4]
  by_cases c : P < sz
  · rw [if_neg (nI_ge c (by omega)), if_pos c, rA_n (by show P < 940; omega) (by decide)]
    exact congrArg some (oc_n P).1
  · rw [if_pos (nI_le (by omega) (by omega)), if_neg c]
theorem sI_sI {k : Nat} {v w : Int32} : sI (sI σ k v) k w = sI σ k w := by
  unfold sI
  simp only [Prod.mk.injEq, and_true]
  funext j
  by_cases c : j = k <;> simp [c]
theorem sI_id {k : Nat} {v : Int32} (hv : gI σ k = v) : sI σ k v = σ := by
  unfold sI
  obtain ⟨a, b⟩ := σ
  simp only [Prod.mk.injEq, and_true]
  funext j
  by_cases c : j = k
  · simp only [c, if_true]; exact hv.symm
  · simp [c]
/-- blanks are skipped -/
theorem ws_both : ∀ k P (h : HS) (σ : MS) fuel, RB h b rd sz lim P σ → P + k = sz → k < fuel → ∃ P', P ≤ P' ∧ P' ≤ sz ∧ lX6_go_0 N fuel h rd = some (tI h rd 3 (nI P')) ∧ lX5_next_0 N fuel σ = some (sI σ 4 (nI P')) ∧ (P' < sz → ocN σ P' ≠ 32 ∧ ocN σ P' ≠ 10) := by
  have ends : ∀ (h : HS) (σ : MS) P n, RB h b rd sz lim P σ → (P < sz → ocN σ P ≠ 32 ∧ ocN σ P ≠ 10) → lX6_go_0 N (n + 1) h rd = some (tI h rd 3 (nI P)) ∧ lX5_next_0 N (n + 1) σ = some (sI σ 4 (nI P)) := fun h σ P n R hc => by
    obtain ⟨-, -, ⟨r6, r6', r6''⟩, ⟨r7, r8, r9⟩, r10, r11, r12⟩ := id R
    have ei : tI h rd 3 (nI P) = h := by
      rw [tI_set]
      have : upd (kI h rd) 3 (nI P) = kI h rd := by
        funext j
        by_cases c : j = 3
        · rw [c, pk_us, r9]
        · rw [pk_un c]
      rw [this, setR_id]
    have em : sI σ 4 (nI P) = σ := sI_id r12
    have pk := mo_peek (N := N) r10 r12 r6' (by omega)
    rw [ei, em]
    constructor
    · rw [lX6_go_0, rb_o R, rb_o R, r9, r7]
      simp only [Option.bind_some]
      by_cases c : P < sz
      · rw [if_neg (nI_ge c (by omega)), rb_g R, rb_byte R (by omega), if_pos c]
        simp only [Option.bind_some, rb_g R]
        have b1 := (oc_n (σ := σ) P).2
        rw [if_neg (show ¬ nI (ocN σ P) = 32 from fun q => (hc c).1 ((nI_eq (b := 32) (by omega) (by decide)).mp q))]
        rw [if_neg (show ¬ nI (ocN σ P) = 10 from fun q => (hc c).2 ((nI_eq (b := 10) (by omega) (by decide)).mp q))]
        simp only [Option.bind_some, Bool.false_eq_true, if_false]
      · rw [if_pos (nI_le (by omega) (by omega))]
    · rw [lX5_next_0, pk]
      simp only [Option.bind_some]
      by_cases c : P < sz
      · have b1 := (oc_n (σ := σ) P).2
        rw [if_pos c, if_neg (show ¬ nI (ocN σ P) = 32 from fun q => (hc c).1 ((nI_eq (b := 32) (by omega) (by decide)).mp q)), if_neg (show ¬ nI (ocN σ P) = 10 from fun q => (hc c).2 ((nI_eq (b := 10) (by omega) (by decide)).mp q))]
        simp only [Option.bind_some, Bool.false_eq_true, if_false]
      · rw [if_neg c, if_neg (by decide), if_neg (by decide)]
        simp only [Option.bind_some, Bool.false_eq_true, if_false]
  intro k
  induction k with
  | zero =>
    intro P h σ fuel R hk hf
    obtain ⟨n, rfl⟩ : ∃ n, fuel = n + 1 := ⟨fuel - 1, by omega⟩
    obtain ⟨e1, e2⟩ := ends h σ P n R (fun z => by omega)
    exact ⟨P, Nat.le_refl _, by omega, e1, e2, fun z => by omega⟩
  | succ k ih =>
    intro P h σ fuel R hk hf
    obtain ⟨n, rfl⟩ : ∃ n, fuel = n + 1 := ⟨fuel - 1, by omega⟩
    by_cases c : ocN σ P ≠ 32 ∧ ocN σ P ≠ 10
    · obtain ⟨e1, e2⟩ := ends h σ P n R (fun _ => c)
      exact ⟨P, Nat.le_refl _, by omega, e1, e2, fun _ => c⟩
    · obtain ⟨-, -, ⟨r6, r6', r6''⟩, ⟨r7, r8, r9⟩, r10, r11, r12⟩ := id R
      have pk := mo_peek (N := N) r10 r12 r6' (by omega)
      have b1 := (oc_n (σ := σ) P).2
      have cP : P < sz := by omega
      have n1 : nI P + 1 = nI (P + 1) := nI_add _ 1
      have R' : RB (tI h rd 3 (nI (P + 1))) b rd sz lim (P + 1) (sI σ 4 (nI (P + 1))) := by
        rw [tI_set]
        exact R.row (by omega) (pk_un (by decide)) (pk_un (by decide)) pk_us rfl rfl rfl rfl
      obtain ⟨P', q1, q2, q3, q4, q5⟩ := ih (P + 1) _ _ n R' (by omega) (by omega)
      refine ⟨P', by omega, q2, ?_, ?_, fun z => by have := q5 z; exact this⟩
      · have e3 : tI (tI h rd 3 (nI (P + 1))) rd 3 (nI P') = tI h rd 3 (nI P') := by
          rw [tI_set (h := h), tI_setR, tI_set (h := h)]
          congr 1
          funext j
          by_cases c : j = 3
          · rw [c, pk_us, pk_us]
          · rw [pk_un c, pk_un c, pk_un c]
        rw [e3] at q3
        rw [← q3]
        conv => lhs; rw [lX6_go_0]
        rw [rb_o R, rb_o R, r9, r7]
        simp only [Option.bind_some]
        rw [if_neg (nI_ge cP (by omega)), rb_g R, rb_byte R (by omega), if_pos cP]
        simp only [Option.bind_some, rb_g R, rb_p R, n1]
        by_cases c2 : ocN σ P = 32
        · rw [if_pos (by rw [c2]; rfl)]
          simp only [Option.bind_some, if_true]
        · have c3 : ocN σ P = 10 := by omega
          rw [if_neg (show ¬ nI (ocN σ P) = 32 from fun q => c2 ((nI_eq (b := 32) (by omega) (by decide)).mp q)), if_pos (by rw [c3]; rfl)]
          simp only [Option.bind_some, if_true]
      · rw [sI_sI] at q4
        rw [← q4]
        conv => lhs; rw [lX5_next_0]
        rw [pk, if_pos cP]
        simp only [Option.bind_some, r12, n1, lt_]
        by_cases c2 : ocN σ P = 32
        · rw [if_pos (by rw [c2]; rfl)]
          simp only [Option.bind_some, if_true]
        · have c3 : ocN σ P = 10 := by omega
          rw [if_neg (show ¬ nI (ocN σ P) = 32 from fun q => c2 ((nI_eq (b := 32) (by omega) (by decide)).mp q)), if_pos (by rw [c3]; rfl)]
          simp only [Option.bind_some, if_true]
end PTE
