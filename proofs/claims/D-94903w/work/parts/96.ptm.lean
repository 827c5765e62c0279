/-! walks: what is judged -/
abbrev WS : Type := Nat × Int32 × Option Nat × Int32 × Int32 × Option Nat
def wgo (F : Nat → Nat) (d : Nat) : Nat → Option Nat → Option Nat
  | 0, t => t
  | _ + 1, none => none
  | n + 1, some t => wgo F d n (ope F t d)
/-- a line of a walk: d, n, m; i lines were ahead of it -/
def wstep (F : Nat → Nat) (pace i : Nat) (s : WS) (x : Nat × Nat × Nat) : WS := if s.1 ≠ 0 then s else match wgo F x.1 x.2.1 s.2.2.1 with
  | none => (1, nI (i + 1), s.2.2)
  | some t => if pace * x.2.2 < x.2.1 then (2, nI (i + 1), s.2.2) else if (∃ c, s.2.2.2.2.2 = some c ∧ x.1 = (c + 2) % 4) ∧ x.2.2 = 1 then (3, nI (i + 1), s.2.2) else (0, s.2.1, some t, s.2.2.2.1 + nI x.2.1, s.2.2.2.2.1 + nI x.2.2, some x.1)
def wev (F : Nat → Nat) (pace : Nat) (s0 : WS) (ln : Nat → Nat × Nat × Nat) : Nat → WS
  | 0 => s0
  | k + 1 => wstep F pace k (wev F pace s0 ln k) (ln k)
def okL (x : Nat × Nat × Nat) : Prop := x.1 < 4 ∧ 1 ≤ x.2.1 ∧ x.2.1 ≤ 11 ∧ 1 ≤ x.2.2 ∧ x.2.2 ≤ 99
/-- a state of the judging that can be -/
def okS (s : WS) : Prop := (∀ t, s.2.2.1 = some t → t < 144) ∧ (s.1 = 0 → ∃ t, s.2.2.1 = some t) ∧ s.1 ≤ 3 ∧ ∀ c, s.2.2.2.2.2 = some c → c < 4
section PTM
variable {h0 h h' : HS} {σ σ' : MS} {N b rd a : Nat} {F : Nat → Nat} {nm : Nat → Int64} {pace : Nat} {s s0 : WS} {ln ln' : Nat → Nat × Nat × Nat}
theorem wev_ext : ∀ k, (∀ i, i < k → ln i = ln' i) → wev F pace s0 ln k = wev F pace s0 ln' k
  | 0, _ => rfl
  | k + 1, e => by
    unfold wev
    rw [wev_ext k fun i hi => e i (by omega), e k (by omega)]
theorem wgo_lt (k0 : F 0 ≤ 12) (k1 : F 1 ≤ 12) {d : Nat} : ∀ n t u, (∀ x, t = some x → x < 144) → wgo F d n t = some u → u < 144
  | 0, t, u, ht, e => ht u e
  | n + 1, none, u, ht, e => by cases e
  | n + 1, some t, u, ht, e => wgo_lt k0 k1 n _ u (fun x hx => tuf_lt k0 k1 (ope_tuf k0 hx).1) e
theorem wstep_ok (k0 : F 0 ≤ 12) (k1 : F 1 ≤ 12) {i : Nat} {x : Nat × Nat × Nat} (hx : okL x) (hs : okS s) : okS (wstep F pace i s x) := by
  obtain ⟨h1, h2, h3, h4⟩ := hs
  unfold wstep
  by_cases c : s.1 ≠ 0
  · rw [if_pos c]; exact ⟨h1, h2, h3, h4⟩
  · rw [if_neg c]
    cases e : wgo F x.1 x.2.1 s.2.2.1 with
    | none => exact ⟨h1, fun q => absurd q (by show ¬ (1 : Nat) = 0; decide), by show (1 : Nat) ≤ 3; decide, h4⟩
    | some t =>
      simp only []
      by_cases c2 : pace * x.2.2 < x.2.1
      · rw [if_pos c2]; exact ⟨h1, fun q => absurd q (by show ¬ (2 : Nat) = 0; decide), by show (2 : Nat) ≤ 3; decide, h4⟩
      · rw [if_neg c2]
        by_cases c3 : (∃ c, s.2.2.2.2.2 = some c ∧ x.1 = (c + 2) % 4) ∧ x.2.2 = 1
        · rw [if_pos c3]; exact ⟨h1, fun q => absurd q (by show ¬ (3 : Nat) = 0; decide), by show (3 : Nat) ≤ 3; decide, h4⟩
        · rw [if_neg c3]
          exact ⟨fun u hu => by cases hu; exact wgo_lt k0 k1 _ _ _ h1 e, fun _ => ⟨t, rfl⟩, Nat.zero_le _, fun c hc => by cases hc; exact hx.1⟩
/-- the component's fields of the judging -/
def WF (h : HS) (rd k : Nat) (s : WS) : Prop := kI h rd 10 = nI s.1 ∧ kI h rd 11 = s.2.1 ∧ kI h rd 12 = nI k ∧ kI h rd 13 = oN s.2.2.1 ∧ kI h rd 14 = s.2.2.2.1 ∧ kI h rd 15 = s.2.2.2.2.1 ∧ kI h rd 16 = oN s.2.2.2.2.2
theorem co_wgo (hN : 200000 ≤ N) (hT : kT h rd = 6) (h9 : kR h rd 9 = some a) (hC : CstR h (kI h) b) (hH : HouR h (kI h) b a F nm) {d n : Nat} {y1 : Nat} {y4 : Int32} (hd : d < 4) (hn : n ≤ 11) : ∀ k i t fuel, i + k = n → k < fuel → (∀ x, t = some x → x < 144) → lX12_goes_9 N h fuel rd y1 (nI d) (nI n) y4 (oN t) (nI i) = some (oN (wgo F d k t)) := by
  have k0 := hH.1.1.1
  have k1 := hH.1.1.2.1
  intro k
  induction k with
  | zero =>
    intro i t fuel hi hf ht
    obtain ⟨m, rfl⟩ : ∃ m, fuel = m + 1 := ⟨fuel - 1, by omega⟩
    obtain rfl : i = n := by omega
    rw [lX12_goes_9, if_pos (Int32.le_refl _)]; cases t <;> rfl
  | succ k ih =>
    intro i t fuel hi hf ht
    obtain ⟨m, rfl⟩ : ∃ m, fuel = m + 1 := ⟨fuel - 1, by omega⟩
    rw [lX12_goes_9, if_neg (nI_ge (by omega) (by omega))]
    cases t with
    | none => rw [show oN none = (-1 : Int32) from rfl, if_pos rfl]; rfl
    | some u =>
      have hu := ht u rfl
      rw [show oN (some u) = nI u from rfl, if_neg (fun z => (pl_em1 (a := u) (by omega)).mp z), fR_n (Nat.le_of_eq hT.symm) (Nat.le_of_eq hT), h9]
      simp only [Option.bind_some]
      rw [show gT h a 2 2 = gT (iS h (kI h)) a 2 2 from rfl, ho_g hH, show fX2_open N h a (nI u) (nI d) = some (oN (ope F u d)) from ho_ope hC hH hu hd]
      simp only [Option.bind_some, show nI i + 1 = nI (i + 1) from nI_add _ 1]
      exact ih (i + 1) (ope F u d) m (by omega) (by omega) fun x hx => tuf_lt k0 k1 (ope_tuf k0 hx).1
theorem nI_ne {x y : Nat} (hx : x < 2147483648) (hy : y < 2147483648) (n : x ≠ y) : ¬ nI x = nI y := fun z => n ((nI_eq hx hy).mp z)
/-- a line is judged: the component -/
theorem co_wl (hN : 200000 ≤ N) (hT : kT h rd = 6) (hg : kG h 0 ≤ rd) (h9 : kR h rd 9 = some a) (hC : CstR h (kI h) b) (hH : HouR h (kI h) b a F nm) {p k : Nat} (hp : p < F 2) (hpc : F (19 + p) = pace) {x : Nat × Nat × Nat} (hx : okL x) (hk : k < 100) (hs : okS s) (h0 : s.1 = 0) (hW : WF h rd (k + 1) s) : ∃ f, fX12_goes N h rd (le h (rf h a 5) p) (nI x.1) (nI x.2.1) (nI x.2.2) = some (setR h rd f) ∧ WF (setR h rd f) rd (k + 1) (wstep F pace k s x) ∧ ∀ j, j < 10 → f j = kI h rd j := by
  obtain ⟨d, n, m⟩ := x
  obtain ⟨x1, x2, x3, x4, x5⟩ := hx
  obtain ⟨w1, w2, w3, w4, w5, w6, w7⟩ := id hW
  have x1 : d < 4 := x1
  have x2 : 1 ≤ n := x2
  have x3 : n ≤ 11 := x3
  have x4 : 1 ≤ m := x4
  have x5 : m ≤ 99 := x5
  have hpa := (hH.1.2.1 p hp).2.2.2.2
  have e1 : Nat.le 6 (kT h rd) := Nat.le_of_eq hT.symm
  have e2 : kT h rd ≤ 6 := Nat.le_of_eq hT
  have O : ∀ g j, oI (setR h rd g) rd 6 6 j = some (g j) := fun g j => (oI_n (h := setR h rd g) e1 e2).trans (by rw [setR_I])
  have Pw : ∀ g j v, pI (setR h rd g) rd 6 6 j v = some (setR h rd (upd g j v)) := fun g j v => (pI_n (h := setR h rd g) e1 e2 hg).trans (by rw [tI_setR])
  have O0 : ∀ j, oI h rd 6 6 j = some (kI h rd j) := fun j => oI_n e1 e2
  have P0 : ∀ j v, pI h rd 6 6 j v = some (setR h rd (upd (kI h rd) j v)) := fun j v => pI_n e1 e2 hg
  have G0 : ∀ {α : Type} (x : Option α), gT h rd 6 6 x = x := fun x => gT_n e1 e2
  have pc : oI h (le h (rf h a 5) p) 9 9 3 = some (nI (F (19 + p))) := ho_p3 hH hp
  have w1' : kI h rd 10 = 0 := by rw [w1, h0]; rfl
  have gw := co_wgo (N := N) (y1 := le h (rf h a 5) p) (y4 := nI m) hN hT h9 hC hH x1 x3 n 0 s.2.2.1 N (by omega) (by omega) hs.1
  have jd : ∀ w : Nat, 0 < w → w ≤ 3 → ((fX12_judge N h rd (nI w)) = some (setR h rd (upd (upd (kI h rd) 10 (nI w)) 11 (nI (k + 1))))) := fun w _ _ => by
    unfold fX12_judge
    simp only [P0, Option.bind_some, O, Pw]
    rw [pk_un (show (12 : Nat) ≠ 10 by decide), w3]
  have judged : ∀ (w : Nat) (q : Int32), 0 < w → w ≤ 3 → ((fX12_judge N h rd (nI w)).bind fun r50 => ((oI r50 rd 6 6 10).bind fun v51 => (if v51 = 0 then ((pI r50 rd 6 6 13 q).bind fun σ53 => ((oI σ53 rd 6 6 14).bind fun v54 => ((pI σ53 rd 6 6 14 (v54 + nI n)).bind fun σ55 => ((oI σ55 rd 6 6 15).bind fun v56 => ((pI σ55 rd 6 6 15 (v56 + nI m)).bind fun σ57 => ((pI σ57 rd 6 6 16 (nI d)).bind fun σ58 => some σ58)))))) else (some r50)))) = some (setR h rd (upd (upd (kI h rd) 10 (nI w)) 11 (nI (k + 1)))) := fun w q w1 w2 => by
    rw [jd w w1 w2]
    simp only [Option.bind_some, O]
    rw [pk_un (show (10 : Nat) ≠ 11 by decide), pk_us, if_neg (show ¬ nI w = 0 from fun z => by have := (nI_eq (b := 0) (by omega) (by decide)).mp z; omega)]
  have wf3 : ∀ w : Nat, WF (setR h rd (upd (upd (kI h rd) 10 (nI w)) 11 (nI (k + 1)))) rd (k + 1) (w, nI (k + 1), s.2.2) := fun w => by
    unfold WF
    rw [setR_I]
    refine ⟨?_, ?_, ?_, ?_, ?_, ?_, ?_⟩
    · rw [pk_un (by decide), pk_us]
    · rw [pk_us]
    · rw [pk_un (by decide), pk_un (by decide)]; exact w3
    · rw [pk_un (by decide), pk_un (by decide)]; exact w4
    · rw [pk_un (by decide), pk_un (by decide)]; exact w5
    · rw [pk_un (by decide), pk_un (by decide)]; exact w6
    · rw [pk_un (by decide), pk_un (by decide)]; exact w7
  have fr3 : ∀ w : Nat, ∀ j, j < 10 → upd (upd (kI h rd) 10 (nI w)) 11 (nI (k + 1)) j = kI h rd j := fun w j hj => by rw [pk_un (by omega), pk_un (by omega)]
  have rest : ∀ q : Int32, ((pI h rd 6 6 13 q).bind fun σ17 => ((oI σ17 rd 6 6 14).bind fun v18 => ((pI σ17 rd 6 6 14 (v18 + nI n)).bind fun σ19 => ((oI σ19 rd 6 6 15).bind fun v20 => ((pI σ19 rd 6 6 15 (v20 + nI m)).bind fun σ21 => ((pI σ21 rd 6 6 16 (nI d)).bind fun σ22 => some σ22)))))) = some (setR h rd (upd (upd (upd (upd (kI h rd) 13 q) 14 (s.2.2.2.1 + nI n)) 15 (s.2.2.2.2.1 + nI m)) 16 (nI d))) := fun q => by
    simp only [P0, Option.bind_some, O, Pw]
    rw [pk_un (show (14 : Nat) ≠ 13 by decide), w5]
    rw [pk_un (show (15 : Nat) ≠ 14 by decide), pk_un (show (15 : Nat) ≠ 13 by decide), w6]
  unfold fX12_goes
  rw [O0, w4]
  simp only [Option.bind_some]
  rw [show lX12_goes_9 N h N rd (le h (rf h a 5) p) (nI d) (nI n) (nI m) (oN s.2.2.1) 0 = some (oN (wgo F d n s.2.2.1)) from gw]
  simp only [Option.bind_some]
  unfold wstep
  rw [if_neg (show ¬ s.1 ≠ 0 from fun q => q h0)]
  cases e : wgo F d n s.2.2.1 with
  | none =>
    rw [show oN none = (-1 : Int32) from rfl, if_pos rfl, G0]
    refine ⟨_, judged 1 (-1) (by decide) (by decide), ?_, fr3 1⟩
    exact wf3 1
  | some t =>
    have ht := wgo_lt hH.1.1.1 hH.1.1.2.1 n s.2.2.1 t hs.1 e
    rw [show oN (some t) = nI t from rfl, if_neg (fun z => (pl_em1 (a := t) (by omega)).mp z), pc]
    simp only [Option.bind_some, hpc]
    rw [pk_mul]
    by_cases c2 : pace * m < n
    · rw [if_neg (nI_ge c2 (by omega)), if_pos c2, G0]
      exact ⟨_, judged 2 (nI t) (by decide) (by decide), wf3 2, fr3 2⟩
    · rw [if_pos (nI_le (by omega) (by rw [← hpc]; have : F (19 + p) * m ≤ 9 * 99 := Nat.mul_le_mul hpa x5; omega)), if_neg c2]
      simp only [O0, w7, Option.bind_some, w1', if_true, G0]
      have fin : ∃ f, some (setR h rd (upd (upd (upd (upd (kI h rd) 13 (nI t)) 14 (s.2.2.2.1 + nI n)) 15 (s.2.2.2.2.1 + nI m)) 16 (nI d))) = some (setR h rd f) ∧ WF (setR h rd f) rd (k + 1) (0, s.2.1, some t, s.2.2.2.1 + nI n, s.2.2.2.2.1 + nI m, some d) ∧ ∀ j, j < 10 → f j = kI h rd j := by
        refine ⟨_, rfl, ?_, fun j hj => by rw [pk_un (by omega), pk_un (by omega), pk_un (by omega), pk_un (by omega)]⟩
        unfold WF
        rw [setR_I]
        refine ⟨?_, ?_, ?_, ?_, ?_, ?_, ?_⟩
        · rw [pk_un (by decide), pk_un (by decide), pk_un (by decide), pk_un (by decide)]; exact w1'
        · rw [pk_un (by decide), pk_un (by decide), pk_un (by decide), pk_un (by decide)]; exact w2
        · rw [pk_un (by decide), pk_un (by decide), pk_un (by decide), pk_un (by decide)]; exact w3
        · rw [pk_un (by decide), pk_un (by decide), pk_un (by decide), pk_us]; rfl
        · rw [pk_un (by decide), pk_un (by decide), pk_us]
        · rw [pk_un (by decide), pk_us]
        · rw [pk_us]; rfl
      cases ec : s.2.2.2.2.2 with
      | none =>
        rw [show oN none = (-1 : Int32) from rfl, if_pos rfl]
        simp only [Option.bind_some, if_true]
        rw [rest, if_neg (by rintro ⟨⟨c, q, -⟩, -⟩; cases q)]
        exact fin
      | some c =>
        have c4 := hs.2.2.2 c ec
        rw [show oN (some c) = nI c from rfl, if_neg (fun z => (pl_em1 (a := c) (by omega)).mp z), show nI c + 2 = nI (c + 2) from nI_add _ 2, show irm (nI (c + 2)) 4 = nI ((c + 2) % 4) from pl_irm (n := 4) (by omega) (by decide) (by decide)]
        by_cases cd : d = (c + 2) % 4
        · rw [if_pos (by rw [cd])]
          simp only [Option.bind_some, Bool.false_eq_true, if_false]
          by_cases cm : m = 1
          · rw [if_pos (show nI m = 1 by rw [cm]; rfl), if_pos ⟨⟨c, rfl, cd⟩, cm⟩]
            exact ⟨_, judged 3 (nI t) (by decide) (by decide), wf3 3, fr3 3⟩
          · rw [if_neg (show ¬ nI m = 1 from fun z => cm ((nI_eq (b := 1) (by omega) (by decide)).mp z)), rest, if_neg (fun z => cm z.2)]
            exact fin
        · rw [if_neg (nI_ne (by omega) (by omega) cd)]
          simp only [Option.bind_some, if_true]
          rw [rest, if_neg]
          · exact fin
          · rintro ⟨⟨c', q1, q2⟩, -⟩
            cases q1
            exact cd q2
end PTM
