/-! rows of tufts: the search, without any program -/
abbrev QS : Type := (Nat → Option Nat) × (Nat → Nat) × Nat
def qpush (A : QS) (v u : Nat) : QS := if (A.1 v).isSome = true then A else (fun x => if x = v then some u else A.1 x, sv A.2.1 A.2.2 v, A.2.2 + 1)
/-- gone on to, over side d of tuft t -/
def cO (F : Nat → Nat) (cut : Nat → Bool) (flw : Nat → Nat → Bool) (a t d : Nat) : Option Nat := match ope F t d with
  | none => none
  | some o => if cut o = true ∨ o = a ∨ flw t d = true then none else some o
/-- gone back to, against a row -/
def cE (F : Nat → Nat) (flw : Nat → Nat → Bool) (t d : Nat) : Option Nat := match bes F t d with
  | none => none
  | some o => if flw o ((d + 2) % 4) = true then some o else none
def oP (A : QS) (x : Option Nat) (k v : Nat) : QS := match x with
  | none => A
  | some o => qpush A (2 * o + k) v
def pO (F : Nat → Nat) (cut : Nat → Bool) (flw : Nat → Nat → Bool) (a v : Nat) (A : QS) : Nat → QS
  | 0 => A
  | d + 1 => oP (pO F cut flw a v A d) (cO F cut flw a (v / 2) d) 0 v
def pE (F : Nat → Nat) (flw : Nat → Nat → Bool) (v : Nat) (A : QS) : Nat → QS
  | 0 => A
  | d + 1 => oP (pE F flw v A d) (cE F flw (v / 2) d) 1 v
def arc (F : Nat → Nat) (cut : Nat → Bool) (flw : Nat → Nat → Bool) (a u v : Nat) : Prop := (u % 2 = 1 ∧ ∃ d o, d < 4 ∧ cO F cut flw a (u / 2) d = some o ∧ v = 2 * o) ∨ (u / 2 = v / 2 ∧ u ≠ v) ∨ (u % 2 = 0 ∧ ∃ d o, d < 4 ∧ cE F flw (u / 2) d = some o ∧ v = 2 * o + 1)
/-- what is in the queue is sound -/
def VI (F : Nat → Nat) (A : QS) : Prop := A.2.2 = cn (fun v => (A.1 v).isSome) 288 ∧ (∀ j, j < A.2.2 → A.2.1 j < 288 ∧ tuf F (A.2.1 j / 2) ∧ (A.1 (A.2.1 j)).isSome = true) ∧ ∀ v, (A.1 v).isSome = true → v < 288
/-- it was come by from what is ahead of it -/
def RI' (F : Nat → Nat) (cut : Nat → Bool) (flw : Nat → Nat → Bool) (a b : Nat) (A : QS) : Prop := 0 < A.2.2 ∧ A.2.1 0 = 2 * a + 1 ∧ A.1 (2 * a + 1) = some (2 * a + 1) ∧ A.1 (2 * a) = none ∧ A.1 (2 * b) = none ∧ (b ≠ a → A.1 (2 * b + 1) = none) ∧ ∀ j, 0 < j → j < A.2.2 → A.2.1 j ≠ 2 * a + 1 ∧ ∃ k, k < j ∧ A.1 (A.2.1 j) = some (A.2.1 k) ∧ arc F cut flw a (A.2.1 k) (A.2.1 j)
/-- a later queue -/
def ext (A B : QS) : Prop := A.2.2 ≤ B.2.2 ∧ (∀ v, (A.1 v).isSome = true → B.1 v = A.1 v) ∧ ∀ j, j < A.2.2 → B.2.1 j = A.2.1 j
section PSK
variable {F : Nat → Nat} {cut : Nat → Bool} {flw : Nat → Nat → Bool} {a b u v t d o i : Nat} {A B C : QS}
theorem ext.refl : ext A A := ⟨Nat.le_refl _, fun _ _ => rfl, fun _ _ => rfl⟩
theorem ext.trans (h : ext A B) (k : ext B C) : ext A C := ⟨Nat.le_trans h.1 k.1, fun v hv => by rw [k.2.1 v (by rw [h.2.1 v hv]; exact hv)]; exact h.2.1 v hv, fun j hj => by rw [k.2.2 j (by have := h.1; omega)]; exact h.2.2 j hj⟩
theorem qp_y (h : (A.1 v).isSome = true) : qpush A v u = A := if_pos h
theorem qp_n (h : A.1 v = none) : qpush A v u = (fun x => if x = v then some u else A.1 x, sv A.2.1 A.2.2 v, A.2.2 + 1) := if_neg (by rw [h]; decide)
theorem qp_cs (A : QS) (v : Nat) : (A.1 v).isSome = true ∨ A.1 v = none := by
  cases h : A.1 v with
  | none => exact Or.inr rfl
  | some x => exact Or.inl rfl
theorem ext.push : ext A (qpush A v u) := by
  rcases qp_cs A v with h | h
  · rw [qp_y h]; exact ext.refl
  · rw [qp_n h]
    refine ⟨Nat.le_succ _, fun w hw => if_neg (fun q => ?_), fun j hj => sv_ne (by omega)⟩
    rw [q, h] at hw; cases hw
theorem qp_some : ((qpush A v u).1 v).isSome = true := by
  rcases qp_cs A v with h | h
  · rw [qp_y h]; exact h
  · rw [qp_n h]
    show (if v = v then some u else A.1 v).isSome = true
    rw [if_pos rfl]; rfl
theorem qp_ne {w : Nat} (hw : w ≠ v) : (qpush A v u).1 w = A.1 w := by
  rcases qp_cs A v with h | h
  · rw [qp_y h]
  · rw [qp_n h]; exact if_neg hw
theorem ext_oP {x : Option Nat} {k : Nat} : ext A (oP A x k v) := by
  cases x with
  | none => exact ext.refl
  | some o => exact ext.push
theorem ext_pO : ∀ d, ext A (pO F cut flw a v A d)
  | 0 => ext.refl
  | d + 1 => (ext_pO d).trans ext_oP
theorem ext_pE : ∀ d, ext A (pE F flw v A d)
  | 0 => ext.refl
  | d + 1 => (ext_pE d).trans ext_oP
theorem cn_ext {p q : Nat → Bool} : ∀ n, (∀ i, i < n → p i = q i) → cn p n = cn q n
  | 0, _ => rfl
  | n + 1, h => by
    unfold cn
    rw [cn_ext n fun i hi => h i (by omega), h n (by omega)]
/-- there is room for one more -/
theorem VI.room (h : VI F A) (hv : v < 288) (hn : A.1 v = none) : A.2.2 < 288 := by
  have h1 := cn_up (q := fun v => (A.1 v).isSome) (w := v) (by show (A.1 v).isSome = false; rw [hn]; rfl) 288 hv
  have h2 := cn_le (svB (fun v => (A.1 v).isSome) v) 288
  have := h.1
  omega
theorem VI.push (h : VI F A) (hv : v < 288) (ht : tuf F (v / 2)) : VI F (qpush A v u) := by
  rcases qp_cs A v with hs | hs
  · rw [qp_y hs]; exact h
  · rw [qp_n hs]
    obtain ⟨h1, h2, h3⟩ := h
    refine ⟨?_, fun j hj => ?_, fun w hw => ?_⟩
    · show A.2.2 + 1 = cn (fun x => (if x = v then some u else A.1 x).isSome) 288
      have e := cn_up (q := fun v => (A.1 v).isSome) (w := v) (by show (A.1 v).isSome = false; rw [hs]; rfl) 288 hv
      rw [← h1] at e
      rw [← e]
      refine cn_ext 288 fun i _ => ?_
      unfold svB
      by_cases q : i = v
      · rw [if_pos q, if_pos q]; rfl
      · rw [if_neg q, if_neg q]
    · have hj : j < A.2.2 + 1 := hj
      show sv A.2.1 A.2.2 v j < 288 ∧ tuf F (sv A.2.1 A.2.2 v j / 2) ∧ (if sv A.2.1 A.2.2 v j = v then some u else A.1 (sv A.2.1 A.2.2 v j)).isSome = true
      by_cases q : j = A.2.2
      · rw [q, sv_eq, if_pos rfl]; exact ⟨hv, ht, rfl⟩
      · rw [sv_ne q]
        have := h2 j (by omega)
        refine ⟨this.1, this.2.1, ?_⟩
        by_cases z : A.2.1 j = v
        · rw [if_pos z]; rfl
        · rw [if_neg z]; exact this.2.2
    · have hw : (if w = v then some u else A.1 w).isSome = true := hw
      by_cases z : w = v
      · rw [z]; exact hv
      · rw [if_neg z] at hw; exact h3 w hw
theorem RI'.push (h : RI' F cut flw a b A) (hV : VI F A) (hi : i < A.2.2) (hu : A.2.1 i = u) (ha : arc F cut flw a u v) (n1 : v ≠ 2 * a) (n2 : v ≠ 2 * b) (n3 : b ≠ a → v ≠ 2 * b + 1) : RI' F cut flw a b (qpush A v u) := by
  rcases qp_cs A v with hs | hs
  · rw [qp_y hs]; exact h
  · obtain ⟨h1, h2, h3, h4, h5, h6, h7⟩ := h
    have nr : v ≠ 2 * a + 1 := fun q => by rw [q, h3] at hs; cases hs
    rw [qp_n hs]
    refine ⟨Nat.succ_pos _, (sv_ne (by omega)).trans h2, (if_neg fun q => nr q.symm).trans h3, (if_neg fun q => n1 q.symm).trans h4, (if_neg fun q => n2 q.symm).trans h5, fun q => (if_neg fun z => n3 q z.symm).trans (h6 q), fun j j0 hj => ?_⟩
    have hj : j < A.2.2 + 1 := hj
    show sv A.2.1 A.2.2 v j ≠ 2 * a + 1 ∧ ∃ k, k < j ∧ (if sv A.2.1 A.2.2 v j = v then some u else A.1 (sv A.2.1 A.2.2 v j)) = some (sv A.2.1 A.2.2 v k) ∧ arc F cut flw a (sv A.2.1 A.2.2 v k) (sv A.2.1 A.2.2 v j)
    by_cases q : j = A.2.2
    · rw [q, sv_eq, if_pos rfl]
      exact ⟨nr, i, hi, by rw [sv_ne (by omega), hu], by rw [sv_ne (by omega), hu]; exact ha⟩
    · rw [sv_ne q]
      obtain ⟨k1, k, k2, k3, k4⟩ := h7 j j0 (by omega)
      refine ⟨k1, k, k2, ?_, by rw [sv_ne (by omega)]; exact k4⟩
      rw [sv_ne (by omega), if_neg]
      · exact k3
      · intro z
        rw [z, hs] at k3; cases k3
theorem cO_tuf (k0 : F 0 ≤ 12) (h : cO F cut flw a t d = some o) : ope F t d = some o ∧ tuf F o ∧ o ≠ a ∧ flw t d = false := by
  unfold cO at h
  cases e : ope F t d with
  | none => rw [e] at h; cases h
  | some o2 =>
    rw [e] at h
    simp only at h
    by_cases q : cut o2 = true ∨ o2 = a ∨ flw t d = true
    · rw [if_pos q] at h; cases h
    · rw [if_neg q] at h; cases h
      refine ⟨rfl, (ope_tuf k0 e).1, fun z => q (Or.inr (Or.inl z)), ?_⟩
      cases z : flw t d with
      | true => exact absurd (Or.inr (Or.inr z)) q
      | false => rfl
theorem cE_tuf (k0 : F 0 ≤ 12) (h : cE F flw t d = some o) : bes F t d = some o ∧ tuf F o ∧ flw o ((d + 2) % 4) = true := by
  unfold cE at h
  cases e : bes F t d with
  | none => rw [e] at h; cases h
  | some o2 =>
    rw [e] at h
    simp only at h
    by_cases q : flw o2 ((d + 2) % 4) = true
    · rw [if_pos q] at h; cases h
      exact ⟨rfl, bes_tuf k0 e, q⟩
    · rw [if_neg q] at h; cases h
theorem ope_bes (h : ope F t d = some o) : bes F t d = some o := by
  unfold ope at h
  cases e : bes F t d with
  | none => rw [e] at h; cases h
  | some o2 =>
    rw [e] at h
    simp only at h
    by_cases q : F (25 + o2) = 1
    · rw [if_pos q] at h; cases h
    · rw [if_neg q] at h; exact h
/-- beside each other: back again -/
theorem bes_sym (k0 : F 0 ≤ 12) (ht : tuf F t) (hd : d < 4) (h : bes F t d = some o) : bes F o ((d + 2) % 4) = some t := by
  unfold tuf at ht
  have hd4 : d = 0 ∨ d = 1 ∨ d = 2 ∨ d = 3 := by omega
  rcases hd4 with rfl | rfl | rfl | rfl
  · unfold bes at h ⊢
    rw [if_pos rfl] at h
    split at h
    · cases h
      rw [if_neg (by decide), if_neg (by decide), if_pos (by decide), if_pos (by omega)]
      congr 1; omega
    · cases h
  · unfold bes at h ⊢
    rw [if_neg (by decide), if_pos rfl] at h
    split at h
    · cases h
      rw [if_neg (by decide), if_neg (by decide), if_neg (by decide), if_pos (by omega)]
      congr 1
    · cases h
  · unfold bes at h ⊢
    rw [if_neg (by decide), if_neg (by decide), if_pos rfl] at h
    split at h
    · cases h
      rw [if_pos (by decide), if_pos (by omega)]
      congr 1
    · cases h
  · unfold bes at h ⊢
    rw [if_neg (by decide), if_neg (by decide), if_neg (by decide)] at h
    split at h
    · cases h
      rw [if_neg (by decide), if_pos (by decide), if_pos (by omega)]
      congr 1; omega
    · cases h
def dirN (x y : Nat) : Nat := if y + 12 = x then 0 else if y = x + 1 then 1 else if y = x + 12 then 2 else 3
theorem dirN_b (hd : d < 4) (h : bes F t d = some o) : dirN t o = d := by
  have hd4 : d = 0 ∨ d = 1 ∨ d = 2 ∨ d = 3 := by omega
  unfold dirN
  rcases hd4 with rfl | rfl | rfl | rfl
  · unfold bes at h
    rw [if_pos rfl] at h
    split at h
    · cases h; rw [if_pos (by omega)]
    · cases h
  · unfold bes at h
    rw [if_neg (by decide), if_pos rfl] at h
    split at h
    · cases h; rw [if_neg (by omega), if_pos rfl]
    · cases h
  · unfold bes at h
    rw [if_neg (by decide), if_neg (by decide), if_pos rfl] at h
    split at h
    · cases h; rw [if_neg (by omega), if_neg (by omega), if_pos rfl]
    · cases h
  · unfold bes at h
    rw [if_neg (by decide), if_neg (by decide), if_neg (by decide)] at h
    split at h
    · cases h; rw [if_neg (by omega), if_neg (by omega), if_neg (by omega)]
    · cases h
theorem dirN_B (x y : Nat) : dirB x y = nI (dirN x y) := by
  unfold dirB dirN
  by_cases c1 : y + 12 = x
  · rw [if_pos c1, if_pos c1]; rfl
  · rw [if_neg c1, if_neg c1]
    by_cases c2 : y = x + 1
    · rw [if_pos c2, if_pos c2]; rfl
    · rw [if_neg c2, if_neg c2]
      by_cases c3 : y = x + 12
      · rw [if_pos c3, if_pos c3]; rfl
      · rw [if_neg c3, if_neg c3]; rfl
/-- both of what a queue keeps -/
def QI (F : Nat → Nat) (cut : Nat → Bool) (flw : Nat → Nat → Bool) (a b : Nat) (A : QS) : Prop := VI F A ∧ RI' F cut flw a b A
theorem QI.push (h : QI F cut flw a b A) (hv : v < 288) (ht : tuf F (v / 2)) (hi : i < A.2.2) (hu : A.2.1 i = u) (ha : arc F cut flw a u v) (n1 : v ≠ 2 * a) (n2 : v ≠ 2 * b) (n3 : b ≠ a → v ≠ 2 * b + 1) : QI F cut flw a b (qpush A v u) := ⟨h.1.push hv ht, h.2.push h.1 hi hu ha n1 n2 n3⟩
/-- the sides of a tuft that is left: none of them is the end -/
theorem QI_pO (k0 : F 0 ≤ 12) (k1 : F 1 ≤ 12) (h : QI F cut flw a b A) (hi : i < A.2.2) (hu : A.2.1 i = u) (u1 : u % 2 = 1) (D : Nat) : D ≤ 4 → (∀ d, d < D → cO F cut flw a (u / 2) d ≠ some b) → QI F cut flw a b (pO F cut flw a u A D) ∧ i < (pO F cut flw a u A D).2.2 ∧ (pO F cut flw a u A D).2.1 i = u := by
  induction D with
  | zero => intro _ _; exact ⟨h, hi, hu⟩
  | succ D ih =>
    intro hD hn
    obtain ⟨r1, r2, r3⟩ := ih (by omega) fun d hd => hn d (by omega)
    have hx : ext (pO F cut flw a u A D) (pO F cut flw a u A (D + 1)) := ext_oP
    refine ⟨?_, by have := hx.1; omega, by rw [hx.2.2 i r2]; exact r3⟩
    show QI F cut flw a b (oP (pO F cut flw a u A D) (cO F cut flw a (u / 2) D) 0 u)
    cases e : cO F cut flw a (u / 2) D with
    | none => exact r1
    | some o =>
      obtain ⟨q1, q2, q3, q4⟩ := cO_tuf k0 e
      have ho := tuf_lt k0 k1 q2
      have nb : o ≠ b := fun z => hn D (by omega) (by rw [e, z])
      exact r1.push (by omega) (by rw [show (2 * o + 0) / 2 = o by omega]; exact q2) r2 r3 (Or.inl ⟨u1, D, o, by omega, e, rfl⟩) (by omega) (by omega) (fun _ => by omega)
theorem QI_pE (k0 : F 0 ≤ 12) (k1 : F 1 ≤ 12) (fb : b ≠ a → ∀ d, d < 4 → flw b d = false) (h : QI F cut flw a b A) (hi : i < A.2.2) (hu : A.2.1 i = u) (u0 : u % 2 = 0) (D : Nat) : D ≤ 4 → QI F cut flw a b (pE F flw u A D) ∧ i < (pE F flw u A D).2.2 ∧ (pE F flw u A D).2.1 i = u := by
  induction D with
  | zero => intro _; exact ⟨h, hi, hu⟩
  | succ D ih =>
    intro hD
    obtain ⟨r1, r2, r3⟩ := ih (by omega)
    have hx : ext (pE F flw u A D) (pE F flw u A (D + 1)) := ext_oP
    refine ⟨?_, by have := hx.1; omega, by rw [hx.2.2 i r2]; exact r3⟩
    show QI F cut flw a b (oP (pE F flw u A D) (cE F flw (u / 2) D) 1 u)
    cases e : cE F flw (u / 2) D with
    | none => exact r1
    | some o =>
      obtain ⟨q1, q2, q3⟩ := cE_tuf k0 e
      have ho := tuf_lt k0 k1 q2
      refine r1.push (by omega) (by rw [show (2 * o + 1) / 2 = o by omega]; exact q2) r2 r3 (Or.inr (Or.inr ⟨u0, D, o, by omega, e, rfl⟩)) (by omega) (by omega) (fun z q => ?_)
      obtain rfl : o = b := by omega
      rw [fb z _ (Nat.mod_lt _ (by decide))] at q3; cases q3
/-- all that follows of a tuft that is left, or entered -/
def exO (F : Nat → Nat) (cut thr : Nat → Bool) (flw : Nat → Nat → Bool) (a u : Nat) (A : QS) : QS := if thr (u / 2) = true then qpush (pO F cut flw a u A 4) (2 * (u / 2)) u else pO F cut flw a u A 4
def exE (F : Nat → Nat) (thr : Nat → Bool) (flw : Nat → Nat → Bool) (u : Nat) (A : QS) : QS := pE F flw u (if thr (u / 2) = true then A else qpush A (u + 1) u) 4
theorem QI_exO {thr : Nat → Bool} (k0 : F 0 ≤ 12) (k1 : F 1 ≤ 12) (ta : thr a = false) (h : QI F cut flw a b A) (hi : i < A.2.2) (hu : A.2.1 i = u) (u1 : u % 2 = 1) (hn : ∀ d, d < 4 → cO F cut flw a (u / 2) d ≠ some b) : QI F cut flw a b (exO F cut thr flw a u A) := by
  obtain ⟨r1, r2, r3⟩ := QI_pO k0 k1 h hi hu u1 4 (Nat.le_refl _) hn
  unfold exO
  by_cases c : thr (u / 2) = true
  · rw [if_pos c]
    have na : u / 2 ≠ a := fun q => by rw [q, ta] at c; cases c
    obtain ⟨v1, v2, v3⟩ := h.1.2.1 i hi
    rw [hu] at v1 v2 v3
    have nb : u / 2 ≠ b := fun q => by
      by_cases z : b = a
      · exact na (q.trans z)
      · have := h.2.2.2.2.2.2.1 z
        rw [show 2 * b + 1 = u by omega] at this
        rw [this] at v3; cases v3
    exact r1.push (by omega) (by rw [show 2 * (u / 2) / 2 = u / 2 by omega]; exact v2) r2 r3 (Or.inr (Or.inl ⟨by omega, by omega⟩)) (by omega) (by omega) (fun _ => by omega)
  · rw [if_neg c]; exact r1
theorem ext_exO {thr : Nat → Bool} : ext A (exO F cut thr flw a u A) := by
  unfold exO
  by_cases c : thr (u / 2) = true
  · rw [if_pos c]; exact (ext_pO 4).trans ext.push
  · rw [if_neg c]; exact ext_pO 4
theorem QI_exE {thr : Nat → Bool} (k0 : F 0 ≤ 12) (k1 : F 1 ≤ 12) (fb : b ≠ a → ∀ d, d < 4 → flw b d = false) (h : QI F cut flw a b A) (hi : i < A.2.2) (hu : A.2.1 i = u) (u0 : u % 2 = 0) : QI F cut flw a b (exE F thr flw u A) := by
  unfold exE
  by_cases c : thr (u / 2) = true
  · rw [if_pos c]; exact (QI_pE k0 k1 fb h hi hu u0 4 (Nat.le_refl _)).1
  · rw [if_neg c]
    obtain ⟨v1, v2, v3⟩ := h.1.2.1 i hi
    rw [hu] at v1 v2 v3
    have nb : u / 2 ≠ b := fun q => by
      have := h.2.2.2.2.2.1
      rw [show 2 * b = u by omega] at this
      rw [this] at v3; cases v3
    have p := h.push (v := u + 1) (by omega) (by rw [show (u + 1) / 2 = u / 2 by omega]; exact v2) hi hu (Or.inr (Or.inl ⟨by omega, by omega⟩)) (by omega) (by omega) (fun _ => by omega)
    have hx : ext A (qpush A (u + 1) u) := ext.push
    exact (QI_pE (i := i) k0 k1 fb p (by have := hx.1; omega) (by rw [hx.2.2 i hi]; exact hu) u0 4 (Nat.le_refl _)).1
theorem ext_exE {thr : Nat → Bool} : ext A (exE F thr flw u A) := by
  unfold exE
  by_cases c : thr (u / 2) = true
  · rw [if_pos c]; exact ext_pE 4
  · rw [if_neg c]; exact ext.push.trans (ext_pE 4)
/-- only soundness -/
theorem VI_pO (k0 : F 0 ≤ 12) (k1 : F 1 ≤ 12) (h : VI F A) : ∀ D, VI F (pO F cut flw a u A D)
  | 0 => h
  | D + 1 => by
    show VI F (oP (pO F cut flw a u A D) (cO F cut flw a (u / 2) D) 0 u)
    cases e : cO F cut flw a (u / 2) D with
    | none => exact VI_pO k0 k1 h D
    | some o =>
      obtain ⟨q1, q2, q3, q4⟩ := cO_tuf k0 e
      have ho := tuf_lt k0 k1 q2
      exact (VI_pO k0 k1 h D).push (by omega) (by rw [show (2 * o + 0) / 2 = o by omega]; exact q2)
theorem VI_pE (k0 : F 0 ≤ 12) (k1 : F 1 ≤ 12) (h : VI F A) : ∀ D, VI F (pE F flw u A D)
  | 0 => h
  | D + 1 => by
    show VI F (oP (pE F flw u A D) (cE F flw (u / 2) D) 1 u)
    cases e : cE F flw (u / 2) D with
    | none => exact VI_pE k0 k1 h D
    | some o =>
      obtain ⟨q1, q2, q3⟩ := cE_tuf k0 e
      have ho := tuf_lt k0 k1 q2
      exact (VI_pE k0 k1 h D).push (by omega) (by rw [show (2 * o + 1) / 2 = o by omega]; exact q2)
theorem VI_exO {thr : Nat → Bool} (k0 : F 0 ≤ 12) (k1 : F 1 ≤ 12) (h : VI F A) (hu : u < 288) (ht : tuf F (u / 2)) : VI F (exO F cut thr flw a u A) := by
  unfold exO
  by_cases c : thr (u / 2) = true
  · rw [if_pos c]; exact (VI_pO k0 k1 h 4).push (by omega) (by rw [show 2 * (u / 2) / 2 = u / 2 by omega]; exact ht)
  · rw [if_neg c]; exact VI_pO k0 k1 h 4
theorem VI_exE {thr : Nat → Bool} (k0 : F 0 ≤ 12) (k1 : F 1 ≤ 12) (h : VI F A) (hu : u < 288) (u0 : u % 2 = 0) (ht : tuf F (u / 2)) : VI F (exE F thr flw u A) := by
  unfold exE
  by_cases c : thr (u / 2) = true
  · rw [if_pos c]; exact VI_pE k0 k1 h 4
  · rw [if_neg c]; exact VI_pE k0 k1 (h.push (by omega) (by rw [show (u + 1) / 2 = u / 2 by omega]; exact ht)) 4
/-- the beginning of a search -/
def Q0 (a : Nat) : QS := (fun x => if x = 2 * a + 1 then some (2 * a + 1) else none, sv (fun _ => 0) 0 (2 * a + 1), 1)
theorem cn_f0 {q : Nat → Bool} : ∀ n, (∀ i, i < n → q i = false) → cn q n = 0
  | 0, _ => rfl
  | n + 1, h => by unfold cn; rw [cn_f0 n fun i hi => h i (by omega), h n (by omega)]; rfl
theorem QI_0 (k0 : F 0 ≤ 12) (k1 : F 1 ≤ 12) (ha : tuf F a) : QI F cut flw a b (Q0 a) := by
  have hl := tuf_lt k0 k1 ha
  refine ⟨⟨?_, fun j hj => ?_, fun v hv => ?_⟩, Nat.one_pos, (show sv (fun _ => 0) 0 (2 * a + 1) 0 = 2 * a + 1 from sv_eq), if_pos rfl, if_neg (by omega), if_neg (by omega), fun z => if_neg (by omega), fun j j0 hj => ?_⟩
  · show 1 = cn (fun v => (if v = 2 * a + 1 then some (2 * a + 1) else none : Option Nat).isSome) 288
    have e := cn_up (q := fun _ => false) (w := 2 * a + 1) rfl 288 (by omega)
    rw [cn_f0 288 fun _ _ => rfl] at e
    refine e.symm.trans (cn_ext 288 fun i _ => ?_)
    unfold svB
    by_cases q : i = 2 * a + 1
    · rw [if_pos q, if_pos q]; rfl
    · rw [if_neg q, if_neg q]; rfl
  · have hj : j < 1 := hj
    obtain rfl : j = 0 := by omega
    show sv (fun _ => 0) 0 (2 * a + 1) 0 < 288 ∧ tuf F (sv (fun _ => 0) 0 (2 * a + 1) 0 / 2) ∧ (if sv (fun _ => 0) 0 (2 * a + 1) 0 = 2 * a + 1 then some (2 * a + 1) else none : Option Nat).isSome = true
    rw [sv_eq, if_pos rfl, show (2 * a + 1) / 2 = a by omega]
    exact ⟨by omega, ha, rfl⟩
  · have hv : (if v = 2 * a + 1 then some (2 * a + 1) else none : Option Nat).isSome = true := hv
    by_cases q : v = 2 * a + 1
    · omega
    · rw [if_neg q] at hv; cases hv
  · have hj : j < 1 := hj
    omega
end PSK
