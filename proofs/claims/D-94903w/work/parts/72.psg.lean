/-! the least sign: walks and their costs -/
def wkN (F s : Nat → Nat) (fr c0 : Nat) : Nat → Nat → Nat → Prop
  | 0, v, c => v = fr ∧ c = c0
  | k + 1, v, c => ∃ u c' d, wkN F s fr c0 k u c' ∧ d < 4 ∧ ope F u d = some v ∧ c = c' + s v
def Wk (F s : Nat → Nat) (fr c0 v c : Nat) : Prop := ∃ k, wkN F s fr c0 k v c
def cn (q : Nat → Bool) : Nat → Nat
  | 0 => 0
  | n + 1 => cn q n + if q n = true then 1 else 0
def smN (f : Nat → Nat) : Nat → Nat
  | 0 => 0
  | n + 1 => smN f n + f n
def svB (q : Nat → Bool) (w : Nat) : Nat → Bool := fun i => if i = w then true else q i
section PSG
variable {F s C C' : Nat → Nat} {dn : Nat → Bool} {fr c0 to B at_ d : Nat}
theorem Wk.st : Wk F s fr c0 fr c0 := ⟨0, rfl, rfl⟩
theorem Wk.on {u c d o : Nat} (h : Wk F s fr c0 u c) (hd : d < 4) (e : ope F u d = some o) : Wk F s fr c0 o (c + s o) := by
  obtain ⟨k, hk⟩ := h
  exact ⟨k + 1, u, c, d, hk, hd, e, rfl⟩
theorem Wk.ind {P : Nat → Nat → Prop} (h0 : P fr c0) (hs : ∀ u c d o, P u c → d < 4 → ope F u d = some o → P o (c + s o)) {v c : Nat} (h : Wk F s fr c0 v c) : P v c := by
  obtain ⟨k, hk⟩ := h
  induction k generalizing v c with
  | zero => obtain ⟨rfl, rfl⟩ := hk; exact h0
  | succ k ih =>
    obtain ⟨u, c', d, h1, h2, h3, rfl⟩ := hk
    exact hs u c' d v (ih h1) h2 h3
theorem cn_le (q : Nat → Bool) : ∀ n, cn q n ≤ n
  | 0 => Nat.le_refl _
  | n + 1 => by
    have := cn_le q n
    unfold cn
    by_cases c : q n = true
    · rw [if_pos c]; omega
    · rw [if_neg c]; omega
theorem cn_same {q : Nat → Bool} {w : Nat} : ∀ n, n ≤ w → cn (svB q w) n = cn q n
  | 0, _ => rfl
  | n + 1, h => by
    unfold cn
    rw [cn_same n (by omega), show svB q w n = q n from if_neg (by omega)]
theorem cn_up {q : Nat → Bool} {w : Nat} (hq : q w = false) : ∀ n, w < n → cn (svB q w) n = cn q n + 1
  | 0, h => by omega
  | n + 1, h => by
    unfold cn
    by_cases e : w = n
    · subst e
      rw [cn_same w (Nat.le_refl _), hq]
      unfold svB
      rw [if_pos rfl]; rfl
    · rw [cn_up hq n (by omega)]
      have : svB q w n = q n := by unfold svB; rw [if_neg (by omega)]
      rw [this]; omega
theorem smN_le {f : Nat → Nat} {M : Nat} (h : ∀ i, i < 144 → f i ≤ M) : ∀ n, n ≤ 144 → smN f n ≤ n * M
  | 0, _ => by simp [smN]
  | n + 1, hn => by
    have := smN_le h n (by omega)
    have := h n (by omega)
    unfold smN
    rw [Nat.succ_mul]; omega
theorem smN_same {f : Nat → Nat} {w v : Nat} : ∀ n, n ≤ w → smN (sv f w v) n = smN f n
  | 0, _ => rfl
  | n + 1, h => by
    unfold smN
    rw [smN_same n (by omega)]
    unfold sv
    rw [if_neg (by omega)]
theorem smN_lt {f : Nat → Nat} {w v : Nat} (hv : v < f w) : ∀ n, w < n → smN (sv f w v) n < smN f n
  | 0, h => by omega
  | n + 1, h => by
    unfold smN
    by_cases e : w = n
    · subst e
      rw [smN_same w (Nat.le_refl _)]
      unfold sv
      rw [if_pos rfl]; omega
    · have := smN_lt hv n (by omega)
      have e2 : sv f w v n = f n := by unfold sv; rw [if_neg (by omega)]
      rw [e2]; omega
/-- the Model's costs, sound -/
def MC (F s : Nat → Nat) (fr c0 : Nat) (C : Nat → Nat) : Prop := (∀ t, t < 144 → C t ≤ 1000000000 ∧ (C t = 1000000000 ∨ Wk F s fr c0 t (C t))) ∧ C fr ≤ c0
/-- nothing is to be had by one step more -/
def MF (F s C : Nat → Nat) (t d : Nat) : Prop := C t < 1000000000 → ∀ o, ope F t d = some o → C o ≤ C t + s o
theorem MC.low (k0 : F 0 ≤ 12) (k1 : F 1 ≤ 12) (hf : fr < 144) (h : MC F s fr c0 C) (hE : ∀ t d, t < 144 → d < 4 → MF F s C t d) {v c : Nat} (hw : Wk F s fr c0 v c) : v < 144 ∧ C v ≤ c := by
  refine Wk.ind (P := fun v c => v < 144 ∧ C v ≤ c) ⟨hf, h.2⟩ (fun u c d o hu hd e => ?_) hw
  have ho := tuf_lt k0 k1 (ope_tuf k0 e).1
  refine ⟨ho, ?_⟩
  by_cases q : C u < 1000000000
  · have := hE u d hu.1 hd q o e
    have := hu.2
    omega
  · have := (h.1 o ho).1
    have := hu.2
    omega
/-- the component's costs: what is done is done well; B bounds what is found -/
def DC (F s : Nat → Nat) (fr c0 : Nat) (C : Nat → Nat) (dn : Nat → Bool) (B : Nat) : Prop :=
  (∀ t, t < 144 → C t = 100000000 ∨ (Wk F s fr c0 t (C t) ∧ C t ≤ B)) ∧ C fr ≤ c0 ∧ (∀ v, v < 144 → dn v = true → C v ≤ B) ∧ ∀ v u, v < 144 → u < 144 → dn v = true → dn u = false → C v ≤ C u
def DE (F s C : Nat → Nat) (t d : Nat) : Prop := ∀ o, ope F t d = some o → C o ≤ C t + s o
/-- all that is done was looked at -/
def DA (F s C : Nat → Nat) (dn : Nat → Bool) : Prop := ∀ v d, v < 144 → d < 4 → dn v = true → DE F s C v d
theorem sv_eq {A : Nat → Nat} {w v : Nat} : sv A w v w = v := by unfold sv; rw [if_pos rfl]
theorem sv_ne {A : Nat → Nat} {w v i : Nat} (h : i ≠ w) : sv A w v i = A i := by unfold sv; rw [if_neg h]
/-- one step is looked at -/
theorem DC.step (k0 : F 0 ≤ 12) (k1 : F 1 ≤ 12) (hB : B + 9001 < 100000000) (hs : ∀ t, t < 144 → s t ≤ 9001) {o u : Nat} (hd : d < 4) (hu : u < 144) (du : dn u = true) (uB : C u ≤ B) (um : ∀ v, v < 144 → dn v = true → C v ≤ C u) (h : DC F s fr c0 C dn (B + 9001)) (wu : Wk F s fr c0 u (C u)) (e : ope F u d = some o) (hA : ∀ v d', v < 144 → d' < 4 → dn v = true → (v ≠ u ∨ d' < d) → DE F s C v d') :
    DC F s fr c0 (sv C o (min (C o) (C u + s o))) dn (B + 9001) ∧ (sv C o (min (C o) (C u + s o))) u = C u ∧ (∀ v, v < 144 → dn v = true → sv C o (min (C o) (C u + s o)) v = C v) ∧ ∀ v d', v < 144 → d' < 4 → dn v = true → (v ≠ u ∨ d' < d + 1) → DE F s (sv C o (min (C o) (C u + s o))) v d' := by
  have ho := tuf_lt k0 k1 (ope_tuf k0 e).1
  have so := hs o ho
  obtain ⟨h1, h2, h3, h4⟩ := h
  have keepd : ∀ v, v < 144 → dn v = true → sv C o (min (C o) (C u + s o)) v = C v := fun v hv dv => by
    by_cases q : v = o
    · subst q
      have := um v hv dv
      rw [sv_eq]; omega
    · exact sv_ne q
  have le : ∀ v, sv C o (min (C o) (C u + s o)) v ≤ C v := fun v => by
    by_cases q : v = o
    · subst q; rw [sv_eq]; omega
    · rw [sv_ne q]; omega
  refine ⟨⟨fun t ht => ?_, Nat.le_trans (le fr) h2, fun v hv dv => by rw [keepd v hv dv]; exact h3 v hv dv, fun v w hv hw dv dw => ?_⟩, keepd u hu du, keepd, fun v d' hv hd' dv hq o' eo => ?_⟩
  · by_cases q : t = o
    · subst q
      rw [sv_eq]
      by_cases z : C t ≤ C u + s t
      · rw [Nat.min_eq_left z]; exact h1 t ht
      · rw [Nat.min_eq_right (by omega)]
        exact Or.inr ⟨wu.on hd e, by omega⟩
    · rw [sv_ne q]; exact h1 t ht
  · rw [keepd v hv dv]
    by_cases q : w = o
    · subst q
      rw [sv_eq]
      have := h4 v w hv hw dv dw
      have := um v hv dv
      omega
    · rw [sv_ne q]; exact h4 v w hv hw dv dw
  · rw [keepd v hv dv]
    by_cases q : v ≠ u ∨ d' < d
    · exact Nat.le_trans (le o') (hA v d' hv hd' dv q o' eo)
    · have ev : v = u := by omega
      have ed : d' = d := by omega
      subst ev ed
      rw [e] at eo
      cases eo
      rw [sv_eq]; omega
/-- at the end: the least cost is found -/
theorem DC.low (k0 : F 0 ≤ 12) (k1 : F 1 ≤ 12) (hf : fr < 144) (h : DC F s fr c0 C dn B) (hA : DA F s C dn) (hB : B + 9001 < 100000000) (hend : (∀ t, t < 144 → dn t = false → 100000000 ≤ C t) ∨ (∀ t, t < 144 → dn t = false → C to ≤ C t)) {v c : Nat} (hw : Wk F s fr c0 v c) : v < 144 ∧ (C v ≤ c ∨ C to ≤ c) := by
  refine Wk.ind (P := fun v c => v < 144 ∧ (C v ≤ c ∨ C to ≤ c)) ⟨hf, Or.inl h.2.1⟩ (fun u c d o hu hd e => ?_) hw
  have ho := tuf_lt k0 k1 (ope_tuf k0 e).1
  refine ⟨ho, ?_⟩
  rcases hu.2 with q | q
  · by_cases du : dn u = true
    · have := hA u d hu.1 hd du o e
      exact Or.inl (by omega)
    · have du : dn u = false := by cases hh : dn u with
        | true => exact absurd hh du
        | false => rfl
      rcases hend with z | z
      · have := z u hu.1 du
        rcases h.1 o ho with w | w
        · exact Or.inl (by omega)
        · exact Or.inl (by omega)
      · have := z u hu.1 du
        exact Or.inr (by omega)
  · exact Or.inr (by omega)
/-- no cost was found: there is no walk -/
theorem DC.non (k0 : F 0 ≤ 12) (k1 : F 1 ≤ 12) (hf : fr < 144) (h : DC F s fr c0 C dn B) (hA : DA F s C dn) (hs : ∀ t, t < 144 → s t ≤ 9001) (hc : c0 < 100000000) (hB : B + 9001 < 100000000) (hend : ∀ t, t < 144 → dn t = false → 100000000 ≤ C t) {v c : Nat} (hw : Wk F s fr c0 v c) : v < 144 ∧ dn v = true := by
  refine Wk.ind (P := fun v _ => v < 144 ∧ dn v = true) ⟨hf, ?_⟩ (fun u c d o hu hd e => ?_) hw
  · cases hh : dn fr with
    | true => rfl
    | false =>
      have := hend fr hf hh
      have := h.2.1
      omega
  · have ho := tuf_lt k0 k1 (ope_tuf k0 e).1
    refine ⟨ho, ?_⟩
    cases hh : dn o with
    | true => rfl
    | false =>
      have := hend o ho hh
      have := hA u d hu.1 hd hu.2 o e
      have := h.2.2.1 u hu.1 hu.2
      have := hs o ho
      omega
/-- both ends: the same cost, or none on either side -/
theorem cr_eq {Cm : Nat → Nat} (k0 : F 0 ≤ 12) (k1 : F 1 ≤ 12) (hf : fr < 144) (ht : to < 144) (hs : ∀ t, t < 144 → s t ≤ 9001) (hc : c0 < 100000000) (hM : MC F s fr c0 Cm) (hE : ∀ t d, t < 144 → d < 4 → MF F s Cm t d) (h : DC F s fr c0 C dn B) (hA : DA F s C dn) (hB : B + 9001 < 100000000) (hend : (∀ t, t < 144 → dn t = false → 100000000 ≤ C t) ∨ (C to < 100000000 ∧ ∀ t, t < 144 → dn t = false → C to ≤ C t)) : (C to < 100000000 ∧ Cm to = C to) ∨ (100000000 ≤ C to ∧ 1000000000 ≤ Cm to) := by
  have hend' : (∀ t, t < 144 → dn t = false → 100000000 ≤ C t) ∨ (∀ t, t < 144 → dn t = false → C to ≤ C t) := hend.elim Or.inl fun q => Or.inr q.2
  by_cases q : C to < 100000000
  · left
    refine ⟨q, ?_⟩
    rcases h.1 to ht with w | w
    · omega
    · have a1 := (hM.low k0 k1 hf hE w.1).2
      rcases (hM.1 to ht).2 with z | z
      · omega
      · have a2 := (h.low k0 k1 hf hA hB hend' z).2
        omega
  · right
    refine ⟨by omega, ?_⟩
    rcases hend with z | z
    · rcases (hM.1 to ht).2 with y | y
      · omega
      · have a1 := (h.non k0 k1 hf hA hs hc hB z y).2
        have := h.2.2.1 to ht a1
        omega
    · omega
end PSG
