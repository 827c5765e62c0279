/-! the least sign: the Model's rounds -/
section PSI
variable {h : HS} {g0 g : Nat → Nat → Int32} {σ : MS} {N b a n : Nat} {F : Nat → Nat} {nm : Nat → Int64} {C CS : Nat → Nat} {f fS : Nat → Int32} {p fr c0 : Nat}
def repC (f : Nat → Int32) (C : Nat → Nat) : Prop := ∀ t, t < 144 → f t = nI (C t)
theorem repC.sv (hr : repC f C) {o v : Nat} : repC (upd f o (nI v)) (sv C o v) := fun t ht => by
  by_cases e : t = o
  · rw [e, pk_us, sv_eq]
  · rw [pk_un e, sv_ne e]; exact hr t ht
theorem r30 (hr : repC f C) {t : Nat} (ht : t < 144) : rA (aS σ 30 f) 30 (nI t) = some (nI (C t)) := (rA30 ht).trans (by rw [gA_same, hr t ht])
theorem mo_120s (hM : MH (gA σ 6) F) (hp : p < F 2) (hr : repC f C) (hm : MC F (stN (gA σ 6) F p) fr c0 C) {t d m : Nat} {y3 y4 : Int32} (ht : t < 144) (hd : d < 4) (hc : C t < 1000000000) :
    (∃ o, o < 144 ∧ ope F t d = some o ∧ C t + stN (gA σ 6) F p o < C o ∧ lX5_crosses_120 N (m + 1) (aS σ 30 f) (nI p) y3 y4 (nI t) (nI d) = lX5_crosses_120 N m (aS σ 30 (upd f o (nI (C t + stN (gA σ 6) F p o)))) (nI p) y3 1 (nI t) (nI (d + 1))) ∨
    ((∀ o, ope F t d = some o → C o ≤ C t + stN (gA σ 6) F p o) ∧ lX5_crosses_120 N (m + 1) (aS σ 30 f) (nI p) y3 y4 (nI t) (nI d) = lX5_crosses_120 N m (aS σ 30 f) (nI p) y3 y4 (nI t) (nI (d + 1))) := by
  have k0 := hM.1.1.1
  have k1 := hM.1.1.2.1
  have hMa : MH (gA (aS σ 30 f) 6) F := by rw [gA_o (by decide)]; exact hM
  have l1 : ¬ (4 : Int32) ≤ nI d := nI_ge (b := 4) hd (by decide)
  have n1 : nI d + 1 = nI (d + 1) := nI_add _ 1
  have be := mo_bes (N := N) (hMa.2 0 (by decide)) (hMa.2 1 (by decide)) k0 k1 ht hd
  rw [lX5_crosses_120, if_neg l1, r30 hr ht]
  simp (disch := omega) only [Option.bind_some, pl_lef1, if_false, be, n1]
  cases e : bes F t d with
  | none =>
    right
    refine ⟨fun o eo => ?_, by rw [show oN none = (-1 : Int32) from rfl, if_pos (by decide)]⟩
    unfold ope at eo
    rw [e] at eo; cases eo
  | some o =>
    have ho := tuf_lt k0 k1 (bes_tuf k0 e)
    have rw1 : rA (aS σ 30 f) 6 (25 + nI o) = some (nI (F (25 + o))) := by rw [pl_la]; exact mo_i hMa (by show 25 + o < 429; omega)
    have wl := hM.1.2.2.2.1 o ho
    rw [show oN (some o) = nI o from rfl, if_neg (nI_pos (by omega)), rw1]
    simp only [Option.bind_some]
    by_cases w1 : F (25 + o) = 1
    · right
      refine ⟨fun o' eo => ?_, by rw [w1, if_pos (show nI 1 = 1 from rfl)]⟩
      unfold ope at eo
      rw [e] at eo
      simp only [w1, if_true] at eo
      cases eo
    · have eo : ope F t d = some o := by
        unfold ope
        rw [e]
        simp only [if_neg w1]
      have sl := sgN_le (f := gA σ 6) (t := o) hM.1 hp
      have sg : fX5_signOf N (aS σ 30 f) (nI p) (nI o) = some (nI (sgN (gA σ 6) F p o)) := (mo_sign hMa hp ho).trans (by rw [gA_o (by decide)])
      have ev : nI (C t) + 1000 * nI (sgN (gA σ 6) F p o) + 1 = nI (C t + stN (gA σ 6) F p o) := by
        rw [show (1000 : Int32) * nI (sgN (gA σ 6) F p o) = nI (1000 * sgN (gA σ 6) F p o) from pl_lm 1000 _, nI_add, show nI (C t + 1000 * sgN (gA σ 6) F p o) + 1 = nI (C t + 1000 * sgN (gA σ 6) F p o + 1) from nI_add _ 1]; rfl
      have z : ¬ nI (F (25 + o)) = 1 := fun q => w1 ((nI_eq (b := 1) (by omega) (by decide)).mp q)
      have wr : wA (aS σ 30 f) 30 (nI o) (nI (C t + stN (gA σ 6) F p o)) = some (aS σ 30 (upd f o (nI (C t + stN (gA σ 6) F p o)))) := (wA30 ho).trans (by rw [sA_6])
      have sb := stN_le (f := gA σ 6) (t := o) hM.1 hp
      have cb := (hm.1 o ho).1
      rw [if_neg z, sg]
      simp only [Option.bind_some, lt_, ev, r30 hr ho, wr]
      by_cases q : C t + stN (gA σ 6) F p o < C o
      · left
        exact ⟨o, ho, eo, q, by rw [if_pos (nI_lt q (by omega))]⟩
      · right
        refine ⟨fun o' eo' => ?_, by rw [if_neg (nI_nlt (by omega) (by omega))]⟩
        rw [eo] at eo'
        cases eo'
        omega
theorem MC.sv (hm : MC F (stN f F p) fr c0 C) {t o d : Nat} (ht : t < 144) (hd : d < 4) (hc : C t < 1000000000) (e : ope F t d = some o) (q : C t + stN f F p o < C o) : MC F (stN f F p) fr c0 (sv C o (C t + stN f F p o)) := by
  refine ⟨fun u hu => ?_, ?_⟩
  · by_cases z : u = o
    · subst z
      rw [sv_eq]
      have := (hm.1 u hu).1
      exact ⟨by omega, Or.inr (((hm.1 t ht).2.resolve_left (by omega)).on hd e)⟩
    · rw [sv_ne z]; exact hm.1 u hu
  · by_cases z : fr = o
    · rw [← z] at q ⊢
      rw [sv_eq]
      have := hm.2
      omega
    · rw [sv_ne z]; exact hm.2
/-- within a round: nothing was lessened yet, or the sum is less -/
def MPr (σ : MS) (F s : Nat → Nat) (fr c0 : Nat) (fS : Nat → Int32) (CS : Nat → Nat) (R : Nat → Nat → Prop) (x : MS) (y : Int32) : Prop := (y = 0 ∧ x = aS σ 30 fS ∧ ∀ t d, t < 144 → d < 4 → R t d → MF F s CS t d) ∨ (y = 1 ∧ ∃ f C, x = aS σ 30 f ∧ repC f C ∧ MC F s fr c0 C ∧ smN C 144 < smN CS 144)
theorem MPr.st {R : Nat → Nat → Prop} {x : MS} {y : Int32} {s : Nat → Nat} (hS : repC fS CS) (mS : MC F s fr c0 CS) (h : MPr σ F s fr c0 fS CS R x y) : ∃ f C, x = aS σ 30 f ∧ repC f C ∧ MC F s fr c0 C ∧ smN C 144 ≤ smN CS 144 ∧ (y = 0 → C = CS) := by
  rcases h with ⟨h1, h2, -⟩ | ⟨h1, f, C, h2, h3, h4, h5⟩
  · exact ⟨fS, CS, h2, hS, mS, Nat.le_refl _, fun _ => rfl⟩
  · exact ⟨f, C, h2, h3, h4, by omega, fun q => by rw [h1] at q; cases q⟩
theorem MPr.up {R R' : Nat → Nat → Prop} {x : MS} {y : Int32} {s : Nat → Nat} (h : MPr σ F s fr c0 fS CS R x y) (hR : y = 0 → ∀ t d, t < 144 → d < 4 → R' t d → R t d ∨ MF F s CS t d) : MPr σ F s fr c0 fS CS R' x y := by
  rcases h with ⟨h1, h2, h3⟩ | h
  · exact Or.inl ⟨h1, h2, fun t d ht hd hr => (hR h1 t d ht hd hr).elim (h3 t d ht hd) id⟩
  · exact Or.inr h
theorem mo_120 (hN : 200000 ≤ N) (hM : MH (gA σ 6) F) (hp : p < F 2) (hS : repC fS CS) (mS : MC F (stN (gA σ 6) F p) fr c0 CS) {t : Nat} {y3 y4 : Int32} {x : MS} (ht : t < 144) (hP : MPr σ F (stN (gA σ 6) F p) fr c0 fS CS (fun t' _ => t' < t) x y4) : ∃ x' y', lX5_crosses_120 N N x (nI p) y3 y4 (nI t) 0 = some (x', y') ∧ MPr σ F (stN (gA σ 6) F p) fr c0 fS CS (fun t' _ => t' < t + 1) x' y' := by
  have key : okk (lX5_crosses_120 N N x (nI p) y3 y4 (nI t) (nI 0)) (fun r => MPr σ F (stN (gA σ 6) F p) fr c0 fS CS (fun t' _ => t' < t + 1) r.1 r.2) := by
    refine okf (fun m (s : MS × Int32) i => lX5_crosses_120 N m s.1 (nI p) y3 s.2 (nI t) i) 4 (fun d s => MPr σ F (stN (gA σ 6) F p) fr c0 fS CS (fun t' d' => t' < t ∨ (t' = t ∧ d' < d)) s.1 s.2) _ ?_ ?_ 0 (x, y4) N (by omega) (by omega) (hP.up fun _ t' d' _ _ hr => Or.inl (by omega))
    · rintro d ⟨x, y⟩ m hd hP
      obtain ⟨f, C, rfl, hr, hm, hs, h0⟩ := hP.st hS mS
      show okk (lX5_crosses_120 N (m + 1) (aS σ 30 f) (nI p) y3 y (nI t) (nI d)) _ ∨ _
      by_cases hc : C t < 1000000000
      · right
        rcases mo_120s (N := N) (m := m) (y3 := y3) (y4 := y) hM hp hr hm ht hd hc with ⟨o, ho, eo, q, e⟩ | ⟨q, e⟩
        · exact ⟨(_, 1), Or.inr ⟨rfl, _, _, rfl, hr.sv, hm.sv ht hd hc eo q, Nat.lt_of_lt_of_le (smN_lt q 144 ho) hs⟩, e⟩
        · refine ⟨(aS σ 30 f, y), hP.up fun y0 t' d' _ _ hr => ?_, e⟩
          have hr : t' < t ∨ (t' = t ∧ d' < d + 1) := hr
          by_cases z : t' < t ∨ (t' = t ∧ d' < d)
          · exact Or.inl z
          · right
            obtain rfl : t' = t := by omega
            obtain rfl : d' = d := by omega
            have := h0 y0
            subst this
            exact fun _ => q
      · left
        have l1 : ¬ (4 : Int32) ≤ nI d := nI_ge (b := 4) hd (by decide)
        have hb := (hm.1 t ht).1
        refine ⟨(aS σ 30 f, y), ?_, hP.up fun y0 t' d' _ _ hr => ?_⟩
        · rw [lX5_crosses_120, if_neg l1, r30 hr ht]
          simp (disch := omega) only [Option.bind_some, pl_let1, if_true]
        · have hr : t' < t + 1 := hr
          by_cases z : t' < t
          · exact Or.inl (Or.inl z)
          · right
            obtain rfl : t' = t := by omega
            have := h0 y0
            subst this
            exact fun q => absurd q hc
    · rintro ⟨x, y⟩ m hP
      exact ⟨(x, y), by rw [lX5_crosses_120, if_pos (by decide)], hP.up fun _ t' d' _ hd' hr => Or.inl (by have hr : t' < t + 1 := hr; show t' < t ∨ (t' = t ∧ d' < 4); omega)⟩
  obtain ⟨⟨x', y'⟩, e1, e2⟩ := key
  exact ⟨x', y', e1, e2⟩
theorem mo_109 (hN : 200000 ≤ N) (hM : MH (gA σ 6) F) (hp : p < F 2) (hS : repC fS CS) (mS : MC F (stN (gA σ 6) F p) fr c0 CS) {y3 : Int32} : ∃ x' y', lX5_crosses_109 N N (aS σ 30 fS) (nI p) y3 0 0 = some (x', y') ∧ MPr σ F (stN (gA σ 6) F p) fr c0 fS CS (fun _ _ => True) x' y' := by
  have key : okk (lX5_crosses_109 N N (aS σ 30 fS) (nI p) y3 0 (nI 0)) (fun r => MPr σ F (stN (gA σ 6) F p) fr c0 fS CS (fun _ _ => True) r.1 r.2) := by
    refine okf (fun m (s : MS × Int32) i => lX5_crosses_109 N m s.1 (nI p) y3 s.2 i) 144 (fun t s => MPr σ F (stN (gA σ 6) F p) fr c0 fS CS (fun t' _ => t' < t) s.1 s.2) _ ?_ ?_ 0 (aS σ 30 fS, 0) N (by omega) (by omega) (Or.inl ⟨rfl, rfl, fun t d _ _ hr => absurd hr (Nat.not_lt_zero _)⟩)
    · rintro t ⟨x, y⟩ m ht hP
      right
      obtain ⟨x', y', e1, e2⟩ := mo_120 (N := N) (y3 := y3) hN hM hp hS mS ht hP
      refine ⟨(x', y'), e2, ?_⟩
      show lX5_crosses_109 N (m + 1) x (nI p) y3 y (nI t) = lX5_crosses_109 N m x' (nI p) y3 y' (nI (t + 1))
      rw [lX5_crosses_109, if_neg (show ¬ (144 : Int32) ≤ nI t from nI_ge (b := 144) ht (by decide)), e1]
      simp only [Option.bind_some, show nI t + 1 = nI (t + 1) from nI_add _ 1]
    · rintro ⟨x, y⟩ m hP
      exact ⟨(x, y), by rw [lX5_crosses_109, if_pos (by decide)], hP.up fun _ t' d' ht' _ _ => Or.inl ht'⟩
  obtain ⟨⟨x', y'⟩, e1, e2⟩ := key
  exact ⟨x', y', e1, e2⟩
theorem mo_98 (hN : 1000000000000 ≤ N) (hM : MH (gA σ 6) F) (hp : p < F 2) (hr : repC f C) (hm : MC F (stN (gA σ 6) F p) fr c0 C) {y3 : Int32} : ∃ f' C', lX5_crosses_98 N N (aS σ 30 f) (nI p) y3 1 = some (aS σ 30 f') ∧ repC f' C' ∧ MC F (stN (gA σ 6) F p) fr c0 C' ∧ ∀ t d, t < 144 → d < 4 → MF F (stN (gA σ 6) F p) C' t d := by
  have key : okk (lX5_crosses_98 N N (aS σ 30 f) (nI p) y3 1) (fun x => ∃ f' C', x = aS σ 30 f' ∧ repC f' C' ∧ MC F (stN (gA σ 6) F p) fr c0 C' ∧ ∀ t d, t < 144 → d < 4 → MF F (stN (gA σ 6) F p) C' t d) := by
    refine okl (fun m (s : MS × Int32) => lX5_crosses_98 N m s.1 (nI p) y3 s.2) (fun k s => ∃ f C, s.1 = aS σ 30 f ∧ repC f C ∧ MC F (stN (gA σ 6) F p) fr c0 C ∧ ((s.2 = 0 ∧ ∀ t d, t < 144 → d < 4 → MF F (stN (gA σ 6) F p) C t d) ∨ (s.2 = 1 ∧ k = 1 + smN C 144))) _ ?_ (1 + smN C 144) (aS σ 30 f, 1) N ?_ ⟨f, C, rfl, hr, hm, Or.inr ⟨rfl, rfl⟩⟩
    · rintro k ⟨x, y⟩ m ⟨f, C, hx, hr, hm, hy⟩
      have hx : x = aS σ 30 f := hx
      subst hx
      show okk (lX5_crosses_98 N (m + 1) (aS σ 30 f) (nI p) y3 y) _ ∨ _
      rcases hy with ⟨rfl, hE⟩ | ⟨rfl, rfl⟩
      · left
        exact ⟨_, by rw [lX5_crosses_98, if_pos rfl], f, C, rfl, hr, hm, hE⟩
      · right
        obtain ⟨x', y', e1, e2⟩ := mo_109 (N := N) (y3 := y3) (by omega) hM hp hr hm
        have es : lX5_crosses_98 N (m + 1) (aS σ 30 f) (nI p) y3 1 = lX5_crosses_98 N m x' (nI p) y3 y' := by
          rw [lX5_crosses_98, if_neg (by decide), e1]; rfl
        rcases e2 with ⟨rfl, rfl, e5⟩ | ⟨rfl, f', C', rfl, e6, e7, e8⟩
        · exact ⟨(aS σ 30 f, 0), 0, by omega, ⟨f, C, rfl, hr, hm, Or.inl ⟨rfl, fun t d ht hd => e5 t d ht hd trivial⟩⟩, es⟩
        · exact ⟨(aS σ 30 f', 1), 1 + smN C' 144, by omega, ⟨f', C', rfl, e6, e7, Or.inr ⟨rfl, rfl⟩⟩, es⟩
    · have := smN_le (f := C) (M := 1000000000) (fun i hi => (hm.1 i hi).1) 144 (Nat.le_refl _)
      omega
  obtain ⟨x, e1, f', C', rfl, e2⟩ := key
  exact ⟨f', C', e1, e2⟩
theorem mo_55 (hN : 200000 ≤ N) {y1 y2 y3 : Int32} : ∃ f, lX5_crosses_55 N N σ y1 y2 y3 0 = some (aS σ 30 f) ∧ repC f (fun _ => 1000000000) := by
  have key : okk (lX5_crosses_55 N N σ y1 y2 y3 (nI 0)) (fun x => ∃ f, x = aS σ 30 f ∧ repC f (fun _ => 1000000000)) := by
    refine okf (fun m (s : MS) i => lX5_crosses_55 N m s y1 y2 y3 i) 144 (fun i x => ∃ f, x = aS σ 30 f ∧ ∀ t, t < i → f t = nI 1000000000) _ ?_ ?_ 0 σ N (by omega) (by omega) ⟨gA σ 30, (aS_id σ 30).symm, fun t ht => absurd ht (Nat.not_lt_zero _)⟩
    · rintro i x m hi ⟨f, rfl, q⟩
      right
      refine ⟨aS σ 30 (upd f i (nI 1000000000)), ⟨_, rfl, fun t ht => ?_⟩, ?_⟩
      · by_cases e : t = i
        · rw [e, pk_us]
        · rw [pk_un e]; exact q t (by omega)
      · have wr : ∀ v, wA (aS σ 30 f) 30 (nI i) v = some (aS σ 30 (upd f i v)) := fun v => (wA30 hi).trans (by rw [sA_6])
        rw [lX5_crosses_55, if_neg (show ¬ (144 : Int32) ≤ nI i from nI_ge (b := 144) hi (by decide)), wr]
        simp only [Option.bind_some, show nI i + 1 = nI (i + 1) from nI_add _ 1]; rfl
    · rintro x m ⟨f, rfl, q⟩
      exact ⟨_, by rw [lX5_crosses_55, if_pos (by decide)], f, rfl, q⟩
  obtain ⟨x, e1, f, rfl, e2⟩ := key
  exact ⟨f, e1, e2⟩
end PSI
