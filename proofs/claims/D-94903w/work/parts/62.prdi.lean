/-! readings: a reading that is so is put down on both sides -/
section PRI
variable {h : HS} {g g' : Nat → Nat → Int32} {σ : MS} {N b a n K c : Nat} {F : Nat → Nat} {nm : Nat → Int64} {ov : Nat → Nat → Nat} {A : Nat → Nat}
/-- the two sides while a reading is put down, up to way i -/
def RI (h : HS) (g : Nat → Nat → Int32) (σ : MS) (b c : Nat) (F : Nat → Nat) (i : Nat) (s : HS × Int32) (s' : MS × Int32) : Prop :=
  ∃ gx cm, cm < 64 ∧ s = (iS h gx, nI cm) ∧ s'.2 = nI (2 * cm) ∧ (∀ x, x ≠ b + 2037 → x ≠ b + 2038 → gx x = g x) ∧ ((∀ j, gI s'.1 j = gI σ j) ∧ (∀ j, j ≠ 26 → j ≠ 27 → gA s'.1 j = gA σ j) ∧ gJ s'.1 = gJ σ) ∧ ∀ w, w < F 3 → (w < i ∨ c ≠ 0) → gx (b + 2037) w = gA s'.1 26 w ∧ gx (b + 2038) w = gA s'.1 27 w
theorem ri_step (R : RK h g b a K F nm ov A σ) (hc : c < 1000000) (h18 : g b 18 = nI (c + 1)) (rec : HS → Nat → Int32 → Option HS) {i m : Nat} (hi : i < F 3) {s : HS × Int32} {s' : MS × Int32} (hI : RI h g σ b c F i s s') : ∃ t t', RI h g σ b c F (i + 1) t t' ∧ lX1_tryWays_90 N rec (m + 1) s.1 b s.2 (nI i) = lX1_tryWays_90 N rec m t.1 b t.2 (nI (i + 1)) ∧ lX5_reads_4 N (m + 1) s'.1 (if c = 0 then 1 else 0) s'.2 (nI i) = lX5_reads_4 N m t'.1 (if c = 0 then 1 else 0) t'.2 (nI (i + 1)) := by
  obtain ⟨hF, hH, h3, hM, ⟨hK, K8⟩, hT, hO, hA⟩ := R
  obtain ⟨gx, cm, c64, rfl, e2, x1, ⟨x2, x3, x4⟩, x5⟩ := hI
  obtain ⟨σx, mm⟩ := s'
  obtain rfl : mm = nI (2 * cm) := e2
  have k3 : F 3 ≤ 6 := hM.1.1.2.2.2.1
  have k2 : F 2 ≤ 6 := hM.1.1.2.2.1
  have i6 : i < 6 := by omega
  obtain ⟨a1, a2, a3⟩ := hA i hi
  have hHx : HouR h gx b a F nm := hH.keep ⟨Nat.le_refl _, fun q hq => ⟨rfl, rfl, rfl, x1 q (by obtain ⟨_, h9⟩ := hq; omega) (by obtain ⟨_, h9⟩ := hq; omega)⟩⟩
  have n1 : nI i + 1 = nI (i + 1) := nI_add _ 1
  have l1 : ¬ nI (F 3) ≤ nI i := nI_ge hi (by omega)
  have wv : gx (b + 2036) i = wk (A i) := by rw [x1 _ (by omega) (by omega)]; exact a3
  -- the masks
  obtain ⟨cm', c64', mk1, mk2⟩ : ∃ cm', cm' < 64 ∧ (if wk (A i) = -1 then some (nI cm) else some (nI cm ||| (1 <<< (wk (A i) &&& 31)))) = some (nI cm') ∧ (if nI (A i) ≤ 0 then some (nI (2 * cm)) else some (nI (2 * cm) ||| (1 <<< (nI (A i) &&& 31)))) = some (nI (2 * cm')) := by
    cases e : A i with
    | zero => exact ⟨cm, c64, if_pos wk_0, if_pos (by decide)⟩
    | succ p =>
      obtain ⟨c', m1, m2⟩ := mk_or ⟨cm, c64⟩ ⟨p, by omega⟩
      have z : ¬ nI p = -1 := fun q => (pl_em1 (a := p) (by omega)).mp q
      have z2 : ¬ nI (p + 1) ≤ 0 := nI_ge (a := 0) (by omega) (by omega)
      refine ⟨c'.val, c'.isLt, ?_, ?_⟩
      · rw [wk_s, if_neg z]; exact congrArg some m1
      · rw [if_neg z2]; exact congrArg some m2
  have b18 : ∀ gy : Nat → Nat → Int32, gy b = gx b → oI (iS h gy) b 1 1 18 = some (nI (c + 1)) := fun gy e => (fx_b hF gy).trans (by rw [e, x1 b (by omega) (by omega), h18])
  have R3 : fR (iS h gx) b 1 1 3 = some a := (fx_f hF gx).trans h3
  have r3 : rA σx 6 3 = some (nI (F 3)) := by rw [show rA σx 6 3 = some (gA σx 6 3) from rL6 (n := 3) (by decide), x3 6 (by decide) (by decide)]; exact congrArg some (hM.2 3 (by decide))
  have r25 : ∀ σy : MS, gA σy 25 = gA σx 25 → rA σy 25 (nI i) = some (nI (A i)) := fun σy e => (rA25 i6).trans (by rw [e, x3 25 (by decide) (by decide), a2])
  have H6 := ho_R hHx (k := 6) (by decide) (by decide)
  have G6 := fun {α : Type} (x : Option α) => (ls_g (ho_w hHx) : gT (iS h gx) (rf h a 6) 15 15 x = x)
  have S6 := ls_size (N := N) (ho_w hHx)
  by_cases c0 : c = 0
  · subst c0
    refine ⟨(iS h (u2 (u2 gx (b + 2037) i (wk (A i))) (b + 2038) i (wk (A i))), nI cm'), (sA (sA σx 26 i (wk (A i))) 27 i (wk (A i)), nI (2 * cm')), ⟨_, cm', c64', rfl, rfl, fun x y1 y2 => by rw [u2_nf y2, u2_nf y1]; exact x1 x y1 y2, ⟨x2, fun j j1 j2 => ?_, x4⟩, fun w hw hwi => ?_⟩, ?_, ?_⟩
    · show gA (sA (sA σx 26 i (wk (A i))) 27 i (wk (A i))) j = gA σ j
      rw [sA_aS, gA_o j2, sA_aS, gA_o j1]; exact x3 j j1 j2
    · show u2 (u2 gx (b + 2037) i (wk (A i))) (b + 2038) i (wk (A i)) (b + 2037) w = gA (sA (sA σx 26 i (wk (A i))) 27 i (wk (A i))) 26 w ∧ u2 (u2 gx (b + 2037) i (wk (A i))) (b + 2038) i (wk (A i)) (b + 2038) w = gA (sA (sA σx 26 i (wk (A i))) 27 i (wk (A i))) 27 w
      rw [sA_aS, gA_o (by decide), gA_same, sA_aS, gA_same, gA_o (by decide), u2_nf (by omega)]
      by_cases e : w = i
      · subst e; rw [u2_eq, u2_eq, pk_us, pk_us]; exact ⟨rfl, rfl⟩
      · rw [u2_ne (Or.inr e), u2_ne (Or.inr e), u2_nf (by omega), pk_un e, pk_un e]
        exact x5 w hw (Or.inl (by omega))
    · show lX1_tryWays_90 N rec (m + 1) (iS h gx) b (nI cm) (nI i) = lX1_tryWays_90 N rec m (iS h (u2 (u2 gx (b + 2037) i (wk (A i))) (b + 2038) i (wk (A i)))) b (nI cm') (nI (i + 1))
      rw [lX1_tryWays_90, R3]
      simp only [Option.bind_some, H6, G6, S6, if_neg l1, fx_R11 hF gx, fx_I11 hF gx i6, wv, lt_]
      rw [mk1, b18 gx rfl]
      have w1 := fx_W12 hF gx (v := wk (A i)) i6
      have b1 := b18 (u2 gx (b + 2037) i (wk (A i))) (u2_nf (by omega))
      have i11 : aI (iS h (u2 gx (b + 2037) i (wk (A i)))) (b + 2036) 31 (nI i) = some (wk (A i)) := (fx_I11 hF _ i6).trans (by rw [u2_nf (by omega), wv])
      have w2 := fx_W13 hF (u2 gx (b + 2037) i (wk (A i))) (v := wk (A i)) i6
      simp only [Option.bind_some, fx_R12 hF gx, show nI (0 + 1) = (1 : Int32) from rfl, eq_self, if_true, w1, fx_R13 hF, b1, fx_R11 hF, i11, w2, n1]
    · show lX5_reads_4 N (m + 1) σx (if 0 = 0 then 1 else 0) (nI (2 * cm)) (nI i) = lX5_reads_4 N m (sA (sA σx 26 i (wk (A i))) 27 i (wk (A i))) (if 0 = 0 then 1 else 0) (nI (2 * cm')) (nI (i + 1))
      rw [if_pos rfl, lX5_reads_4, r3]
      have w1 : wA σx 26 (nI i) (wk (A i)) = some (sA σx 26 i (wk (A i))) := wA26 i6
      have w2 : wA (sA σx 26 i (wk (A i))) 27 (nI i) (wk (A i)) = some (sA (sA σx 26 i (wk (A i))) 27 i (wk (A i))) := wA27 i6
      have q1 := r25 σx rfl
      have q2 := r25 (sA σx 26 i (wk (A i))) (by rw [sA_aS, gA_o (by decide)])
      have q3 := r25 (sA (sA σx 26 i (wk (A i))) 27 i (wk (A i))) (by rw [sA_aS, gA_o (by decide), sA_aS, gA_o (by decide)])
      have q4 : rA (sA (sA σx 26 i (wk (A i))) 27 i (wk (A i))) 27 (nI i) = some (wk (A i)) := (rA27 i6).trans (by rw [sA_aS, gA_same, pk_us])
      simp only [Option.bind_some, if_neg l1, q1, lt_]
      rw [mk2]
      simp only [Option.bind_some, one0, if_false, wk_m, w1, q2, w2, q4, q3, if_true, n1]
  · have cz : ¬ nI (c + 1) = 1 := fun q => c0 (by have := (nI_eq (b := 1) (by omega) (by decide)).mp q; omega)
    obtain ⟨y1, y2⟩ := x5 i hi (Or.inr c0)
    have C : lX1_tryWays_90 N rec (m + 1) (iS h gx) b (nI cm) (nI i) = if gx (b + 2038) i = wk (A i) then lX1_tryWays_90 N rec m (iS h (u2 gx (b + 2038) i (wk (A i)))) b (nI cm') (nI (i + 1)) else lX1_tryWays_90 N rec m (iS h (u2 gx (b + 2038) i (-2))) b (nI cm') (nI (i + 1)) := by
      rw [lX1_tryWays_90, R3]
      simp only [Option.bind_some, H6, G6, S6, if_neg l1, fx_R11 hF gx, fx_I11 hF gx i6, wv, lt_]
      rw [mk1, b18 gx rfl]
      simp only [Option.bind_some, if_neg cz, fx_R13 hF gx, b18 gx rfl, fx_I13 hF gx i6, fx_R11 hF gx, fx_I11 hF gx i6, wv]
      by_cases q : gx (b + 2038) i = wk (A i)
      · simp only [if_pos q, Option.bind_some, if_true, fx_W13 hF gx i6, n1]
      · simp only [if_neg q, Option.bind_some, Bool.false_eq_true, if_false, fx_W13 hF gx i6, n1]
    have M : lX5_reads_4 N (m + 1) σx (if c = 0 then 1 else 0) (nI (2 * cm)) (nI i) = if gA σx 27 i = wk (A i) then lX5_reads_4 N m σx (if c = 0 then 1 else 0) (nI (2 * cm')) (nI (i + 1)) else lX5_reads_4 N m (sA σx 27 i (-2)) (if c = 0 then 1 else 0) (nI (2 * cm')) (nI (i + 1)) := by
      rw [if_neg c0, lX5_reads_4, r3]
      simp only [Option.bind_some, if_neg l1, r25 σx rfl, lt_]
      rw [mk2]
      have w2 : wA σx 27 (nI i) (-2) = some (sA σx 27 i (-2)) := wA27 i6
      simp only [Option.bind_some, if_true, rA27 i6, r25 σx rfl, wk_m, w2, n1]
    by_cases q : gx (b + 2038) i = wk (A i)
    · rw [if_pos q] at C
      rw [if_pos (y2.symm.trans q)] at M
      refine ⟨(iS h (u2 gx (b + 2038) i (wk (A i))), nI cm'), (σx, nI (2 * cm')), ⟨_, cm', c64', rfl, rfl, fun x z1 z2 => by rw [u2_nf z2]; exact x1 x z1 z2, ⟨x2, x3, x4⟩, fun w hw hwi => ?_⟩, C, M⟩
      rw [u2_nf (by omega)]
      refine ⟨(x5 w hw (Or.inr c0)).1, ?_⟩
      by_cases e : w = i
      · subst e; rw [u2_eq, ← q]; exact y2
      · rw [u2_ne (Or.inr e)]; exact (x5 w hw (Or.inr c0)).2
    · rw [if_neg q] at C
      rw [if_neg (fun z => q (y2.trans z))] at M
      refine ⟨(iS h (u2 gx (b + 2038) i (-2)), nI cm'), (sA σx 27 i (-2), nI (2 * cm')), ⟨_, cm', c64', rfl, rfl, fun x z1 z2 => by rw [u2_nf z2]; exact x1 x z1 z2, ⟨x2, fun j j1 j2 => ?_, x4⟩, fun w hw hwi => ?_⟩, C, M⟩
      · show gA (sA σx 27 i (-2)) j = _
        rw [sA_aS, gA_o j2]; exact x3 j j1 j2
      · show u2 gx (b + 2038) i (-2) (b + 2037) w = gA (sA σx 27 i (-2)) 26 w ∧ u2 gx (b + 2038) i (-2) (b + 2038) w = gA (sA σx 27 i (-2)) 27 w
        rw [u2_nf (by omega), sA_aS, gA_o (by decide), gA_same]
        refine ⟨(x5 w hw (Or.inr c0)).1, ?_⟩
        by_cases e : w = i
        · subst e; rw [u2_eq, pk_us]
        · rw [u2_ne (Or.inr e), pk_un e]; exact (x5 w hw (Or.inr c0)).2
end PRI
