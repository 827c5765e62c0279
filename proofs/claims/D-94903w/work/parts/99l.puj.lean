/-! sentences: one() and the Model's loop -/
def w1 (wh : Bool) : Nat := if wh = true then 1 else 0
/-- between two tokens -/
def SX (h0 : HS) (b rd sz Z W a : Nat) (σ0 : MS) (t O : Nat) (S : List Nat) (C : List CD3) (wh : Bool) (h : HS) (σ : MS) : Prop :=
  (∃ P, PRS h0 b rd sz 200 (Z + t) (W + 8 * t) true P h σ) ∧ (kT h rd = 7 ∧ kR h rd 9 = some a ∧ kI h rd 10 = nI O) ∧ SM σ0 S C O wh σ ∧ gI σ 15 = 0 ∧ O ≤ 20 ∧ t + w1 wh ≤ 2 * O ∧ C.length + S.length + w1 wh ≤ 2 * O
/-- a fault, in the loop -/
def SFa (N : Nat) (h0 : HS) (Z W : Nat) (σ0 : MS) (O : Nat) (r : Option ((Nat ⊕ Nat) × HS)) (σ : MS) : Prop := ∃ fa h' σ' k, r = some (.inl fa, h') ∧ k ≤ 3 * (20 - O) + 2 ∧ (∀ n, lX5_sentence_48 N (n + k) σ 1 = some (.inr (-1 - gI σ' 16, σ'))) ∧ FLT h0 (Z + 41) (W + 328) h' fa σ' ∧ SMe σ0 σ'
/-- one() from S and C -/
def OneC (N : Nat) (h0 : HS) (b rd sz Z W a : Nat) (F : Nat → Nat) (σ0 : MS) (r : Option ((Nat ⊕ Nat) × HS)) (O : Nat) (S : List Nat) (C : List CD3) (h : HS) (σ : MS) : Prop :=
  SFa N h0 Z W σ0 O r σ ∨ ∃ c h' σ' t' O' x L0 k, r = some (.inr c, h') ∧ O < O' ∧ k + 1 ≤ 3 * (O' - O) ∧ (∀ n, lX5_sentence_48 N (n + k) σ 1 = lX5_sentence_48 N n σ' 1) ∧ SX h0 b rd sz Z W a σ0 t' O' (S ++ List.replicate x 10) (C ++ L0) true h' σ' ∧ kI h' rd 11 = nI (cn2 S) ∧ sK rd h h' ∧ CondR h' (kI h') b F (L0.length + x) c (L0 ++ List.replicate x (10, 0, 0))
section PUJ
variable {h0 h h' h2 : HS} {σ0 σ σ' σ1 : MS} {N b rd sz Z W a O t n : Nat} {wh : Bool} {F : Nat → Nat} {S : List Nat} {C : List CD3} {v : Int32}
theorem lp_op (e : gI σ 50 = 0) (ho : fX5_operand N σ = some (v, σ1)) : lX5_sentence_48 N (n + 1) σ 1 = if v = 0 then some (.inr ((-1) - gI σ1 16, σ1)) else lX5_sentence_48 N n σ1 1 := by
  rw [lX5_sentence_48, if_neg (by decide), ltE, if_pos (by rw [if_pos e]), if_pos e, ho, Option.bind_some]
theorem lp_be (e : gI σ 50 = 1) (e2 : gI σ 11 ≠ 0) (ho : fX5_behind N σ = some (v, σ1)) : lX5_sentence_48 N (n + 1) σ 1 = if v = 0 then some (.inr ((-1) - gI σ1 16, σ1)) else lX5_sentence_48 N n σ1 1 := by
  have e3 : ¬ gI σ 50 = 0 := by rw [e]; decide
  rw [lX5_sentence_48, if_neg (by decide), ltE, if_pos (by rw [if_neg e3, if_neg e2]), if_neg e3, ho, Option.bind_some]
theorem lp_en (e : gI σ 50 = 1) (e2 : gI σ 11 = 0) : lX5_sentence_48 N (n + 1) σ 1 = ((fX5_nots N σ).bind fun r19 => ((fX5_joins N r19 12).bind fun r20 => (if (gI r20 48) ≤ 0 then (lX5_sentence_48 N n r20 0) else some (.inr (((-1) - (gI (fX5_bad r20 1).2 16)), (fX5_bad r20 1).2))))) := by
  have e3 : ¬ gI σ 50 = 0 := by rw [e]; decide
  rw [lX5_sentence_48, if_neg (by decide), ltE, if_neg (by rw [if_neg e3, if_pos e2]; decide)]
  rfl
theorem lp_0 : lX5_sentence_48 N (n + 1) σ 0 = some (.inl σ) := by rw [lX5_sentence_48, if_pos rfl]
/-- a fault at the first token -/
theorem sfa_op {r : Option ((Nat ⊕ Nat) × HS)} {fa Zm Wm : Nat} (e : gI σ 50 = 0) (ho : fX5_operand N σ = some (0, σ1)) (hr : r = some (.inl fa, h')) (hF : FLT h0 Zm Wm h' fa σ1) (z1 : Zm ≤ Z + 41) (z2 : Wm ≤ W + 328) (hE : SMe σ0 σ1) : SFa N h0 Z W σ0 O r σ :=
  ⟨fa, h', σ1, 1, hr, by omega, fun n => by rw [lp_op e ho, if_pos rfl], hF.mono z1 z2, hE⟩
/-- one step, then a fault -/
theorem SFa.step {O' k : Nat} {r r' : Option ((Nat ⊕ Nat) × HS)} (H : SFa N h0 Z W σ0 O' r σ1) (hr : ∀ fa h', r = some (.inl fa, h') → r' = some (.inl fa, h')) (hk : k ≤ 3 * (O' - O)) (h1 : O ≤ O') (h2 : O' ≤ 20) (st : ∀ n, lX5_sentence_48 N (n + k) σ 1 = lX5_sentence_48 N n σ1 1) : SFa N h0 Z W σ0 O r' σ := by
  obtain ⟨fa, h', σ', k', e1, e2, e3, e4, e5⟩ := H
  refine ⟨fa, h', σ', k' + k, hr _ _ e1, by omega, fun n => ?_, e4, e5⟩
  rw [← Nat.add_assoc, st, e3]
/-- ones and within go up -/
theorem oneI_k : sK rd h (oneI rd h) ∧ kI (oneI rd h) rd 10 = kI h rd 10 + 1 ∧ kI (oneI rd h) rd 11 = kI h rd 11 + 1 := by
  refine ⟨⟨ond.tI.trans ond.tI, rfl, fun _ _ => rfl, fun k hk => ?_⟩, ?_, ?_⟩
  · unfold oneI; rw [kI_tI, if_neg (by omega), kI_tI, if_neg (by omega)]
  · unfold oneI; rw [kI_tI, if_neg (by omega), kI_tI, if_pos ⟨rfl, rfl⟩]
  · unfold oneI; rw [kI_tI, if_pos ⟨rfl, rfl⟩]
theorem prs_tI {P Zm Wm lim k : Nat} {sp : Bool} (R : PRS h0 b rd sz lim Zm Wm sp P h σ) (hk : 10 ≤ k) : PRS h0 b rd sz lim Zm Wm sp P (tI h rd k v) σ := by
  rw [tI_set]
  exact R.row fun j hj => pk_un (by omega)
theorem prs_in {P Zm Wm lim : Nat} {sp : Bool} (R : PRS h0 b rd sz lim Zm Wm sp P h σ) : PRS h0 b rd sz lim Zm Wm sp P (oneI rd h) σ := prs_tI (prs_tI R (by decide)) (by decide)
/-- the end of one(): within goes down -/
theorem one_out {c : Nat} (T : kT h rd = 7) (G : kG h 0 ≤ rd) {r : Option ((Nat ⊕ Nat) × HS)} (hr : r = some (.inr c, h)) : oneE rd r = some (.inr c, tI h rd 11 (kI h rd 11 - 1)) := by rw [hr]; exact oneE_r T G
theorem cond_tI {d c k : Nat} {L : List CD3} (T : kT h rd = 7) (H : CondR h (kI h) b F d c L) : CondR (tI h rd k v) (kI (tI h rd k v)) b F d c L := H.ond ond.tI (fun q _ z => by have z : q = rd := z; rw [z, T]; exact Or.inl ⟨by decide, by decide⟩) _ _ _
theorem sk_tI {k : Nat} (K : sK rd h h') (hk : k = 10 ∨ k = 11) : sK rd h (tI h' rd k v) := by
  refine ⟨K.1.trans ond.tI, K.2.1, fun k hk => K.2.2.1 k hk, fun j hj => ?_⟩
  rw [kI_tI, if_neg (by omega)]; exact K.2.2.2 j hj
end PUJ
