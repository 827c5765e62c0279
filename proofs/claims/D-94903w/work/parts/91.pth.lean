/-! readers: one token, both sides -/
/-- what is at hand -/
def TKR (h : HS) (b rd : Nat) (σ : MS) : Prop :=
  (kI h rd 4 = 0 ∧ gI σ 11 = 0) ∨ ((kI h rd 4 = 1 ∨ kI h rd 4 = 5) ∧ gI σ 11 = 4) ∨
  (kI h rd 4 = 2 ∧ gI σ 11 = 1 ∧ ∃ q l, kR h rd 8 = some q ∧ okW l ∧ StrR h (kI h) b q l ∧ gL σ = enc l) ∨
  (kI h rd 4 = 3 ∧ gI σ 11 = 2 ∧ ∃ k, k ≤ 999 ∧ kI h rd 6 = nI k ∧ gI σ 14 = nI k) ∨
  (kI h rd 4 = 4 ∧ gI σ 11 = 3 ∧ gI σ 14 = 59) ∨
  (kI h rd 4 = 6 ∧ gI σ 11 = 3 ∧ ∃ c, (c = 40 ∨ c = 41 ∨ c = 60 ∨ c = 61 ∨ c = 62) ∧ kI h rd 7 = nI c ∧ gI σ 14 = nI c)
/-- a reader, with the room it has (h0: what was there ahead of it) -/
def PR0 (h0 : HS) (b rd sz lim Zm Wm P : Nat) (h : HS) (σ : MS) : Prop :=
  RB h b rd sz lim P σ ∧ (grow h0 h ∧ kZ h0 ≤ rd ∧ b + 18420 ≤ kZ h0 ∧ CS h0 (kI h0) b) ∧ (∀ k, k < 20 → gJ σ 10 k = resw k) ∧ (kG h 0 ≤ kZ h ∧ Zm + 10 ≤ kG h 1 ∧ Wm + 100 ≤ kG h 2) ∧ kZ h + 8 * (sz - P) ≤ Zm ∧ kW h + 64 * (sz - P) ≤ Wm
def PRS (h0 : HS) (b rd sz lim Zm Wm : Nat) (sp : Bool) (P : Nat) (h : HS) (σ : MS) : Prop :=
  PR0 h0 b rd sz lim Zm Wm P h σ ∧ (∃ a, a ≤ 940 ∧ kI h rd 5 = nI a ∧ gI σ 12 = nI a) ∧ TKR h b rd σ ∧ (sp = true → kI h rd 4 = 2 → kZ h + 4 + 8 * (sz - P) ≤ Zm ∧ kW h + 33 + 64 * (sz - P) ≤ Wm)
/-- what a token leaves as it was -/
def tkK (rd : Nat) (h h' : HS) (σ σ' : MS) : Prop := ond (fun q => q = rd) h h' ∧ kT h' rd = kT h rd ∧ (∀ k, k ≠ 8 → kR h' rd k = kR h rd k) ∧ (∀ k, (k < 3 ∨ 7 < k) → kI h' rd k = kI h rd k) ∧ gA σ' = gA σ ∧ gJ σ' = gJ σ ∧ ∀ k, k ≠ 4 → k ≠ 11 → k ≠ 12 → k ≠ 13 → k ≠ 14 → gI σ' k = gI σ k
section PTH
variable {h0 h h' : HS} {σ σ' : MS} {N b rd sz lim P Zm Wm : Nat} {f : Nat → Int32}
theorem grow.ond (H : grow h0 h) (K : ond (fun q => q = rd) h h') (hr : kZ h0 ≤ rd) : grow h0 h' := ⟨Nat.le_trans H.1 K.1, K.2.1.trans H.2.1, fun q hq => by
  obtain ⟨a1, a2, a3, a4⟩ := H.2.2 q hq
  obtain ⟨b1, b2, b3, b4⟩ := K.2.2 q (by have := H.1; omega) (by omega)
  exact ⟨b1.trans a1, b2.trans a2, b3.trans a3, b4.trans a4⟩⟩
theorem RB.of (R : RB h b rd sz lim P σ) {P' : Nat} (hP : P' ≤ sz) (K : ond (fun q => q = rd) h h') (e0 : kT h' rd = kT h rd) (e1 : kR h' rd 0 = kR h rd 0) (e2 : kI h' rd 1 = kI h rd 1) (e3 : kI h' rd 2 = kI h rd 2) (e4 : kI h' rd 3 = nI P') (m1 : gI σ' 3 = gI σ 3) (m2 : gI σ' 5 = gI σ 5) (m3 : gI σ' 4 = nI P') (m4 : gA σ' 1 = gA σ 1) : RB h' b rd sz lim P' σ' := by
  obtain ⟨r1, ⟨r2, r3, r4, r5⟩, r6, ⟨r7, r8, r9⟩, r10, r11, r12⟩ := R
  obtain ⟨a1, a2, a3, a4⟩ := K.2.2 (b + 1) (by have := r1.2.2.2; omega) (by have := r1.2.2.2; omega)
  refine ⟨by rw [e0, K.2.1]; exact ⟨r1.1, r1.2.1, r1.2.2.1, r1.2.2.2.1, by have := K.1; have := r1.2.2.2.2; omega⟩, ⟨by rw [e1]; exact r2, by rw [a1]; exact r3, by rw [a2]; exact r4, fun i hi => by rw [a3, m4]; exact r5 i hi⟩, ⟨hP, r6.2⟩, ⟨e2.trans r7, e3.trans r8, e4⟩, m1.trans r10, m2.trans r11, m3⟩
theorem StrR.ond {S : Nat → Prop} {q : Nat} {l : List Nat} (K : ond S h h') (hS : StrR h (kI h) b q l) (n1 : ¬ S q) (n2 : ¬ S (rf h q 0)) : StrR h' (kI h') b q l := by
  obtain ⟨p1, p2, p3, p4, p5, p6, p7, p8⟩ := hS
  obtain ⟨a1, a2, a3, a4⟩ := K.2.2 q p1.1 n1
  obtain ⟨b1, b2, b3, b4⟩ := K.2.2 _ p4.1 n2
  have e : rf h' q 0 = rf h q 0 := by unfold rf; rw [a4]
  exact ⟨p1.up K.1, by rw [a1]; exact p2, by unfold isr; rw [e, a4]; exact p3, by rw [e]; exact p4.up K.1, by rw [e, b1]; exact p5, by rw [e, b2]; exact p6, by rw [a3]; exact p7, fun i hi => by rw [e, b3]; exact p8 i hi⟩
theorem PR0.cs (R : PR0 h0 b rd sz lim Zm Wm P h σ) : CS h (kI h) b := R.2.1.2.2.2.keep R.2.1.1.kept R.2.1.1.2.1
/-- a token that needs no room -/
theorem go_fin (R : PR0 h0 b rd sz lim Zm Wm P h σ) {P1 P' a : Nat} {v4 v6 v7 : Int32} {σ2 : MS} (hP1 : P ≤ P') (hP : P' ≤ sz) (ha : a ≤ 940) (hf : f = (fun k => if k = 3 then nI P' else if k = 4 then v4 else if k = 5 then nI a else if k = 6 then v6 else if k = 7 then v7 else kI h rd k)) (m4 : gI σ2 4 = nI P') (m12 : gI σ2 12 = nI a) (mA : gA σ2 = gA σ) (mJ : gJ σ2 = gJ σ) (mI : ∀ k, k ≠ 4 → k ≠ 11 → k ≠ 12 → k ≠ 13 → k ≠ 14 → gI σ2 k = gI σ k) (v2 : v4 ≠ 2) (hT : TKR (setR h rd f) b rd σ2) (pg : v4 ≠ 0 → v4 ≠ 5 → P < P') :
    PRS h0 b rd sz lim Zm Wm true P' (setR h rd f) σ2 ∧ P ≤ P' ∧ (kI (setR h rd f) rd 4 ≠ 0 → kI (setR h rd f) rd 4 ≠ 5 → P < P') ∧ tkK rd h (setR h rd f) σ σ2 := by
  obtain ⟨RB0, ⟨g1, g2, g3, g4⟩, rj, ⟨z1, z2, z3⟩, z4, z5⟩ := R
  have f4 : f 4 = v4 := by rw [hf]; rfl
  refine ⟨⟨⟨RB0.of hP ond.setR rfl rfl (by rw [setR_I, hf]; rfl) (by rw [setR_I, hf]; rfl) (by rw [setR_I, hf]; rfl) (mI 3 (by decide) (by decide) (by decide) (by decide) (by decide)) (mI 5 (by decide) (by decide) (by decide) (by decide) (by decide)) m4 (by rw [mA]), ⟨g1.ond ond.setR g2, g2, g3, g4⟩, fun k hk => by rw [mJ]; exact rj k hk, ⟨z1, z2, z3⟩, ?_, ?_⟩, ⟨a, ha, by rw [setR_I, hf]; rfl, m12⟩, hT, fun _ q => ?_⟩, hP1, fun q1 q2 => ?_, ond.setR, rfl, fun _ _ => rfl, fun k hk => ?_, mA, mJ, mI⟩
  · show kZ h + 8 * (sz - P') ≤ Zm; omega
  · show kW h + 64 * (sz - P') ≤ Wm; omega
  · rw [setR_I, f4] at q; exact absurd q v2
  · rw [setR_I, f4] at q1 q2; exact pg q1 q2
  · rw [setR_I, hf]
    show (if k = 3 then nI P' else if k = 4 then v4 else if k = 5 then nI a else if k = 6 then v6 else if k = 7 then v7 else kI h rd k) = kI h rd k
    rw [if_neg (by omega), if_neg (by omega), if_neg (by omega), if_neg (by omega), if_neg (by omega)]
end PTH
