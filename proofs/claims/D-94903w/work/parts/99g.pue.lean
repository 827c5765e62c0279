/-! sentences: the cases of one() -/
/-- the end of one() -/
def oneE (rd : Nat) (r : Option ((Nat ⊕ Nat) × HS)) : Option ((Nat ⊕ Nat) × HS) := r.bind fun r => thr r.1 (fun b => some (.inl b, r.2)) fun w => ((oI r.2 rd 7 7 11).bind fun v => ((pI r.2 rd 7 7 11 (v - 1)).bind fun σ => some (.inr w, σ)))
/-- one() is gone in -/
def oneI (rd : Nat) (h : HS) : HS := tI (tI h rd 10 (kI h rd 10 + 1)) rd 11 (kI h rd 11 + 1)
def oneN (N : Nat) (rec : HS → Nat → Option ((Nat ⊕ Nat) × HS)) (rd : Nat) (h : HS) : Option ((Nat ⊕ Nat) × HS) := ((nO h 11 1).bind fun r => gT r.2 rd 7 7 (((rec r.2 rd).bind fun s => thr s.1 (fun b => some (.inl b, s.2)) fun w => ((fX15_init N s.2 r.1 w).bind fun t => ((oI t rd 7 7 11).bind fun v => ((pI t rd 7 7 11 (v - 1)).bind fun σ => some (.inr r.1, σ)))))))
def oneG (N : Nat) (rec : HS → Nat → Option ((Nat ⊕ Nat) × HS)) (rd : Nat) (r6 r7 r8 : Int32) (h : HS) : Option ((Nat ⊕ Nat) × HS) := gT h rd 7 7 (((fX6_go N h rd).bind fun r => (if r6 = 0 then (if r7 = 0 then (gT r rd 7 7 (oneE rd (fX13_than N r rd r8))) else (gT r rd 7 7 (oneE rd (fX13_trod N r rd)))) else oneN N rec rd r)))
def oneB (N : Nat) (rec : HS → Nat → Option ((Nat ⊕ Nat) × HS)) (rd : Nat) (h : HS) : Option ((Nat ⊕ Nat) × HS) := gT h rd 7 7 (((fX6_go N h rd).bind fun r => gT r rd 7 7 (oneE rd (fX13_bracket N rec r rd))))
/-- as many as may be -/
def oneH (N rd : Nat) (K : HS → Option ((Nat ⊕ Nat) × HS)) (h : HS) : Option ((Nat ⊕ Nat) × HS) := ((oI h rd 7 7 10).bind fun v14 => ((if 20 ≤ v14 then (some true) else ((oI h rd 7 7 11).bind fun v17 => (if 8 ≤ v17 then (some true) else (some false)))).bind fun q15 => (if q15 = true then (gT h rd 7 7 (((fX6_need N h rd 0 4).bind fun r19 => thr r19.1 (fun b19 => some (.inl b19, r19.2)) fun w19 => ((oI r19.2 rd 7 7 10).bind fun v20 => ((pI r19.2 rd 7 7 10 (v20 + 1)).bind fun σ21 => ((oI σ21 rd 7 7 11).bind fun v22 => ((pI σ21 rd 7 7 11 (v22 + 1)).bind K))))))) else (gT h rd 7 7 (((fX6_need N h rd 1 4).bind fun r39 => thr r39.1 (fun b39 => some (.inl b39, r39.2)) fun w39 => ((oI r39.2 rd 7 7 10).bind fun v40 => ((pI r39.2 rd 7 7 10 (v40 + 1)).bind fun σ41 => ((oI σ41 rd 7 7 11).bind fun v42 => ((pI σ41 rd 7 7 11 (v42 + 1)).bind K))))))))))
section PUE
variable {h h' h3 : HS} {N rd fa : Nat} {rec : HS → Nat → Option ((Nat ⊕ Nat) × HS)} {K : HS → Option ((Nat ⊕ Nat) × HS)} {r6 r7 r8 : Int32}
theorem ltE {α β : Type} {x : α} {f : α → β} : lt_ x f = f x := rfl
theorem oneI_eq (T : kT h rd = 7) (G : kG h 0 ≤ rd) {α : Type} (f : HS → Option α) : ((oI h rd 7 7 10).bind fun v => ((pI h rd 7 7 10 (v + 1)).bind fun a => ((oI a rd 7 7 11).bind fun w => ((pI a rd 7 7 11 (w + 1)).bind f)))) = f (oneI rd h) := by
  have T1 : kT (tI h rd 10 (kI h rd 10 + 1)) rd = 7 := T
  have G1 : kG (tI h rd 10 (kI h rd 10 + 1)) 0 ≤ rd := G
  rw [oI_n (by omega) (by omega), Option.bind_some, pI_n (by omega) (by omega) G, Option.bind_some, oI_n (by omega) (by omega), Option.bind_some, pI_n (by omega) (by omega) G1, Option.bind_some, kI_tI, if_neg (by omega)]
  rfl
theorem oneH_ok (T : kT h rd = 7) (G : kG h 0 ≤ rd) (l1 : ¬ 20 ≤ kI h rd 10) (l2 : ¬ 8 ≤ kI h rd 11) : oneH N rd K h = K (oneI rd h) := by
  unfold oneH
  have o : ∀ k, oI h rd 7 7 k = some (kI h rd k) := fun k => oI_n (by omega) (by omega)
  rw [o 10, Option.bind_some, if_neg l1, o 11, Option.bind_some, if_neg l2, Option.bind_some, if_neg (by decide), gT_n (by omega) (by omega), need_1, Option.bind_some]
  exact oneI_eq T G K
theorem oneH_no (T : kT h rd = 7) (l : 20 ≤ kI h rd 10 ∨ 8 ≤ kI h rd 11) (hf : fX6_need N h rd 0 4 = some (.inl fa, h')) : oneH N rd K h = some (.inl fa, h') := by
  unfold oneH
  have o : ∀ k, oI h rd 7 7 k = some (kI h rd k) := fun k => oI_n (by omega) (by omega)
  have q : (if 20 ≤ kI h rd 10 then (some true) else ((oI h rd 7 7 11).bind fun v17 => (if 8 ≤ v17 then (some true) else (some false)))) = some true := by
    by_cases c : 20 ≤ kI h rd 10
    · rw [if_pos c]
    · rw [if_neg c, o, Option.bind_some, if_pos (l.resolve_left c)]
  rw [o 10, Option.bind_some, q, Option.bind_some, if_pos rfl, gT_n (by omega) (by omega), hf, Option.bind_some]
  rfl
theorem one_q (T : kT h rd = 7) (np : ¬ (kI h rd 4 = 6 ∧ kI h rd 7 = 40)) : (if kI h rd 4 = 6 then ((oI h rd 7 7 7).bind fun v4 => (if v4 = 40 then (some false) else (some true))) else (some true)) = some true := by
  by_cases c : kI h rd 4 = 6
  · rw [if_pos c, oI_n (by omega) (by omega), Option.bind_some, if_neg fun z => np ⟨c, z⟩]
  · rw [if_neg c]
theorem one_no (T : kT h rd = 7) (e6 : fX6_is N h rd (kG h 20) = some 0) (e7 : fX6_is N h rd (kG h 21) = some 0) (e8 : fX13_numbered N h rd = some (-1)) (np : ¬ (kI h rd 4 = 6 ∧ kI h rd 7 = 40)) (hf : fX6_need N h rd 0 1 = some (.inl fa, h')) : fX13_one N rec h rd = some (.inl fa, h') := by
  have o : ∀ k, oI h rd 7 7 k = some (kI h rd k) := fun k => oI_n (by omega) (by omega)
  have gt : ∀ {α : Type} (x : Option α), gT h rd 7 7 x = x := fun x => gT_n (by omega) (by omega)
  unfold fX13_one
  rw [o 4, Option.bind_some, one_q T np, Option.bind_some, if_pos rfl, gt, e6, Option.bind_some, gt, e7, Option.bind_some, gt, e8, Option.bind_some, ltE, if_pos rfl, if_pos rfl, if_neg (by decide), if_pos rfl, gt, hf, Option.bind_some]
  rfl
theorem one_w (T : kT h rd = 7) (e6 : fX6_is N h rd (kG h 20) = some r6) (e7 : fX6_is N h rd (kG h 21) = some r7) (e8 : fX13_numbered N h rd = some r8) (np : ¬ (kI h rd 4 = 6 ∧ kI h rd 7 = 40)) (hw : ¬ (r6 = 0 ∧ r7 = 0 ∧ r8 = -1)) : fX13_one N rec h rd = oneH N rd (oneG N rec rd r6 r7 r8) h := by
  have o : ∀ k, oI h rd 7 7 k = some (kI h rd k) := fun k => oI_n (by omega) (by omega)
  have gt : ∀ {α : Type} (x : Option α), gT h rd 7 7 x = x := fun x => gT_n (by omega) (by omega)
  unfold fX13_one
  rw [o 4, Option.bind_some, one_q T np, Option.bind_some, if_pos rfl, gt, e6, Option.bind_some, gt, e7, Option.bind_some, gt, e8, Option.bind_some, ltE]
  by_cases c : (if r6 = 0 then (if r7 = 0 then false else true) else true) = true
  · rw [if_pos c, gt, need_1, Option.bind_some]
    rfl
  · have c6 : r6 = 0 := by
      by_cases z : r6 = 0
      · exact z
      · rw [if_neg z] at c; exact absurd rfl c
    have c7 : r7 = 0 := by
      by_cases z : r7 = 0
      · exact z
      · rw [if_pos c6, if_neg z] at c; exact absurd rfl c
    rw [if_neg c, if_neg fun z => hw ⟨c6, c7, z⟩, gt, need_1, Option.bind_some]
    rfl
theorem one_b (T : kT h rd = 7) (e6 : fX6_is N h rd (kG h 20) = some r6) (e7 : fX6_is N h rd (kG h 21) = some r7) (e8 : fX13_numbered N h rd = some r8) (p1 : kI h rd 4 = 6) (p2 : kI h rd 7 = 40) : fX13_one N rec h rd = oneH N rd (oneB N rec rd) h := by
  have o : ∀ k, oI h rd 7 7 k = some (kI h rd k) := fun k => oI_n (by omega) (by omega)
  have gt : ∀ {α : Type} (x : Option α), gT h rd 7 7 x = x := fun x => gT_n (by omega) (by omega)
  unfold fX13_one
  rw [o 4, Option.bind_some, if_pos p1, o 7, Option.bind_some, if_pos p2, Option.bind_some, if_neg (by decide), gt, e6, Option.bind_some, gt, e7, Option.bind_some, gt, e8, Option.bind_some, gt, need_1, Option.bind_some]
  rfl
theorem oneE_r {w : Nat} (T : kT h rd = 7) (G : kG h 0 ≤ rd) : oneE rd (some (.inr w, h)) = some (.inr w, tI h rd 11 (kI h rd 11 - 1)) := by
  unfold oneE
  show ((oI h rd 7 7 11).bind fun v => ((pI h rd 7 7 11 (v - 1)).bind fun σ => some ((Sum.inr w : Nat ⊕ Nat), σ))) = _
  rw [oI_n (by omega) (by omega), Option.bind_some, pI_n (by omega) (by omega) G, Option.bind_some]
theorem oneE_l : oneE rd (some (.inl fa, h)) = some (.inl fa, h) := rfl
end PUE
