/-! sentences: the cases of the Model's operand -/
/-- trod -/
def opT (N : Nat) (σ : MS) : Option (Int32 × MS) := ((fX5_isName N σ).bind fun r41 => (if r41 = 0 then some (0, (fX5_bad σ 1).2) else ((rA σ 6 3).bind fun v43 => ((fX5_find N σ 6 v43).bind fun r44 => (if 0 ≤ r44 then ((fX5_code N σ 0 0 r44).bind fun r46 => ((fX5_next N r46).bind fun r47 => some (1, r47))) else some (0, (fX5_bad σ 3).2))))))
/-- a number is compared -/
def opC (N : Nat) (σ : MS) (k : Int32) : Option (Int32 × MS) := if (if (gI σ 11) = 3 then (if (gI σ 14) < 60 then true else false) else true) = true then some (0, (fX5_bad σ 1).2) else (if (gI σ 14) ≤ 62 then ((fX5_next N σ).bind fun r33 => (if (gI r33 11) = 2 then ((fX5_code N r33 k (gI σ 14) (gI r33 14)).bind fun r35 => ((fX5_next N r35).bind fun r36 => some (1, r36))) else some (0, (fX5_bad r33 1).2))) else some (0, (fX5_bad σ 1).2))
section PUG
variable {σ σ1 : MS} {N : Nat} {k : Int32}
theorem bd_0 {k : Int32} : (lt_ (fX5_bad σ k) fun r => gB r.1 (some (r.1, r.2))) = some (0, (fX5_bad σ k).2) := rfl
theorem bd_1 {k : Int32} : (fX5_bad σ k).1 = 0 := rfl
theorem op_no (u : fX5_isWord σ 7237492 = 0) (s : fX5_isSign σ 40 = 0) (l : fX5_leafOf σ = -1) : fX5_operand N σ = some (0, (fX5_bad σ 1).2) := by
  unfold fX5_operand
  rw [ltE, u, s, l, ltE, if_neg (by decide), if_neg (by decide)]
  rfl
theorem op_too (w : fX5_isWord σ 7237492 = 1 ∨ fX5_isSign σ 40 = 1 ∨ 0 ≤ fX5_leafOf σ) (t : gI σ 47 = 20 ∨ ¬ gI σ 49 ≤ 8) : fX5_operand N σ = some (0, (fX5_bad σ 4).2) := by
  have q : (if (gI σ 47) = 20 then true else (if (gI σ 49) ≤ 8 then false else true)) = true := by
    by_cases c : gI σ 47 = 20
    · rw [if_pos c]
    · rw [if_neg c, if_neg (t.resolve_left c)]
  unfold fX5_operand
  rw [ltE, ltE]
  by_cases c : (if fX5_isWord σ 7237492 = 0 then (if (fX5_isSign σ 40) = 0 then false else true) else true) = true
  · rw [if_pos c, ltE, if_pos q]; rfl
  · have c1 : fX5_isWord σ 7237492 = 0 := by
      by_cases z : fX5_isWord σ 7237492 = 0
      · exact z
      · rw [if_neg z] at c; exact absurd rfl c
    have c2 : fX5_isSign σ 40 = 0 := by
      by_cases z : fX5_isSign σ 40 = 0
      · exact z
      · rw [if_pos c1, if_neg z] at c; exact absurd rfl c
    have w3 : 0 ≤ fX5_leafOf σ := by
      rcases w with w | w | w
      · rw [c1] at w; exact absurd w (by decide)
      · rw [c2] at w; exact absurd w (by decide)
      · exact w
    rw [if_neg c, if_pos w3, ltE, if_pos q]; rfl
theorem op_q (t1 : gI σ 47 ≠ 20) (t2 : gI σ 49 ≤ 8) : ¬ (if (gI σ 47) = 20 then true else (if (gI σ 49) ≤ 8 then false else true)) = true := by
  rw [if_neg t1, if_pos t2]; decide
/-- not -/
theorem op_n (u : fX5_isWord σ 7237492 = 1) (t1 : gI σ 47 ≠ 20) (t2 : gI σ 49 ≤ 8) (nx : fX5_next N (sI σ 47 (gI σ 47 + 1)) = some σ1) : fX5_operand N σ = ((wA σ1 45 (gI σ1 48) 10).bind fun a => some (1, sI (sI a 48 (gI a 48 + 1)) 49 (gI a 49 + 1))) := by
  have c : (if fX5_isWord σ 7237492 = 0 then (if (fX5_isSign σ 40) = 0 then false else true) else true) = true := by rw [u, if_neg (by decide)]
  unfold fX5_operand
  rw [ltE, ltE, if_pos c, ltE, if_neg (op_q t1 t2), ltE, nx, Option.bind_some, ltE, if_pos c, u, if_neg (by decide)]
  rfl
/-- a bracket -/
theorem op_b (u : fX5_isWord σ 7237492 = 0) (s : fX5_isSign σ 40 = 1) (t1 : gI σ 47 ≠ 20) (t2 : gI σ 49 ≤ 8) (nx : fX5_next N (sI σ 47 (gI σ 47 + 1)) = some σ1) : fX5_operand N σ = ((wA σ1 45 (gI σ1 48) 13).bind fun a => some (1, sI (sI a 48 (gI a 48 + 1)) 49 (gI a 49 + 1))) := by
  have c : (if fX5_isWord σ 7237492 = 0 then (if (fX5_isSign σ 40) = 0 then false else true) else true) = true := by rw [u, s, if_pos rfl, if_neg (by decide)]
  unfold fX5_operand
  rw [ltE, ltE, if_pos c, ltE, if_neg (op_q t1 t2), ltE, nx, Option.bind_some, ltE, if_pos c, if_pos u]
  rfl
/-- a leaf -/
theorem op_l (u : fX5_isWord σ 7237492 = 0) (s : fX5_isSign σ 40 = 0) (t1 : gI σ 47 ≠ 20) (t2 : gI σ 49 ≤ 8) (l : fX5_leafOf σ = k) (hk : 0 ≤ k) (nx : fX5_next N (sI σ 47 (gI σ 47 + 1)) = some σ1) : fX5_operand N σ = if k = 0 then opT N (sI σ1 50 1) else opC N (sI σ1 50 1) k := by
  have c : ¬ (if fX5_isWord σ 7237492 = 0 then (if (fX5_isSign σ 40) = 0 then false else true) else true) = true := by rw [u, s, if_pos rfl, if_pos rfl]; decide
  unfold fX5_operand
  rw [ltE, ltE, if_neg c, l, if_pos hk, ltE, if_neg (op_q t1 t2), ltE, nx, Option.bind_some, ltE, if_neg c, ltE]
  by_cases z : k = 0
  · rw [if_pos z, if_pos z, z]
    rfl
  · rw [if_neg z, if_neg z]
    rfl
end PUG
