/-! sentences: the leaves with numbers -/
section PUI
variable {h0 h h' h2 : HS} {σ0 σ σ' : MS} {N b rd sz lim P Zm Wm O x fa : Nat} {sp wh : Bool} {F : Nat → Nat} {S : List Nat} {C : List CD3} {x1 : Int32}
theorem tk_cm (T : TKR h b rd σ) : (kI h rd 4 = 6 ∧ gI σ 11 = 3 ∧ ∃ c, (c = 60 ∨ c = 61 ∨ c = 62) ∧ kI h rd 7 = nI c ∧ gI σ 14 = nI c) ∨ (¬ (kI h rd 4 = 6 ∧ kI h rd 7 ≠ 40 ∧ kI h rd 7 ≠ 41) ∧ (if gI σ 11 = 3 then (if gI σ 14 < 60 then true else false) else true) = true) := by
  rcases T with ⟨a, b⟩ | ⟨a, b⟩ | ⟨a, b, -⟩ | ⟨a, b, -⟩ | ⟨a, b, d⟩ | ⟨a, b, d, d1, d2, d3⟩
  · exact Or.inr ⟨by rw [a]; exact fun z => absurd z.1 (by decide), by rw [b, if_neg (by decide)]⟩
  · exact Or.inr ⟨by rcases a with a | a <;> rw [a] <;> exact fun z => absurd z.1 (by decide), by rw [b, if_neg (by decide)]⟩
  · exact Or.inr ⟨by rw [a]; exact fun z => absurd z.1 (by decide), by rw [b, if_neg (by decide)]⟩
  · exact Or.inr ⟨by rw [a]; exact fun z => absurd z.1 (by decide), by rw [b, if_neg (by decide)]⟩
  · exact Or.inr ⟨by rw [a]; exact fun z => absurd z.1 (by decide), by rw [b, if_pos rfl, d, if_pos (by decide)]⟩
  · rcases d1 with rfl | rfl | d1
    · exact Or.inr ⟨by rw [d2]; exact fun z => absurd rfl z.2.1, by rw [b, if_pos rfl, d3, if_pos (by decide)]⟩
    · exact Or.inr ⟨by rw [d2]; exact fun z => absurd rfl z.2.2, by rw [b, if_pos rfl, d3, if_pos (by decide)]⟩
    · exact Or.inl ⟨a, b, d, d1, d2, d3⟩
theorem th_ok (T : kT h rd = 7) (k1 : kI h rd 4 = 6) (k2 : kI h rd 7 ≠ 40) (k3 : kI h rd 7 ≠ 41) : fX13_than N h rd x1 = ((fX6_go N h rd).bind fun r22 => ((nO r22 13 3).bind fun r23 => gT r23.2 rd 7 7 (((fX6_number N r23.2 rd 0 999).bind fun r24 => thr r24.1 (fun b24 => some (.inl b24, r24.2)) fun w24 => ((fX17_init N r24.2 r23.1 x1 (kI h rd 7) w24).bind fun r25 => some ((Sum.inr r23.1 : Nat ⊕ Nat), r25)))))) := by
  have o : ∀ k, oI h rd 7 7 k = some (kI h rd k) := fun k => oI_n (by omega) (by omega)
  have gt : ∀ {α : Type} (x : Option α), gT h rd 7 7 x = x := fun x => gT_n (by omega) (by omega)
  unfold fX13_than
  rw [o 4, Option.bind_some, if_pos k1, o 7, Option.bind_some, if_neg k2, Option.bind_some, if_neg (by decide), Option.bind_some, if_neg k3, gt, need_1, Option.bind_some]
  show ((oI h rd 7 7 7).bind fun v21 => gT h rd 7 7 _) = _
  rw [o 7, Option.bind_some, gt]
theorem th_no (T : kT h rd = 7) (nk : ¬ (kI h rd 4 = 6 ∧ kI h rd 7 ≠ 40 ∧ kI h rd 7 ≠ 41)) (hf : fX6_need N h rd 0 1 = some (.inl fa, h')) : fX13_than N h rd x1 = some (.inl fa, h') := by
  have o : ∀ k, oI h rd 7 7 k = some (kI h rd k) := fun k => oI_n (by omega) (by omega)
  have gt : ∀ {α : Type} (x : Option α), gT h rd 7 7 x = x := fun x => gT_n (by omega) (by omega)
  unfold fX13_than
  rw [o 4, Option.bind_some]
  by_cases c1 : kI h rd 4 = 6
  · rw [if_pos c1, o 7, Option.bind_some]
    by_cases c2 : kI h rd 7 = 40
    · rw [if_pos c2, Option.bind_some, if_pos rfl, gt, hf, Option.bind_some]; rfl
    · have c3 : kI h rd 7 = 41 := by
        by_cases z : kI h rd 7 = 41
        · exact z
        · exact absurd ⟨c1, c2, z⟩ nk
      rw [if_neg c2, Option.bind_some, if_neg (by decide), Option.bind_some, if_pos c3, gt, hf, Option.bind_some]; rfl
  · rw [if_neg c1, Option.bind_some, if_pos rfl, gt, hf, Option.bind_some]; rfl
theorem th_both (hN : 200000 ≤ N) (R : PRS h0 b rd sz lim Zm Wm true P h σ) (T : kT h rd = 7) (r1 : Zm + 1 + 10 ≤ kG h0 1) (r2 : Wm + 8 + 100 ≤ kG h0 2) (hS : SM σ0 S C O wh σ) (hC : C.length < 45) (hx : x < 6) :
    (∃ fa h' σ', fX13_than N h rd (nI x) = some (.inl fa, h') ∧ opC N σ (nI (x + 1)) = some (0, σ') ∧ FLT h0 (Zm + 1) (Wm + 8) h' fa σ' ∧ SMe σ0 σ') ∨
    ∃ c h' σ' P' s n, fX13_than N h rd (nI x) = some (.inr c, h') ∧ opC N σ (nI (x + 1)) = some (1, σ') ∧ PRS h0 b rd sz lim (Zm + 1) (Wm + 8) true P' h' σ' ∧ P ≤ P' ∧ sK rd h h' ∧ kI h' rd 10 = kI h rd 10 ∧ kI h' rd 11 = kI h rd 11 ∧ CondR h' (kI h') b F 1 c [(x + 1, s, n)] ∧ SM σ0 S (C ++ [(x + 1, s, n)]) O wh σ' ∧ gI σ' 15 = gI σ 15 := by
  unfold opC
  rcases tk_cm R.tk with ⟨k1, m1, c, hc, k2, m2⟩ | ⟨nk, m1⟩
  · have q : ¬ (if gI σ 11 = 3 then (if gI σ 14 < 60 then true else false) else true) = true := by
      rw [m1, if_pos rfl, m2]
      rcases hc with rfl | rfl | rfl <;> decide
    have q2 : gI σ 14 ≤ 62 := by rw [m2]; rcases hc with rfl | rfl | rfl <;> decide
    rw [if_neg q, if_pos q2, th_ok T k1 (by rw [k2]; rcases hc with rfl | rfl | rfl <;> decide) (by rw [k2]; rcases hc with rfl | rfl | rfl <;> decide)]
    obtain ⟨h3, σ3, P1, g1, g2, R4, g4, g5, g6⟩ := go_both (N := N) hN R.1
    have S3 : SM σ0 S C O wh σ3 := sm_mk hS g6.m
    have G3 : kG h3 = kG h0 := R4.1.2.1.1.2.1
    obtain ⟨n1, R5⟩ := R4.nw (k := 13) (n := 3) (by decide) (by rw [G3]; exact r1) (by rw [G3]; exact r2)
    have rl : rd < kZ h := R.rb.1.2.2.2.2
    have rl3 : rd < kZ h3 := R4.rb.1.2.2.2.2
    have T5 : kT (tA h3 13 0 3) rd = 7 := by rw [kT_tA, if_neg (by omega), g6.2.1]; exact T
    rw [g1, Option.bind_some, n1, Option.bind_some, gT_n (by rw [T5]; exact Nat.le_refl _) (by rw [T5]; exact Nat.le_refl _), g2, Option.bind_some]
    unfold fX6_number
    rw [rb_g R5.rb]
    rcases hold_c (N := N) R5 0 999 with ⟨t, fa, h', e1, e2⟩ | ⟨t, k, hk, t4, t3, ⟨q, fa, h', e1, e2⟩ | ⟨q, e1⟩⟩
    · left
      rw [show ((tA h3 13 0 3 : HS)) = (kZ h3, tA h3 13 0 3).2 from rfl] at e1
      rw [e1, if_neg t]
      exact ⟨fa, h', _, rfl, rfl, e2, S3.e.bad⟩
    · exfalso
      unfold fX1_isIn at q
      rw [if_neg (show ¬ nI k < 0 from fun z => absurd z (by rw [Int32.not_lt]; exact nI_le (a := 0) (by omega) (by omega))), if_neg (show ¬ 999 < nI k from fun z => absurd z (by rw [Int32.not_lt]; exact nI_le (b := 999) (by omega) (by omega)))] at q
      exact absurd q (by decide)
    · right
      obtain ⟨σ4, c1, c2, c3⟩ := sm_code (N := N) S3 hC (x + 1) c k
      have R6 : PRS h0 b rd sz lim (Zm + 1) (Wm + 8) true P1 (tA h3 13 0 3) σ4 := R5.ms (c3.2.2.2 1 (by decide) (by decide)) (by rw [c3.2.2.1]) c3.2.1 (fun k hk => c3.1 k (by omega))
      obtain ⟨h5, σ5, P2, i1, i2, R7, i4, i5, i6⟩ := go_both (N := N) hN R6.1
      have z3 : kZ h3 < kZ (tA h3 13 0 3) := Nat.lt_succ_self _
      have Kz : kT h5 (kZ h3) = 13 := by
        rw [(i6.1.2.2 (kZ h3) z3 (show ¬ kZ h3 = rd by omega)).1, kT_tA, if_pos rfl]
      have gz : kG h5 0 ≤ kZ h3 := by
        rw [show kG h5 = kG h3 from i6.1.2.1]; exact R4.1.2.2.2.1.1
      have z0 := R4.1.2.1.1.1
      have ini : fX17_init N h5 (kZ h3) (nI x) (nI c) (nI k) = some (tI (tI (tI h5 (kZ h3) 0 (nI x)) (kZ h3) 1 (nI c)) (kZ h3) 2 (nI k)) := by
        unfold fX17_init
        rw [pI_n (h := h5) (by omega) (by omega) gz, Option.bind_some, pI_n (h := tI h5 (kZ h3) 0 (nI x)) (by rw [kT_tI]; omega) (by rw [kT_tI]; omega) gz, Option.bind_some, pI_n (h := tI (tI h5 (kZ h3) 0 (nI x)) (kZ h3) 1 (nI c)) (by rw [kT_tI, kT_tI]; omega) (by rw [kT_tI, kT_tI]; omega) gz, Option.bind_some]
      have G5 : kG h5 = kG h0 := (show kG h5 = kG h3 from i6.1.2.1).trans G3
      have od : ond (fun q => q = kZ h3) h5 (tI (tI (tI h5 (kZ h3) 0 (nI x)) (kZ h3) 1 (nI c)) (kZ h3) 2 (nI k)) := (ond.tI.trans ond.tI).trans ond.tI
      have Ks : sK rd h h5 := ((g6.c.sk.n rl).trans i6.c.sk)
      have kk : ∀ j, j = 10 ∨ j = 11 → kI (tI (tI (tI h5 (kZ h3) 0 (nI x)) (kZ h3) 1 (nI c)) (kZ h3) 2 (nI k)) rd j = kI h rd j := fun j hj => by
        rw [kI_tI, if_neg (by omega), kI_tI, if_neg (by omega), kI_tI, if_neg (by omega), i6.c.2.2.2 j (by omega), kI_tA, if_neg (by omega)]; exact g6.c.2.2.2 j (by omega)
      refine ⟨kZ h3, _, σ5, P2, c, k, ?_, ?_, ?_, Nat.le_trans g4 i4, Ks.w od (Nat.le_trans (Nat.le_refl _) g6.1.1) rl, kk 10 (Or.inl rfl), kk 11 (Or.inr rfl), ?_, sm_mk c2 i6.m, ?_⟩
      · rw [e1, Option.bind_some]
        simp only [thr, rb_g R5.rb, i1, Option.bind_some, k2, ini]
      · rw [if_pos t, m2, t4, c1, Option.bind_some, i2, Option.bind_some]
      · exact PRS.obj (t := 0) R7 od (fun q _ z => by have z : q = kZ h3 := z; rw [z, Kz]; exact ⟨z0, by decide, by decide⟩) (Nat.le_refl _) (Nat.le_refl _) (by rw [G5]; exact r1) (by rw [G5]; exact r2)
      · refine ⟨⟨Nat.lt_of_lt_of_le z3 i6.1.1, Or.inr (Or.inl (by have := R.1.2.1.2.2.1; omega))⟩, Or.inr (Or.inr (Or.inr ⟨Kz, x, c, k, hx, hc, hk, ?_, ?_, ?_, rfl⟩))⟩
        · rw [kI_tI, if_neg (by omega), kI_tI, if_neg (by omega), kI_tI, if_pos ⟨rfl, rfl⟩]
        · rw [kI_tI, if_neg (by omega), kI_tI, if_pos ⟨rfl, rfl⟩]
        · rw [kI_tI, if_pos ⟨rfl, rfl⟩]
      · rw [i6.2.2.2.2.2.2 15 (by decide) (by decide) (by decide) (by decide) (by decide), c3.1 15 (by decide)]; exact g6.2.2.2.2.2.2 15 (by decide) (by decide) (by decide) (by decide) (by decide)
  · left
    obtain ⟨fa, h', e1, e2⟩ := need_0 (N := N) R (k := 1) fun _ => rfl
    rw [if_pos m1, th_no T nk e1]
    exact ⟨fa, h', _, rfl, rfl, e2.mono (Nat.le_succ _) (Nat.le_add_right _ _), hS.e.bad⟩
end PUI
