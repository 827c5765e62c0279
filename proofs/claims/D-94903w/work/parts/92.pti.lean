/-! readers: one token, whole -/
section PTI
variable {h0 h h' : HS} {σ σ' : MS} {N b rd sz lim P Zm Wm : Nat}
/-- the component's word, once it is known that it is one -/
def goW (N : Nat) (σ15 : HS) (x0 : Nat) (r27 : Int32) : Option HS := ((pI σ15 x0 5 7 6 0).bind fun σ34 => ((nO σ34 16 4).bind fun r35 => ((fJ5_init N r35.2 r35.1).bind fun r36 => ((lX6_go_221 N N r36 x0 (fX6_isLetter r27) 1 r35.1).bind fun q86 => gT q86.1 r35.1 16 16 (((fJ5_toString N q86.1 r35.1).bind fun r87 => ((pR r87.2 x0 5 7 8 (some r87.1)).bind fun σ88 => (if q86.2 = 0 then ((pI σ88 x0 5 7 4 1).bind fun σ90 => some σ90) else ((oI σ88 x0 5 7 3).bind fun v91 => ((oI σ88 x0 5 7 5).bind fun v92 => (if (fX6_isLetter r27) = 0 then (if (v91 - v92) ≤ 3 then (if (fX6_isLetter r27) = 0 then ((pI σ88 x0 5 7 4 3).bind fun σ96 => some σ96) else ((pI σ88 x0 5 7 4 2).bind fun σ97 => some σ97)) else ((pI σ88 x0 5 7 4 1).bind fun σ98 => some σ98)) else (if (v91 - v92) ≤ 7 then (if (fX6_isLetter r27) = 0 then ((pI σ88 x0 5 7 4 3).bind fun σ101 => some σ101) else ((pI σ88 x0 5 7 4 2).bind fun σ102 => some σ102)) else ((pI σ88 x0 5 7 4 1).bind fun σ103 => some σ103)))))))))))))
def nxW (N : Nat) (σ9 : MS) (r13 : Int32) : Option MS := (lt_ (sL σ9 0) fun σ21 => (lt_ (sI σ21 14 0) fun σ22 => ((lX5_next_181 N N σ22 (fX5_isSmall r13) 1).bind fun q55 => (if q55.2 = 0 then (lt_ (sI q55.1 11 4) fun σ57 => some σ57) else (if (fX5_isSmall r13) = 0 then (if (gI q55.1 13) ≤ 3 then (if (fX5_isSmall r13) = 0 then (lt_ (sI q55.1 11 2) fun σ61 => some σ61) else (lt_ (sI q55.1 11 1) fun σ62 => some σ62)) else (lt_ (sI q55.1 11 4) fun σ63 => some σ63)) else (if (gI q55.1 13) ≤ 7 then (if (fX5_isSmall r13) = 0 then (lt_ (sI q55.1 11 2) fun σ66 => some σ66) else (lt_ (sI q55.1 11 1) fun σ67 => some σ67)) else (lt_ (sI q55.1 11 4) fun σ68 => some σ68)))))))
/-- what kind a word turns out to be -/
def kdC (y2 : Bool) (y3 : Int32) (j : Nat) : Nat := if y3 = 0 then 1 else if y2 = true then (if j ≤ 7 then 2 else 1) else (if j ≤ 3 then 3 else 1)
def kdM (k : Nat) : Nat := if k = 2 then 1 else if k = 3 then 2 else 4
theorem word_both (hN : 200000 ≤ N) (R : PR0 h0 b rd sz lim Zm Wm P h σ) (h5 : kI h rd 5 = nI P) (m12 : gI σ 12 = nI P) (m13 : gI σ 13 = 0) (hP : P < sz) {c : Nat} (hc : ocN σ P = c) (al : lt8 c = true ∨ dg8 c = true) : ∃ h' σ' P', goW N h rd (nI c) = some h' ∧ nxW N σ (nI c) = some σ' ∧ PRS h0 b rd sz lim Zm Wm true P' h' σ' ∧ P < P' ∧ tkK rd h h' σ σ' := by
  obtain ⟨RB0, ⟨g1, g2, g3, g4⟩, rj, ⟨z1, z2, z3⟩, z4, z5⟩ := id R
  have c256 : c < 256 := by rw [← hc]; exact (oc_n P).2
  have rl := RB0.1.2.2.2.2
  have s940 := RB0.2.2.1.2.1
  have rb18 := RB0.1.2.2.2.1
  -- the number is set to 0
  have RB1 : RB (setR h rd (upd (kI h rd) 6 0)) b rd sz lim P σ := RB0.row RB0.2.2.1.1 (pk_un (by decide)) (pk_un (by decide)) (by rw [pk_un (by decide)]; exact RB0.2.2.2.1.2.2) rfl rfl RB0.2.2.2.2.2.2 rfl
  -- a builder
  obtain ⟨hA, a1, a2, a3, a4, a5, a6⟩ := sb_new (N := N) (h := setR h rd (upd (kI h rd) 6 0)) (show kZ h + 2 ≤ kG h 1 by omega) (show kW h + 20 ≤ kG h 2 by omega) z1
  have a5 : kZ hA = kZ h + 2 := a5
  have a6 : kW hA = kW h + 20 := a6
  have a1 : nO (setR h rd (upd (kI h rd) 6 0)) 16 4 = some (kZ h, tA (setR h rd (upd (kI h rd) 6 0)) 16 0 4) := a1
  have a2 : fJ5_init N (tA (setR h rd (upd (kI h rd) 6 0)) 16 0 4) (kZ h) = some hA := a2
  have a3 : SBR hA (kZ h) (kZ h + 1) [] := a3
  obtain ⟨t1, t2, t3, t4⟩ := a4.2.2 rd rl id
  have KA : ond (fun q => q = rd) h hA := ond.setR.tr a4 fun _ _ z => z.elim
  obtain ⟨σ2, es2⟩ : ∃ σ2, σ2 = sI (sL σ 0) 14 0 := ⟨_, rfl⟩
  have RBA : RB hA b rd sz lim P σ2 := by
    rw [es2]
    refine RB0.of RB0.2.2.1.1 KA (by rw [t1]; rfl) (by rw [t4]; rfl) ?_ ?_ ?_ rfl rfl RB0.2.2.2.2.2.2 rfl
    · rw [t3, setR_I, pk_un (by decide)]
    · rw [t3, setR_I, pk_un (by decide)]
    · rw [t3, setR_I, pk_un (by decide)]; exact RB0.2.2.2.1.2.2
  have hA5 : kI hA rd 5 = nI P := by rw [t3, setR_I, pk_un (by decide)]; exact h5
  -- the loop
  have L0 : LSc hA hA rd P 0 (kZ h) (kZ h + 1) [] 0 := ⟨by rw [Nat.add_zero]; exact RBA.2.2.2.1.2.2, by rw [t3, setR_I, pk_us], fun _ _ _ => rfl, a3, ond.refl, rfl, rfl, rfl, rfl, rfl⟩
  have M0 : LSm σ2 σ2 P 0 [] 0 := by
    rw [es2]
    exact ⟨by rw [Nat.add_zero]; exact RB0.2.2.2.2.2.2, m13, rfl, rfl, fun _ _ _ _ => rfl, rfl, rfl⟩
  have T0 : TF (lt8 c) 0 1 [] 0 := ⟨Or.inr rfl, rfl, fun _ x hx => (by cases hx), fun _ _ => ⟨0, by decide, rfl⟩⟩
  have oc2 : ocN σ2 (P + 0) = c := by rw [es2]; exact hc
  obtain ⟨j, h3, σ3, y3, l, num, p1, p2, p3, p4, p5, p6, p7, p8⟩ := tok_loop (N := N) (y2 := lt8 c) RBA hA5 ⟨by omega, by omega, by omega⟩ ⟨by omega, by omega⟩ (sz - P) 0 hA σ2 1 [] 0 N (by omega) (by omega) L0 M0 T0
  have j1 : 0 < j := p8 ⟨by omega, by rw [oc2]; exact al⟩
  have RB3 := LSc.rb RBA p5 p6 ⟨by omega, by omega, by omega⟩ p2
  obtain ⟨l1, l2, l3, l4, l5, l6, l7, l8, l9, l10⟩ := id p5
  obtain ⟨q1, q2, q3, q4, q5, q6, q7⟩ := id p6
  have ll : l.length ≤ 7 := by have := p7.2.1; omega
  have G3 : kG h3 = kG h := by rw [l5.2.1, a4.2.1]; rfl
  have K3 : ond (fun q => q = rd) h h3 := KA.tr l5 fun q hq z => by omega
  -- the string
  obtain ⟨h4, b1, b2, b3, b4, b5⟩ := sb_str (N := N) (b := b) l4 (by omega) (by rw [l6, a5]; omega) (by rw [G3, l6, a5]; omega) (by rw [l6, a5]; omega) (by rw [l6, a5]; omega) (by rw [G3, l6, a5]; omega) (by rw [G3, l7, a6]; omega)
  obtain ⟨d1, d2, d3, d4⟩ := b3.2.2 rd (by rw [l6, a5]; omega) id
  have K4 : ond (fun q => q = rd) h h4 := K3.tr b3 fun _ _ z => z.elim
  have RB4 : RB h4 b rd sz lim (P + j) σ3 := RB3.of p2 (b3.up fun _ _ z => z.elim) d1 (by rw [d4]) (by rw [d3]) (by rw [d3]) (by rw [d3]; exact l1) rfl rfl q1 rfl
  obtain ⟨h5', e5⟩ : ∃ h5', h5' = tR h4 rd 8 (some (kZ h3)) := ⟨_, rfl⟩
  have pr : pR h4 rd 5 7 8 (some (kZ h3)) = some h5' := by rw [e5]; exact pR_n RB4.1.1 RB4.1.2.1 RB4.1.2.2.1
  have K5 : ond (fun q => q = rd) h h5' := by rw [e5]; exact K4.trans ond.tR
  have RB5 : RB h5' b rd sz lim (P + j) σ3 := by
    rw [e5]
    exact RB4.of p2 ond.tR rfl (by rw [kR_tR, if_neg (by omega)]) rfl rfl RB4.2.2.2.1.2.2 rfl rfl q1 rfl
  obtain ⟨kd, ekd⟩ : ∃ kd, kd = kdC (lt8 c) y3 j := ⟨_, rfl⟩
  have S5 : StrR h5' (kI h5') b (kZ h3) l := by rw [e5]; exact b2.ond ond.tR (by rw [l6, a5]; omega) (by
    have k1 := b2.2.2.2.2.1
    intro z
    have k2 := RB4.1.1
    have k3 := RB4.1.2.1
    rw [z] at k1
    omega)
  have i5 : ∀ k, kI h5' rd k = kI h3 rd k := fun k => by rw [e5, kI_tR, d3]
  have ib : ∀ k, k ≠ 3 → k ≠ 6 → kI h3 rd k = kI h rd k := fun k k1 k2 => by rw [l3 k k1 k2, t3, setR_I, pk_un k2]
  have kk : kd = 1 ∨ kd = 2 ∨ kd = 3 := by
    rw [ekd]; unfold kdC
    by_cases c1 : y3 = 0
    · rw [if_pos c1]; exact Or.inl rfl
    · rw [if_neg c1]
      by_cases c2 : lt8 c = true
      · rw [if_pos c2]
        by_cases c3 : j ≤ 7
        · rw [if_pos c3]; exact Or.inr (Or.inl rfl)
        · rw [if_neg c3]; exact Or.inl rfl
      · rw [if_neg c2]
        by_cases c3 : j ≤ 3
        · rw [if_pos c3]; exact Or.inr (Or.inr rfl)
        · rw [if_neg c3]; exact Or.inl rfl
  refine ⟨tI h5' rd 4 (nI kd), sI σ3 11 (nI (kdM kd)), P + j, ?_, ?_, ⟨⟨?_, ⟨g1.ond (K5.trans ond.tI) g2, g2, g3, g4⟩, fun k hk => ?_, ⟨?_, ?_, ?_⟩, ?_, ?_⟩, ⟨P, by omega, ?_, ?_⟩, ?_, fun _ _ => ⟨?_, ?_⟩⟩, by omega, ⟨K5.trans ond.tI, ?_, fun k hk => ?_, fun k hk => ?_, ?_, ?_, fun k k1 k2 k3 k4 k5 => ?_⟩⟩
  · -- the component
    unfold goW
    rw [rb_p RB0, tI_set]
    simp only [Option.bind_some, a1, a2, isL c256]
    rw [p3]
    simp only [Option.bind_some, sb_gT l4, b1, pr]
    have r4 : ∀ v, pI h5' rd 5 7 4 v = some (tI h5' rd 4 v) := fun v => rb_p RB5
    simp only [r4, rb_o RB5, i5, Option.bind_some]
    rw [ekd]; unfold kdC
    have dj : kI h3 rd 3 - kI h3 rd 5 = nI j := by
      rw [l1, ib 5 (by decide) (by decide), h5, show nI (P + j) - nI P = nI (P + j - P) from pk_sub (by omega), Nat.add_sub_cancel_left]
    rw [dj]
    by_cases c1 : y3 = 0
    · rw [if_pos c1, if_pos c1]; rfl
    · rw [if_neg c1, if_neg c1]
      cases c2 : lt8 c with
      | true =>
        rw [bI_t, if_neg (show ¬ (1 : Int32) = 0 by decide), if_pos rfl]
        by_cases c3 : j ≤ 7
        · rw [if_pos (show nI j ≤ 7 from nI_le (b := 7) c3 (by decide)), if_neg (show ¬ (1 : Int32) = 0 by decide), if_pos c3]; rfl
        · rw [if_neg (show ¬ nI j ≤ 7 from nI_ge (a := 7) (by omega) (by omega)), if_neg c3]; rfl
      | false =>
        rw [bI_f, if_pos rfl, if_neg (show ¬ false = true by decide)]
        by_cases c3 : j ≤ 3
        · rw [if_pos (show nI j ≤ 3 from nI_le (b := 3) c3 (by decide)), if_pos rfl, if_pos c3]; rfl
        · rw [if_neg (show ¬ nI j ≤ 3 from nI_ge (a := 3) (by omega) (by omega)), if_neg c3]; rfl
  · -- the Model
    unfold nxW
    simp only [lt_, ← es2, isL5, isL c256]
    rw [p4]
    simp only [Option.bind_some, q2]
    rw [ekd]; unfold kdC
    by_cases c1 : y3 = 0
    · rw [if_pos c1, if_pos c1]; rfl
    · rw [if_neg c1, if_neg c1]
      cases c2 : lt8 c with
      | true =>
        rw [bI_t, if_neg (show ¬ (1 : Int32) = 0 by decide), if_pos rfl]
        by_cases c3 : j ≤ 7
        · rw [if_pos (show nI j ≤ 7 from nI_le (b := 7) c3 (by decide)), if_neg (show ¬ (1 : Int32) = 0 by decide), if_pos c3]; rfl
        · rw [if_neg (show ¬ nI j ≤ 7 from nI_ge (a := 7) (by omega) (by omega)), if_neg c3]; rfl
      | false =>
        rw [bI_f, if_pos rfl, if_neg (show ¬ false = true by decide)]
        by_cases c3 : j ≤ 3
        · rw [if_pos (show nI j ≤ 3 from nI_le (b := 3) c3 (by decide)), if_pos rfl, if_pos c3]; rfl
        · rw [if_neg (show ¬ nI j ≤ 3 from nI_ge (a := 3) (by omega) (by omega)), if_neg c3]; rfl
  · exact RB5.of p2 ond.tI rfl rfl (by rw [kI_tI, if_neg (by omega)]) (by rw [kI_tI, if_neg (by omega)]) (by rw [kI_tI, if_neg (by omega)]; exact RB5.2.2.2.1.2.2) rfl rfl q1 rfl
  · show gJ σ3 10 k = _
    rw [q7, es2]; exact rj k hk
  · rw [(K5.trans ond.tI).2.1]; have := (K5.trans (ond.tI (a := rd) (k := 4) (v := nI kd))).1; omega
  · rw [(K5.trans ond.tI).2.1]; exact z2
  · rw [(K5.trans ond.tI).2.1]; exact z3
  · show kZ h5' + _ ≤ _
    rw [e5, kZ_tR, b4, l6, a5]; omega
  · show kW h5' + _ ≤ _
    rw [e5, kW_tR, b5, l7, a6]; omega
  · rw [kI_tI, if_neg (by omega), i5, ib 5 (by decide) (by decide)]; exact h5
  · show gI σ3 12 = _
    rw [q5 12 (by decide) (by decide) (by decide), es2]; exact m12
  · -- what is at hand
    have k4 : kI (tI h5' rd 4 (nI kd)) rd 4 = nI kd := by rw [kI_tI, if_pos ⟨rfl, rfl⟩]
    have g11 : gI (sI σ3 11 (nI (kdM kd))) 11 = nI (kdM kd) := rfl
    unfold TKR
    rw [k4, g11]
    rcases kk with z | z | z
    · rw [z]; exact Or.inr (Or.inl ⟨Or.inl rfl, rfl⟩)
    · have zz := z
      rw [ekd] at zz
      unfold kdC at zz
      have n0 : ¬ y3 = 0 := fun y => by rw [if_pos y] at zz; cases zz
      rw [if_neg n0] at zz
      have n2 : lt8 c = true := by
        cases y : lt8 c with
        | true => rfl
        | false =>
          rw [y, if_neg (by decide)] at zz
          by_cases w : j ≤ 3
          · rw [if_pos w] at zz; cases zz
          · rw [if_neg w] at zz; cases zz
      rw [if_pos n2] at zz
      have n3 : j ≤ 7 := by
        by_cases w : j ≤ 7
        · exact w
        · rw [if_neg w] at zz; cases zz
      have tl := p7.2.2.1 (p7.1.resolve_left n0)
      rw [z]
      refine Or.inr (Or.inr (Or.inl ⟨rfl, rfl, kZ h3, l, ?_, ⟨by rw [p7.2.1]; omega, ll, fun x hx => ?_⟩, ?_, q4⟩))
      · show kR h5' rd 8 = _
        rw [e5, kR_tR, if_pos ⟨rfl, rfl⟩]
      · have := (tl x hx).1
        rw [n2] at this
        exact of_decide_eq_true this
      · exact S5.ond ond.tI (by rw [l6, a5]; omega) (by
          have k1 := S5.2.2.2.2.1
          intro w
          have k2 := RB5.1.1
          have k3 := RB5.1.2.1
          rw [w] at k1
          omega)
    · have zz := z
      rw [ekd] at zz
      unfold kdC at zz
      have n0 : ¬ y3 = 0 := fun y => by rw [if_pos y] at zz; cases zz
      rw [if_neg n0] at zz
      have n2 : lt8 c = false := by
        cases y : lt8 c with
        | false => rfl
        | true =>
          rw [y, if_pos rfl] at zz
          by_cases w : j ≤ 7
          · rw [if_pos w] at zz; cases zz
          · rw [if_neg w] at zz; cases zz
      obtain ⟨k, k1, k2⟩ := p7.2.2.2 (p7.1.resolve_left n0) n2
      have k3 : k < 10 ^ 3 := Nat.lt_of_lt_of_le k1 (Nat.pow_le_pow_right (by decide) (by omega))
      rw [z]
      refine Or.inr (Or.inr (Or.inr (Or.inl ⟨rfl, rfl, k, by omega, ?_, ?_⟩)))
      · rw [kI_tI, if_neg (by omega), i5, l2]; exact k2
      · show gI σ3 14 = _
        rw [q3]; exact k2
  · show kZ h5' + _ + _ ≤ _
    rw [e5, kZ_tR, b4, l6, a5]; omega
  · show kW h5' + _ + _ ≤ _
    rw [e5, kW_tR, b5, l7, a6]; omega
  · show kT h5' rd = _
    rw [e5, kT_tR, d1, l9, t1]; rfl
  · show kR h5' rd k = _
    rw [e5, kR_tR, if_neg (fun z => hk z.2), d4, l8, t4]; rfl
  · rw [kI_tI, if_neg (by omega), i5]; exact ib k (by omega) (by omega)
  · show gA σ3 = _
    rw [q6, es2]; rfl
  · show gJ σ3 = _
    rw [q7, es2]; rfl
  · rw [gI_sI, if_neg k2, q5 k k1 k4 k5, es2, gI_sI, if_neg k5]; rfl
end PTI
