/-! readers: one token, every kind -/
section PTJ
variable {h0 h h' : HS} {σ σ' : MS} {N b rd sz lim P Zm Wm : Nat}
def goS (σ15 : HS) (x0 : Nat) (r27 : Int32) : Option HS := (if r27 = 59 then ((pI σ15 x0 5 7 4 4).bind fun σ128 => ((pI σ128 x0 5 7 7 r27).bind fun σ129 => ((oI σ129 x0 5 7 3).bind fun v130 => ((pI σ129 x0 5 7 3 (v130 + 1)).bind fun σ131 => some σ131)))) else (lt_ (if r27 = 60 then true else (if r27 = 61 then true else false)) fun q105 => (if q105 = true then ((pI σ15 x0 5 7 4 6).bind fun σ108 => ((pI σ108 x0 5 7 7 r27).bind fun σ109 => ((oI σ109 x0 5 7 3).bind fun v110 => ((pI σ109 x0 5 7 3 (v110 + 1)).bind fun σ111 => some σ111)))) else (lt_ (if r27 = 62 then true else (if r27 = 40 then true else false)) fun q112 => (if q112 = true then ((pI σ15 x0 5 7 4 6).bind fun σ115 => ((pI σ115 x0 5 7 7 r27).bind fun σ116 => ((oI σ116 x0 5 7 3).bind fun v117 => ((pI σ116 x0 5 7 3 (v117 + 1)).bind fun σ118 => some σ118)))) else (if r27 = 41 then ((pI σ15 x0 5 7 4 6).bind fun σ124 => ((pI σ124 x0 5 7 7 r27).bind fun σ125 => ((oI σ125 x0 5 7 3).bind fun v126 => ((pI σ125 x0 5 7 3 (v126 + 1)).bind fun σ127 => some σ127)))) else ((pI σ15 x0 5 7 4 1).bind fun σ120 => ((pI σ120 x0 5 7 7 r27).bind fun σ121 => ((oI σ121 x0 5 7 3).bind fun v122 => ((pI σ121 x0 5 7 3 (v122 + 1)).bind fun σ123 => some σ123))))))))))
def nxS (σ9 : MS) (r13 : Int32) : Option MS := (lt_ (if r13 = 59 then true else (if r13 = 40 then true else false)) fun q69 => (if q69 = true then (lt_ (sI σ9 11 3) fun σ72 => (lt_ (sI σ72 14 r13) fun σ73 => (lt_ (sI σ73 4 ((gI σ73 4) + 1)) fun σ74 => some σ74))) else (if r13 = 41 then (lt_ (sI σ9 11 3) fun σ76 => (lt_ (sI σ76 14 r13) fun σ77 => (lt_ (sI σ77 4 ((gI σ77 4) + 1)) fun σ78 => some σ78))) else (lt_ (if r13 < 60 then true else (if 62 < r13 then true else false)) fun q79 => (if q79 = true then (lt_ (sI σ9 11 4) fun σ82 => (lt_ (sI σ82 14 r13) fun σ83 => (lt_ (sI σ83 4 ((gI σ83 4) + 1)) fun σ84 => some σ84))) else (lt_ (sI σ9 11 3) fun σ85 => (lt_ (sI σ85 14 r13) fun σ86 => (lt_ (sI σ86 4 ((gI σ86 4) + 1)) fun σ87 => some σ87))))))))
def kdS (c : Nat) : Nat := if c = 59 then 4 else if c = 60 ∨ c = 61 ∨ c = 62 ∨ c = 40 ∨ c = 41 then 6 else 1
theorem goS_k : ∀ c : Fin 256, (∀ (α : Type) (a4 a6 a1 : α), (if nI c.val = 59 then a4 else (lt_ (if nI c.val = 60 then true else (if nI c.val = 61 then true else false)) fun q105 => (if q105 = true then a6 else (lt_ (if nI c.val = 62 then true else (if nI c.val = 40 then true else false)) fun q112 => (if q112 = true then a6 else (if nI c.val = 41 then a6 else a1)))))) = if kdS c.val = 4 then a4 else if kdS c.val = 6 then a6 else a1) := by
  intro c α a4 a6 a1
  have e : ∀ n : Nat, n < 256 → (nI c.val = nI n ↔ c.val = n) := fun n hn => nI_eq (by have := c.isLt; omega) (by omega)
  unfold kdS lt_
  have e59 : (nI c.val = 59) = (c.val = 59) := propext (e 59 (by decide))
  have e60 : (nI c.val = 60) = (c.val = 60) := propext (e 60 (by decide))
  have e61 : (nI c.val = 61) = (c.val = 61) := propext (e 61 (by decide))
  have e62 : (nI c.val = 62) = (c.val = 62) := propext (e 62 (by decide))
  have e40 : (nI c.val = 40) = (c.val = 40) := propext (e 40 (by decide))
  have e41 : (nI c.val = 41) = (c.val = 41) := propext (e 41 (by decide))
  simp only [e59, e60, e61, e62, e40, e41]
  by_cases c1 : c.val = 59
  · simp [c1]
  by_cases c2 : c.val = 60
  · simp [c2]
  by_cases c3 : c.val = 61
  · simp [c3]
  by_cases c4 : c.val = 62
  · simp [c4]
  by_cases c5 : c.val = 40
  · simp [c5]
  by_cases c6 : c.val = 41
  · simp [c6]
  simp [c1, c2, c3, c4, c5, c6]
theorem nxS_k : ∀ c : Fin 256, (∀ (α : Type) (a3 a4 : α), (lt_ (if nI c.val = 59 then true else (if nI c.val = 40 then true else false)) fun q69 => (if q69 = true then a3 else (if nI c.val = 41 then a3 else (lt_ (if nI c.val < 60 then true else (if 62 < nI c.val then true else false)) fun q79 => (if q79 = true then a4 else a3))))) = if kdS c.val = 1 then a4 else a3) := by
  intro c α a3 a4
  have hc := c.isLt
  have e : ∀ n : Nat, n < 256 → (nI c.val = nI n ↔ c.val = n) := fun n hn => nI_eq (by omega) (by omega)
  unfold kdS lt_
  have e59 : (nI c.val = 59) = (c.val = 59) := propext (e 59 (by decide))
  have e40 : (nI c.val = 40) = (c.val = 40) := propext (e 40 (by decide))
  have e41 : (nI c.val = 41) = (c.val = 41) := propext (e 41 (by decide))
  have l60 : (nI c.val < 60) = (c.val < 60) := propext ⟨fun q => by
    by_cases z : c.val < 60
    · exact z
    · exact absurd q (nI_nlt (a := c.val) (b := 60) (by omega) (by omega)), fun q => nI_lt (b := 60) q (by decide)⟩
  have l62 : ((62 : Int32) < nI c.val) = (62 < c.val) := propext ⟨fun q => by
    by_cases z : 62 < c.val
    · exact z
    · exact absurd q (nI_nlt (a := 62) (b := c.val) (by omega) (by omega)), fun q => nI_lt (a := 62) q (by omega)⟩
  simp only [e59, e40, e41, l60, l62]
  by_cases c1 : c.val = 59
  · simp [c1]
  by_cases c5 : c.val = 40
  · simp [c5]
  by_cases c6 : c.val = 41
  · simp [c6]
  by_cases c7 : c.val < 60
  · have : ¬ (c.val = 60 ∨ c.val = 61 ∨ c.val = 62 ∨ c.val = 40 ∨ c.val = 41) := by omega
    simp [c1, c5, c6, c7, this]
    intro q; have := q (by omega) (by omega); omega
  by_cases c8 : 62 < c.val
  · have : ¬ (c.val = 60 ∨ c.val = 61 ∨ c.val = 62 ∨ c.val = 40 ∨ c.val = 41) := by omega
    simp [c1, c5, c6, c7, c8, this]
    intro q; have := q (by omega) (by omega); omega
  have : (c.val = 60 ∨ c.val = 61 ∨ c.val = 62 ∨ c.val = 40 ∨ c.val = 41) := by omega
  simp [c1, c5, c6, c7, c8, this]
  intro q1 q2 q3; omega
theorem go_both (hN : 200000 ≤ N) (R : PR0 h0 b rd sz lim Zm Wm P h σ) : ∃ h' σ' P', fX6_go N h rd = some h' ∧ fX5_next N σ = some σ' ∧ PRS h0 b rd sz lim Zm Wm true P' h' σ' ∧ P ≤ P' ∧ (kI h' rd 4 ≠ 0 → kI h' rd 4 ≠ 5 → P < P') ∧ tkK rd h h' σ σ' := by
  obtain ⟨RB0, ⟨g1, g2, g3, g4⟩, rj, ⟨z1, z2, z3⟩, z4, z5⟩ := id R
  have s940 := RB0.2.2.1.2.1
  have l940 := RB0.2.2.1.2.2
  obtain ⟨P1, w1, w2, w3, w4, w5⟩ := ws_both (N := N) (sz - P) P h σ N RB0 (by have := RB0.2.2.1.1; omega) (by omega)
  obtain ⟨σ1, es1⟩ : ∃ σ1, σ1 = sI (sI (sI σ 4 (nI P1)) 12 (nI P1)) 13 0 := ⟨_, rfl⟩
  obtain ⟨f1, ef1⟩ : ∃ f1, f1 = upd (upd (kI h rd) 3 (nI P1)) 5 (nI P1) := ⟨_, rfl⟩
  have RBa : RB (setR h rd (upd (kI h rd) 3 (nI P1))) b rd sz lim P1 (sI σ 4 (nI P1)) := RB0.row w2 (pk_un (by decide)) (pk_un (by decide)) pk_us rfl rfl rfl rfl
  have RB1 : RB (setR h rd f1) b rd sz lim P1 σ1 := by
    rw [es1, ef1]
    exact RB0.row w2 (by rw [pk_un (by decide), pk_un (by decide)]) (by rw [pk_un (by decide), pk_un (by decide)]) (by rw [pk_un (by decide), pk_us]) rfl rfl rfl rfl
  have i1 : ∀ k, kI (setR h rd f1) rd k = f1 k := fun k => by rw [setR_I]
  have f13 : f1 3 = nI P1 := by rw [ef1, pk_un (by decide), pk_us]
  have f15 : f1 5 = nI P1 := by rw [ef1, pk_us]
  have f1o : ∀ k, k ≠ 3 → k ≠ 5 → f1 k = kI h rd k := fun k k1 k2 => by rw [ef1, pk_un k2, pk_un k1]
  have f11 : f1 1 = nI sz := by rw [f1o 1 (by decide) (by decide)]; exact RB0.2.2.2.1.1
  have f12 : f1 2 = nI lim := by rw [f1o 2 (by decide) (by decide)]; exact RB0.2.2.2.1.2.1
  have m3 : gI σ1 3 = nI sz := RB1.2.2.2.2.1
  have m5 : gI σ1 5 = nI lim := RB1.2.2.2.2.2.1
  have m4 : gI σ1 4 = nI P1 := RB1.2.2.2.2.2.2
  have mk : ∀ k, k ≠ 4 → k ≠ 12 → k ≠ 13 → gI σ1 k = gI σ k := fun k k1 k2 k3 => by rw [es1, gI_sI, if_neg k3, gI_sI, if_neg k2, gI_sI, if_neg k1]
  have mA : gA σ1 = gA σ := by rw [es1]; rfl
  have mJ : gJ σ1 = gJ σ := by rw [es1]; rfl
  have m12 : gI σ1 12 = nI P1 := by rw [es1]; rfl
  have m13 : gI σ1 13 = 0 := by rw [es1]; rfl
  have oc1 : ocN σ1 P1 = ocN σ P1 := by unfold ocN; rw [mA]
  obtain ⟨X, hX⟩ : ∃ X, fX6_go N h rd = X := ⟨_, rfl⟩
  have e0 := hX
  unfold fX6_go at e0
  rw [w3] at e0
  simp only [Option.bind_some, tI_set (h := h), rb_o RBa, setR_I, pk_us, rb_p RBa, tI_setR, ← ef1] at e0
  simp only [rb_o RB1, i1, f11, f12, f13, f15, Option.bind_some] at e0
  obtain ⟨Y, hY⟩ : ∃ Y, fX5_next N σ = Y := ⟨_, rfl⟩
  have e1 := hY
  unfold fX5_next at e1
  rw [w4] at e1
  simp only [Option.bind_some, lt_, show gI (sI σ 4 (nI P1)) 4 = nI P1 from rfl, ← es1, m3, m5, m4] at e1
  by_cases more : lim < sz ∧ lim ≤ P1
  · -- too much text
    have c1 : ((if nI sz ≤ nI lim then some true else (if nI P1 < nI lim then some true else some false)) : Option Bool) = some false := by rw [if_neg (nI_ge more.1 (by omega)), if_neg (nI_nlt more.2 (by omega))]
    rw [c1] at e0
    simp only [Option.bind_some, Bool.false_eq_true, if_false, rb_p RB1, tI_setR] at e0
    have R2 : RB (setR h rd (upd f1 5 (nI lim))) b rd sz lim P1 σ1 := by
      have := RB1.row (f := upd f1 5 (nI lim)) (σ' := σ1) w2 (by rw [i1, pk_un (by decide)]) (by rw [i1, pk_un (by decide)]) (by rw [pk_un (by decide), f13]) rfl rfl m4 rfl
      rw [setR_set] at this
      exact this
    simp only [rb_p R2, tI_setR, Option.bind_some] at e0
    have c2 : (if nI sz ≤ nI lim then true else (if nI P1 < nI lim then true else false)) = false := by rw [if_neg (nI_ge more.1 (by omega)), if_neg (nI_nlt more.2 (by omega))]
    rw [c2] at e1
    simp only [Bool.false_eq_true, if_false] at e1
    obtain ⟨p1, p2, p3, p4⟩ := go_fin (f := upd (upd f1 5 (nI lim)) 4 5) (P1 := P1) (P' := P1) (a := lim) (v4 := 5) (v6 := kI h rd 6) (v7 := kI h rd 7) (σ2 := sI (sI σ1 12 (nI lim)) 11 4) R w1 w2 l940 (by
      funext k
      by_cases k4 : k = 4
      · rw [k4, pk_us]; rfl
      · rw [pk_un k4]
        by_cases k5 : k = 5
        · rw [k5, pk_us]; rfl
        · rw [pk_un k5]
          by_cases k3 : k = 3
          · rw [k3, f13]; rfl
          · rw [f1o k k3 k5, if_neg k3, if_neg k4, if_neg k5]
            by_cases k6 : k = 6
            · rw [if_pos k6, k6]
            · rw [if_neg k6]
              by_cases k7 : k = 7
              · rw [if_pos k7, k7]
              · rw [if_neg k7]) m4 rfl mA mJ (fun k k1 k2 k3 k4 k5 => by rw [gI_sI, if_neg k2, gI_sI, if_neg k3]; exact mk k k1 k3 k4) (by decide) (Or.inr (Or.inl ⟨Or.inr (by rw [setR_I, pk_us]), rfl⟩)) (fun _ q => absurd rfl q)
    exact ⟨_, _, P1, by rw [hX, ← e0], by rw [hY, ← e1], p1, p2, p3, p4⟩
  · have c1 : ((if nI sz ≤ nI lim then some true else (if nI P1 < nI lim then some true else some false)) : Option Bool) = some true := by
      by_cases q : sz ≤ lim
      · rw [if_pos (nI_le q (by omega))]
      · rw [if_neg (nI_ge (by omega) (by omega)), if_pos (nI_lt (by omega) (by omega))]
    have c2 : (if nI sz ≤ nI lim then true else (if nI P1 < nI lim then true else false)) = true := by
      by_cases q : sz ≤ lim
      · rw [if_pos (nI_le q (by omega))]
      · rw [if_neg (nI_ge (by omega) (by omega)), if_pos (nI_lt (by omega) (by omega))]
    rw [c1] at e0
    rw [c2] at e1
    simp only [Option.bind_some, if_true] at e0 e1
    rw [mo_peek m3 m4 s940 (by omega)] at e1
    simp only [Option.bind_some] at e1
    by_cases st : P1 < sz
    case neg =>
      -- the end
      rw [if_neg (nI_nlt (by omega) (by omega))] at e0
      rw [if_neg st, if_neg (show ¬ (0 : Int32) ≤ -1 by decide)] at e1
      simp only [rb_p RB1, tI_setR, Option.bind_some] at e0
      obtain ⟨p1, p2, p3, p4⟩ := go_fin (f := upd f1 4 0) (P1 := P1) (P' := P1) (a := P1) (v4 := 0) (v6 := kI h rd 6) (v7 := kI h rd 7) (σ2 := sI σ1 11 0) R w1 w2 (by omega) (by
        funext k
        by_cases k4 : k = 4
        · rw [k4, pk_us]; rfl
        · rw [pk_un k4]
          by_cases k5 : k = 5
          · rw [k5, f15]; rfl
          · by_cases k3 : k = 3
            · rw [k3, f13]; rfl
            · rw [f1o k k3 k5, if_neg k3, if_neg k4, if_neg k5]
              by_cases k6 : k = 6
              · rw [if_pos k6, k6]
              · rw [if_neg k6]
                by_cases k7 : k = 7
                · rw [if_pos k7, k7]
                · rw [if_neg k7]) m4 m12 mA mJ (fun k k1 k2 k3 k4 k5 => by rw [gI_sI, if_neg k2]; exact mk k k1 k3 k4) (by decide) (Or.inl ⟨by rw [setR_I, pk_us], rfl⟩) (fun q => absurd rfl q)
      exact ⟨_, _, P1, by rw [hX, ← e0], by rw [hY, ← e1], p1, p2, p3, p4⟩
    rw [if_pos (nI_lt st (by omega))] at e0
    rw [if_pos st, if_pos (show (0 : Int32) ≤ nI (ocN σ1 P1) from nI_le (a := 0) (by omega) (by have := (oc_n (σ := σ1) P1).2; omega))] at e1
    obtain ⟨c, hc⟩ : ∃ c, ocN σ1 P1 = c := ⟨_, rfl⟩
    have c256 : c < 256 := by rw [← hc]; exact (oc_n P1).2
    simp only [rb_g RB1, rb_byte RB1 (show P1 < 2000 by omega), if_pos st, Option.bind_some] at e0
    rw [hc] at e0 e1
    simp only [isL5, isD5, isL c256, isD c256] at e0 e1
    by_cases al : lt8 c = true ∨ dg8 c = true
    · -- a word or a number
      have q29 : (if bI (lt8 c) = 0 then (if bI (dg8 c) = 0 then false else true) else true) = true := by
        rcases al with q | q
        · rw [q, bI_t, if_neg (by decide)]
        · cases hl : lt8 c with
          | true => rw [bI_t, if_neg (by decide)]
          | false => rw [bI_f, if_pos rfl, q, bI_t, if_neg (by decide)]
      rw [q29] at e0 e1
      simp only [lt_, if_true] at e0 e1
      have R1 : PR0 h0 b rd sz lim Zm Wm P1 (setR h rd f1) σ1 := ⟨RB1, ⟨g1.ond ond.setR g2, g2, g3, g4⟩, fun k hk => by rw [mJ]; exact rj k hk, ⟨z1, z2, z3⟩, by show kZ h + _ ≤ _; omega, by show kW h + _ ≤ _; omega⟩
      obtain ⟨h', σ', P', p1, p2, p3, p4, p5⟩ := word_both (N := N) hN R1 (by rw [i1]; exact f15) m12 m13 st hc al
      refine ⟨h', σ', P', ?_, ?_, p3, by omega, fun _ _ => by omega, ?_⟩
      · rw [hX, ← e0, ← p1]
        unfold goW
        simp only [isL c256]
      · rw [hY, ← e1, ← p2]
        unfold nxW
        simp only [lt_, isL5, isL c256]
      · obtain ⟨t1, t2, t3, t4, t5, t6, t7⟩ := p5
        refine ⟨ond.setR.trans t1, t2, t3, fun k hk => ?_, t5.trans mA, t6.trans mJ, fun k k1 k2 k3 k4 k5 => (t7 k k1 k2 k3 k4 k5).trans (mk k k1 k3 k4)⟩
        rw [t4 k hk, i1]; exact f1o k (by omega) (by omega)
    · -- a sign, or what is wrong
      have al1 : lt8 c = false := by cases q : lt8 c with
        | true => exact absurd (Or.inl q) al
        | false => rfl
      have al2 : dg8 c = false := by cases q : dg8 c with
        | true => exact absurd (Or.inr q) al
        | false => rfl
      rw [al1, al2] at e0 e1
      simp only [lt_, bI_f, if_true, Bool.false_eq_true, if_false] at e0 e1
      obtain ⟨kd, ekd⟩ : ∃ kd, kd = kdS c := ⟨_, rfl⟩
      have kk : (kd = 4 ∧ c = 59) ∨ (kd = 6 ∧ (c = 40 ∨ c = 41 ∨ c = 60 ∨ c = 61 ∨ c = 62)) ∨ kd = 1 := by
        rw [ekd]; unfold kdS
        by_cases q1 : c = 59
        · rw [if_pos q1]; exact Or.inl ⟨rfl, q1⟩
        · rw [if_neg q1]
          by_cases q2 : c = 60 ∨ c = 61 ∨ c = 62 ∨ c = 40 ∨ c = 41
          · rw [if_pos q2]; exact Or.inr (Or.inl ⟨rfl, by omega⟩)
          · rw [if_neg q2]; exact Or.inr (Or.inr rfl)
      have st4 : ∀ v : Int32, ((pI (setR h rd f1) rd 5 7 4 v).bind fun s1 => ((pI s1 rd 5 7 7 (nI c)).bind fun s2 => ((oI s2 rd 5 7 3).bind fun v3 => ((pI s2 rd 5 7 3 (v3 + 1)).bind fun s3 => some s3)))) = some (setR h rd (upd (upd (upd f1 4 v) 7 (nI c)) 3 (nI (P1 + 1)))) := fun v => by
        have Ra : RB (setR h rd (upd f1 4 v)) b rd sz lim P1 σ1 := by
          have := RB1.row (f := upd f1 4 v) (σ' := σ1) w2 (by rw [i1, pk_un (by decide)]) (by rw [i1, pk_un (by decide)]) (by rw [pk_un (by decide), f13]) rfl rfl m4 rfl
          rw [setR_set] at this; exact this
        have Rb : RB (setR h rd (upd (upd f1 4 v) 7 (nI c))) b rd sz lim P1 σ1 := by
          have := RB1.row (f := upd (upd f1 4 v) 7 (nI c)) (σ' := σ1) w2 (by rw [i1, pk_un (by decide), pk_un (by decide)]) (by rw [i1, pk_un (by decide), pk_un (by decide)]) (by rw [pk_un (by decide), pk_un (by decide), f13]) rfl rfl m4 rfl
          rw [setR_set] at this; exact this
        simp only [rb_p RB1, tI_setR, Option.bind_some, rb_p Ra, rb_o Rb, rb_p Rb, setR_I]
        rw [pk_un (show (3 : Nat) ≠ 7 by decide), pk_un (show (3 : Nat) ≠ 4 by decide), f13, show nI P1 + 1 = nI (P1 + 1) from nI_add _ 1]
      have eC : X = some (setR h rd (upd (upd (upd f1 4 (nI kd)) 7 (nI c)) 3 (nI (P1 + 1)))) := by
        rw [← e0]
        have := goS_k ⟨c, c256⟩ (Option HS) (some (setR h rd (upd (upd (upd f1 4 4) 7 (nI c)) 3 (nI (P1 + 1))))) (some (setR h rd (upd (upd (upd f1 4 6) 7 (nI c)) 3 (nI (P1 + 1))))) (some (setR h rd (upd (upd (upd f1 4 1) 7 (nI c)) 3 (nI (P1 + 1)))))
        simp only [lt_] at this
        simp only [st4]
        rw [this]
        show (if kdS c = 4 then _ else if kdS c = 6 then _ else _) = _
        rw [← ekd]
        rcases kk with ⟨q, -⟩ | ⟨q, -⟩ | q
        · rw [q, if_pos rfl]; rfl
        · rw [q, if_neg (by decide), if_pos rfl]; rfl
        · rw [q, if_neg (by decide), if_neg (by decide)]; rfl
      have st5 : ∀ v : Int32, sI (sI (sI σ1 11 v) 14 (nI c)) 4 (gI (sI (sI σ1 11 v) 14 (nI c)) 4 + 1) = sI (sI (sI σ1 11 v) 14 (nI c)) 4 (nI (P1 + 1)) := fun v => by
        rw [show gI (sI (sI σ1 11 v) 14 (nI c)) 4 = nI P1 from m4, show nI P1 + 1 = nI (P1 + 1) from nI_add _ 1]
      have eM : Y = some (sI (sI (sI σ1 11 (if kd = 1 then 4 else 3)) 14 (nI c)) 4 (nI (P1 + 1))) := by
        rw [← e1]
        have := nxS_k ⟨c, c256⟩ (Option MS) (some (sI (sI (sI σ1 11 3) 14 (nI c)) 4 (nI (P1 + 1)))) (some (sI (sI (sI σ1 11 4) 14 (nI c)) 4 (nI (P1 + 1))))
        simp only [lt_] at this
        simp only [st5]
        rw [this]
        show (if kdS c = 1 then _ else _) = _
        rw [← ekd]
        by_cases q : kd = 1
        · rw [if_pos q, if_pos q]
        · rw [if_neg q, if_neg q]
      obtain ⟨p1, p2, p3, p4⟩ := go_fin (f := upd (upd (upd f1 4 (nI kd)) 7 (nI c)) 3 (nI (P1 + 1))) (P1 := P1) (P' := P1 + 1) (a := P1) (v4 := nI kd) (v6 := kI h rd 6) (v7 := nI c) (σ2 := sI (sI (sI σ1 11 (if kd = 1 then 4 else 3)) 14 (nI c)) 4 (nI (P1 + 1))) R (by omega) (by omega) (by omega) (by
        funext k
        by_cases k3 : k = 3
        · rw [k3, pk_us]; rfl
        · rw [pk_un k3, if_neg k3]
          by_cases k7 : k = 7
          · rw [k7, pk_us]; rfl
          · rw [pk_un k7]
            by_cases k4 : k = 4
            · rw [k4, pk_us]; rfl
            · rw [pk_un k4, if_neg k4]
              by_cases k5 : k = 5
              · rw [k5, f15]; rfl
              · rw [f1o k k3 k5, if_neg k5]
                by_cases k6 : k = 6
                · rw [if_pos k6, k6]
                · rw [if_neg k6, if_neg k7]) rfl m12 mA mJ (fun k k1 k2 k3 k4 k5 => by rw [gI_sI, if_neg k1, gI_sI, if_neg k5, gI_sI, if_neg k2]; exact mk k k1 k3 k4) (by
          rcases kk with ⟨q, -⟩ | ⟨q, -⟩ | q
          · rw [q]; decide
          · rw [q]; decide
          · rw [q]; decide) (by
          unfold TKR
          have k4 : kI (setR h rd (upd (upd (upd f1 4 (nI kd)) 7 (nI c)) 3 (nI (P1 + 1)))) rd 4 = nI kd := by rw [setR_I, pk_un (by decide), pk_un (by decide), pk_us]
          have k7 : kI (setR h rd (upd (upd (upd f1 4 (nI kd)) 7 (nI c)) 3 (nI (P1 + 1)))) rd 7 = nI c := by rw [setR_I, pk_un (by decide), pk_us]
          have n11 : gI (sI (sI (sI σ1 11 (if kd = 1 then 4 else 3)) 14 (nI c)) 4 (nI (P1 + 1))) 11 = if kd = 1 then 4 else 3 := rfl
          have n14 : gI (sI (sI (sI σ1 11 (if kd = 1 then 4 else 3)) 14 (nI c)) 4 (nI (P1 + 1))) 14 = nI c := rfl
          rw [k4, k7, n11, n14]
          rcases kk with ⟨q, q'⟩ | ⟨q, q'⟩ | q
          · rw [q, q']; exact Or.inr (Or.inr (Or.inr (Or.inr (Or.inl ⟨rfl, rfl, rfl⟩))))
          · rw [q]; exact Or.inr (Or.inr (Or.inr (Or.inr (Or.inr ⟨rfl, rfl, c, q', rfl, rfl⟩))))
          · rw [q]; exact Or.inr (Or.inl ⟨Or.inl rfl, rfl⟩)) (fun _ _ => by omega)
      exact ⟨_, _, P1 + 1, by rw [hX]; exact eC, by rw [hY]; exact eM, p1, p2, p3, p4⟩
end PTJ
