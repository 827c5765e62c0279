/-! strings: made of what was built, joined, compared -/
section PTB
variable {S S' : Nat → Prop} {h h' h2 : HS} {N b a k t n sl : Nat} {l l1 l2 : List Nat}
theorem xC_n {src dst sp dp m : Nat} (h1 : kT h src = 32) (h2 : kT h dst = 32) (h3 : sp + m ≤ kN h src) (h4 : dp + m ≤ kN h dst) (h5 : kG h 0 ≤ dst) (b1 : sp < 2147483648) (b2 : dp < 2147483648) (b3 : m < 2147483648) (hf : ∀ i, i < m → ∃ c, c < 128 ∧ kI h src (sp + i) = nI c) : xC h src dst 32 (nI sp) (nI dp) (nI m) = some (tC h src dst sp dp m) := by
  unfold xC
  rw [if_pos]
  · rw [nI_clamp b1, nI_clamp b2, nI_clamp b3]
  · unfold xOk
    rw [nI_clamp b1, nI_clamp b2, nI_clamp b3, decide_eq_true (show kT h src = 32 ∧ kT h dst = 32 ∧ ¬ nI sp < 0 ∧ ¬ nI dp < 0 ∧ ¬ nI m < 0 ∧ sp + m ≤ kN h src ∧ dp + m ≤ kN h dst ∧ kG h 0 ≤ dst from ⟨h1, h2, nI_pos b1, nI_pos b2, nI_pos b3, h3, h4, h5⟩)]
    have : ((List.range m).all fun i => fits .byte (.int (kI h src (sp + i)))) = true := by
      rw [List.all_eq_true]
      intro i hi
      obtain ⟨c, hc, e⟩ := hf i (List.mem_range.mp hi)
      rw [e]
      exact (chr_ok ⟨c, hc⟩).2.2.2
    rw [this]; rfl
theorem getD_mem {i : Nat} (hi : i < l.length) : l.getD i 0 ∈ l := by
  rw [List.getD_eq_getElem?_getD, List.getElem?_eq_getElem hi]
  exact List.getElem_mem hi
theorem sb_str {sb ar : Nat} (hs : SBR h sb ar l) (hl : l.length < 16) (hb : b + 18420 ≤ kZ h) (hg : kG h 0 ≤ kZ h) (ha : ar < kZ h) (hsb : sb < kZ h) (hz : kZ h + 2 ≤ kG h 1) (hw : kW h + 4 + l.length ≤ kG h 2) : ∃ h', fJ5_toString N h sb = some (kZ h, h') ∧ StrR h' (kI h') b (kZ h) l ∧ ond (fun _ => False) h h' ∧ kZ h' = kZ h + 2 ∧ kW h' = kW h + 4 + l.length := by
  obtain ⟨s1, s2, s3, s4, s5, s6, s7, s8, s9, s10, s11, s12⟩ := id hs
  obtain ⟨h1, e1⟩ : ∃ h1, h1 = tI (tA h 17 0 4) (kZ h) 1 0 := ⟨_, rfl⟩
  have z1 : kZ h1 = kZ h + 1 := by rw [e1]; rfl
  have g1 : kG h1 = kG h := by rw [e1]; rfl
  have T1 : ∀ x, x ≠ kZ h → kT h1 x = kT h x := fun x hx => by rw [e1, kT_tI, kT_tA, if_neg hx]
  have N1 : ∀ x, x ≠ kZ h → kN h1 x = kN h x := fun x hx => by rw [e1, kN_tI, kN_tA, if_neg hx]
  have I1 : ∀ x, x ≠ kZ h → kI h1 x = kI h x := fun x hx => by rw [e1, kI_tIo hx, kI_tAo hx]
  have tz : kT h1 (kZ h) = 17 := by rw [e1, kT_tI, kT_tA, if_pos rfl]
  obtain ⟨h2, e2⟩ : ∃ h2, h2 = tA h1 32 l.length l.length := ⟨_, rfl⟩
  have z2 : kZ h2 = kZ h + 2 := by rw [e2, kZ_tA, z1]
  have T2 : kT h2 (kZ h + 1) = 32 := by rw [e2, kT_tA, if_pos z1.symm]
  have N2 : kN h2 (kZ h + 1) = l.length := by rw [e2, kN_tA, if_pos z1.symm]
  have o2 : ∀ x, x ≠ kZ h + 1 → kT h2 x = kT h1 x ∧ kN h2 x = kN h1 x ∧ kI h2 x = kI h1 x ∧ kR h2 x = kR h1 x := fun x hx => ⟨by rw [e2, kT_tA, if_neg (by omega)], by rw [e2, kN_tA, if_neg (by omega)], by rw [e2, kI_tAo (by omega)], by rw [e2, kR_tAo (by omega)]⟩
  obtain ⟨a1, a2, a3, a4⟩ := o2 ar (by omega)
  have Ta : kT h2 ar = 32 := by rw [a1, T1 ar (by omega)]; exact s5
  have Na : kN h2 ar = 16 := by rw [a2, N1 ar (by omega)]; exact s6
  have Ia : ∀ i, i < l.length → kI h2 ar i = nI (l.getD i 0) := fun i hi => by rw [a3, I1 ar (by omega)]; exact s7 i hi
  obtain ⟨h3, e3⟩ : ∃ h3, h3 = tC h2 ar (kZ h + 1) 0 0 l.length := ⟨_, rfl⟩
  have x3 : xC h2 ar (kZ h + 1) 32 (nI 0) (nI 0) (nI l.length) = some h3 := by
    rw [e3]
    refine xC_n Ta T2 (by rw [Na]; omega) (by rw [N2]; omega) (by rw [e2, kG_tA, g1]; omega) (by decide) (by decide) (by omega) fun i hi => ⟨l.getD i 0, s12 _ (getD_mem hi), ?_⟩
    rw [Nat.zero_add]; exact Ia i hi
  have cr : fJ3_copyOfRange N h1 ar 0 (nI l.length) = some (kZ h + 1, h3) := by
    unfold fJ3_copyOfRange fJ3_copyOfRangeByte fJ3_checkLength
    rw [if_pos rfl, aL_n (Nat.le_of_eq (show kT h1 ar = 32 from by rw [T1 ar (by omega)]; exact s5).symm) (Nat.le_of_eq (show kT h1 ar = 32 from by rw [T1 ar (by omega)]; exact s5)), N1 ar (by omega), s6]
    simp only [Option.bind_some]
    rw [if_neg (fun q => absurd ((nI_eq (by omega) (by omega)).mp q) (by omega)), Option.bind_some, if_pos rfl, if_pos (show (0 : Int32) ≤ nI l.length from nI_le (a := 0) (by omega) (by omega))]
    simp only [Option.bind_some, Int32.sub_zero]
    have na : nA h1 32 (nI l.length) = some (kZ h + 1, h2) := by
      unfold nA
      rw [nI_clamp (by omega), if_pos ⟨nI_pos (by omega), by omega, by rw [z1, g1]; omega, by rw [g1, e1]; show kW h + 4 + l.length ≤ _; omega⟩, z1, e2]
    rw [na]
    simp only [Option.bind_some]
    rw [aL_n (Nat.le_of_eq Ta.symm) (Nat.le_of_eq Ta), Na]
    simp only [Option.bind_some]
    rw [imin_n (by decide) (by omega), Nat.min_eq_right (by omega), show xC h2 ar (kZ h + 1) 32 0 0 (nI l.length) = some h3 from x3]; rfl
  have tz3 : kT h3 (kZ h) = 17 := by rw [e3, kT_tC, (o2 _ (by omega)).1]; exact tz
  refine ⟨tR h3 (kZ h) 0 (some (kZ h + 1)), ?_, ?_, ?_, by rw [kZ_tR, e3, kZ_tC, z2], by rw [kW_tR, e3, kW_tC, e2, kW_tA, e1]; rfl⟩
  · have no : nO h 17 4 = some (kZ h, tA h 17 0 4) := by unfold nO; rw [if_pos ⟨by omega, by omega⟩]
    have hs1 : SBR (tA h 17 0 4) sb ar l := hs.of ⟨by rw [kT_tA, if_neg (by omega)], by rw [kR_tA, if_neg (by omega)], kI_tAo (by omega)⟩ ⟨by rw [kT_tA, if_neg (by omega)], by rw [kN_tA, if_neg (by omega)], kI_tAo (by omega)⟩ rfl
    have tz0 : kT (tA h 17 0 4) (kZ h) = 17 := by rw [kT_tA, if_pos rfl]
    unfold fJ5_toString
    rw [no]
    simp only [Option.bind_some]
    unfold fJ6_init fJ6_init_2 fJ4_getValue fJ5_length fJ4_length
    simp only [sb_gT hs1, sb_lat hs1, fR_n (Nat.le_of_eq hs1.1.symm) (Nat.le_of_eq hs1.1), hs1.2.1, oI_n (Nat.le_of_eq hs1.1.symm) (Nat.le_of_eq hs1.1), hs1.2.2.2.1, Option.bind_some, one0, if_false]
    rw [pI_n (Nat.le_of_eq tz0.symm) (Nat.le_of_eq tz0) hg]
    simp only [Option.bind_some]
    rw [← e1, cr]
    simp only [Option.bind_some]
    rw [pR_n (Nat.le_of_eq tz3.symm) (Nat.le_of_eq tz3) (by rw [e3, kG_tC, e2, kG_tA, g1]; exact hg)]; rfl
  · have r0 : kR (tR h3 (kZ h) 0 (some (kZ h + 1))) (kZ h) 0 = some (kZ h + 1) := by rw [kR_tR, if_pos ⟨rfl, rfl⟩]
    have rr : rf (tR h3 (kZ h) 0 (some (kZ h + 1))) (kZ h) 0 = kZ h + 1 := by unfold rf; rw [r0]; rfl
    have zz : kZ (tR h3 (kZ h) 0 (some (kZ h + 1))) = kZ h + 2 := by rw [kZ_tR, e3, kZ_tC, z2]
    refine ⟨⟨by rw [zz]; omega, Or.inr (Or.inl hb)⟩, by rw [kT_tR]; exact tz3, by unfold isr; rw [rr]; exact r0, by rw [rr, zz]; exact ⟨by omega, Or.inr (Or.inl (by omega))⟩, by rw [rr, kT_tR, e3, kT_tC]; exact T2, by rw [rr, kN_tR, e3, kN_tC]; exact N2, ?_, fun i hi => ?_⟩
    · rw [kI_tR, e3, kI_tC, if_neg (by omega), (o2 _ (by omega)).2.2.1, e1, kI_tI, if_pos ⟨rfl, rfl⟩]
    · rw [rr, kI_tR, e3, kI_tC, if_pos ⟨rfl, by omega, by omega⟩, Nat.zero_add, Nat.sub_zero]; exact Ia i hi
  · have d1 : ond (fun _ => False) h h1 := by rw [e1]; exact ond.tA.tr ond.tI fun q hq z => by omega
    have d2 : ond (fun _ => False) h h2 := by rw [e2]; exact d1.tr ond.tA fun _ _ z => z
    have d3 : ond (fun q => q = kZ h + 1) h2 h3 := ⟨by rw [e3, kZ_tC]; exact Nat.le_refl _, by rw [e3, kG_tC], fun q hq hn => ⟨by rw [e3, kT_tC], by rw [e3, kN_tC], by funext j; rw [e3, kI_tC, if_neg fun z => hn z.1], by funext j; rw [e3, kR_tC]⟩⟩
    exact (d2.tr d3 fun q hq z => by omega).tr ond.tR fun q hq z => by omega
/-- a string is joined on -/
theorem sb_app2 {sb ar q : Nat} (hs : SBR h sb ar l) (hq : StrR h (kI h) b q l2) (hl : l.length + l2.length ≤ 16) (hc : ∀ c, c ∈ l2 → c < 128) : ∃ h', fJ5_append_2 N h sb q = some (sb, h') ∧ SBR h' sb ar (l ++ l2) ∧ ond (fun x => x = sb ∨ x = ar) h h' ∧ kZ h' = kZ h ∧ kW h' = kW h := by
  obtain ⟨s1, s2, s3, s4, s5, s6, s7, s8, s9, s10, s11, s12⟩ := id hs
  obtain ⟨q1, q2, q3, q4, q5, q6, q7, q8⟩ := hq
  have cz : gY (0 : Int32) (some (0 : Int32)) = some 0 := rfl
  have cd : fJ6_coder N h q = some 0 := by
    unfold fJ6_coder
    rw [oI_n (Nat.le_of_eq q2.symm) (Nat.le_of_eq q2), q7]; rfl
  have gq := fun {α : Type} (x : Option α) => (gT_n (Nat.le_of_eq q2.symm) (Nat.le_of_eq q2) : gT h q 17 17 x = x)
  have fq : fR h q 17 17 0 = some (rf h q 0) := (fR_n (Nat.le_of_eq q2.symm) (Nat.le_of_eq q2)).trans q3
  have aq : aL h (rf h q 0) 32 32 = some (nI l2.length) := by rw [aL_n (Nat.le_of_eq q5.symm) (Nat.le_of_eq q5), q6]
  have ln : fJ6_length N h q = some (nI l2.length) := by
    unfold fJ6_length
    simp only [fq, aq, Option.bind_some, gq, cd, ushr0]
  have xc : xC h (rf h q 0) ar 32 0 (nI l.length) (nI l2.length) = some (tC h (rf h q 0) ar 0 l.length l2.length) := xC_n (sp := 0) q5 s5 (by omega) (by omega) s9 (by decide) (by omega) (by omega) fun i hi => ⟨l2.getD i 0, hc _ (getD_mem hi), by rw [Nat.zero_add]; exact q8 i hi⟩
  have ps : fJ4_putStringAt N h sb (nI l.length) q = some (tC h (rf h q 0) ar 0 l.length l2.length) := by
    unfold fJ4_putStringAt fJ4_inflateIfNeededFor fJ6_getBytes
    simp only [sb_gT hs, gq, cd, oI_n (Nat.le_of_eq s1.symm) (Nat.le_of_eq s1), s3, Option.bind_some, if_true, fR_n (Nat.le_of_eq s1.symm) (Nat.le_of_eq s1), s2, fq, aq, ushl0, xc]
  refine ⟨tI (tC h (rf h q 0) ar 0 l.length l2.length) sb 3 (nI (l.length + l2.length)), ?_, ⟨s1, s2, ?_, ?_, s5, s6, fun i hi => ?_, s8, s9, s10, by rw [List.length_append]; exact hl, fun x hx => (List.mem_append.mp hx).elim (s12 x) (hc x)⟩, ?_, rfl, rfl⟩
  · unfold fJ5_append_2 fJ4_append_2
    simp only [sb_gT hs, gq, ln, Option.bind_some, oI_n (Nat.le_of_eq s1.symm) (Nat.le_of_eq s1), s4, nI_add, sb_cp hs hl, ps]
    have t1 : kT (tC h (rf h q 0) ar 0 l.length l2.length) sb = 16 := s1
    have i1 : kI (tC h (rf h q 0) ar 0 l.length l2.length) sb 3 = nI l.length := by rw [kI_tC, if_neg (fun z => s10 z.1)]; exact s4
    rw [oI_n (Nat.le_of_eq t1.symm) (Nat.le_of_eq t1), i1]
    simp only [Option.bind_some, nI_add]
    rw [pI_n (Nat.le_of_eq t1.symm) (Nat.le_of_eq t1) s8]; rfl
  · rw [kI_tI, if_neg (by omega), kI_tC, if_neg (fun z => s10 z.1)]; exact s3
  · rw [kI_tI, if_pos ⟨rfl, rfl⟩, List.length_append]
  · rw [List.length_append] at hi
    rw [kI_tI, if_neg (fun z => s10 z.1.symm), kI_tC]
    by_cases z : i < l.length
    · rw [if_neg (by omega), s7 i z, List.getD_eq_getElem?_getD, List.getD_eq_getElem?_getD, List.getElem?_append_left z]
    · rw [if_pos ⟨rfl, by omega, by omega⟩, Nat.zero_add, q8 _ (by omega), List.getD_eq_getElem?_getD, List.getD_eq_getElem?_getD, List.getElem?_append_right (by omega)]
  · have d3 : ond (fun x => x = sb ∨ x = ar) h (tC h (rf h q 0) ar 0 l.length l2.length) := ⟨Nat.le_refl _, rfl, fun x hx hn => ⟨rfl, rfl, by funext j; rw [kI_tC, if_neg fun z => hn (Or.inr z.1)], rfl⟩⟩
    exact d3.tr ond.tI fun x _ z => Or.inl z
/-- strings are compared -/
theorem str_eq {q1 q2 : Nat} (hN : 200000 ≤ N) (h1 : StrR h (kI h) b q1 l1) (h2 : StrR h (kI h) b q2 l2) (b1 : l1.length < 1000) (b2 : l2.length < 1000) (c1 : ∀ c, c ∈ l1 → c < 256) (c2 : ∀ c, c ∈ l2 → c < 256) : fJ6_equals N h q1 q2 = some (if l1 = l2 then 1 else 0) := by
  obtain ⟨p1, p2, p3, p4, p5, p6, p7, p8⟩ := h1
  obtain ⟨r1, r2, r3, r4, r5, r6, r7, r8⟩ := h2
  unfold fJ6_equals
  by_cases e : (some q1 : Option Nat) = some q2
  · rw [if_pos e, if_pos]
    have e : q1 = q2 := by injection e
    subst e
    apply List.ext_getElem
    · omega
    · intro i i1 i2
      have a1 := p8 i i1
      have a2 := r8 i i2
      rw [a1] at a2
      have := (nI_eq (by have := c1 _ (getD_mem i1); omega) (by have := c2 _ (getD_mem i2); omega)).mp a2
      rw [List.getD_eq_getElem?_getD, List.getD_eq_getElem?_getD, List.getElem?_eq_getElem i1, List.getElem?_eq_getElem i2] at this
      exact this
  · rw [if_neg e, gT_n (Nat.le_of_eq r2.symm) (Nat.le_of_eq r2), gT_n (Nat.le_of_eq r2.symm) (Nat.le_of_eq r2), oI_n (Nat.le_of_eq p2.symm) (Nat.le_of_eq p2), oI_n (Nat.le_of_eq r2.symm) (Nat.le_of_eq r2), p7, r7]
    simp only [Option.bind_some, if_true]
    rw [fR_n (Nat.le_of_eq p2.symm) (Nat.le_of_eq p2), fR_n (Nat.le_of_eq r2.symm) (Nat.le_of_eq r2), p3, r3]
    simp only [Option.bind_some]
    unfold fJ10_equals
    have la1 : aL h (rf h q1 0) 32 32 = some (nI l1.length) := by rw [aL_n (Nat.le_of_eq p5.symm) (Nat.le_of_eq p5), p6]
    have la2 : aL h (rf h q2 0) 32 32 = some (nI l2.length) := by rw [aL_n (Nat.le_of_eq r5.symm) (Nat.le_of_eq r5), r6]
    rw [la1, la2]
    simp only [Option.bind_some]
    by_cases el : l1.length = l2.length
    · rw [if_pos (by rw [el])]
      have key : okk (lJ10_equals_9 N h N (rf h q1 0) (rf h q2 0) (nI 0)) (fun r => (r = .inl () ∧ ∀ i, i < l1.length → l1.getD i 0 = l2.getD i 0) ∨ (r = .inr 0 ∧ l1 ≠ l2)) := by
        refine okf (fun m (_ : Unit) i => lJ10_equals_9 N h m (rf h q1 0) (rf h q2 0) i) l1.length (fun i _ => ∀ j, j < i → l1.getD j 0 = l2.getD j 0) _ ?_ ?_ 0 () N (by omega) (by omega) (fun j hj => absurd hj (Nat.not_lt_zero _))
        · intro i s m hi hp
          have x1 : aI h (rf h q1 0) 32 (nI i) = some (nI (l1.getD i 0)) := (aI_n p5 (by rw [p6]; exact hi) (by rw [p6]; omega)).trans (by rw [p8 i hi])
          have x2 : aI h (rf h q2 0) 32 (nI i) = some (nI (l2.getD i 0)) := (aI_n r5 (by rw [r6]; omega) (by rw [r6]; omega)).trans (by rw [r8 i (by omega)])
          by_cases z : l1.getD i 0 = l2.getD i 0
          · right
            refine ⟨(), fun j hj => ?_, ?_⟩
            · by_cases y : j = i
              · rw [y]; exact z
              · exact hp j (by omega)
            · show lJ10_equals_9 N h (m + 1) (rf h q1 0) (rf h q2 0) (nI i) = _
              rw [lJ10_equals_9, la1]
              simp only [Option.bind_some]
              rw [if_neg (nI_ge hi (by omega)), x1, x2]
              simp only [Option.bind_some]
              rw [if_pos (by rw [z]), show nI i + 1 = nI (i + 1) from nI_add _ 1]
          · left
            refine ⟨.inr 0, ?_, Or.inr ⟨rfl, fun y => z (by rw [y])⟩⟩
            show lJ10_equals_9 N h (m + 1) (rf h q1 0) (rf h q2 0) (nI i) = _
            rw [lJ10_equals_9, la1]
            simp only [Option.bind_some]
            rw [if_neg (nI_ge hi (by omega)), x1, x2]
            simp only [Option.bind_some]
            rw [if_neg]
            intro y
            exact z ((nI_eq (by have := c1 _ (getD_mem hi); omega) (by have := c2 _ (getD_mem (show i < l2.length by omega)); omega)).mp y)
        · intro s m hp
          refine ⟨.inl (), ?_, Or.inl ⟨rfl, hp⟩⟩
          show lJ10_equals_9 N h (m + 1) (rf h q1 0) (rf h q2 0) (nI l1.length) = _
          rw [lJ10_equals_9, la1]
          simp only [Option.bind_some]
          rw [if_pos (Int32.le_refl _)]
      obtain ⟨r, k1, k2⟩ := key
      rw [show lJ10_equals_9 N h N (rf h q1 0) (rf h q2 0) 0 = some r from k1]
      rcases k2 with ⟨rfl, k2⟩ | ⟨rfl, k2⟩
      · have : l1 = l2 := by
          apply List.ext_getElem el
          intro i i1 i2
          have := k2 i i1
          rw [List.getD_eq_getElem?_getD, List.getD_eq_getElem?_getD, List.getElem?_eq_getElem i1, List.getElem?_eq_getElem i2] at this
          exact this
        rw [if_pos this]; rfl
      · rw [if_neg k2]; rfl
    · rw [if_neg (fun z => el ((nI_eq (by omega) (by omega)).mp z)), if_neg (fun z => el (by rw [z]))]; rfl
end PTB
