/-! houses: line door -/
def mDoor (N : Nat) (σ : MS) : Option (Int32 × MS) := ((rA σ 7 5).bind fun v25 => (if v25 = 8 then some (0, (fX5_bad σ 4).2) else ((fX5_next N σ).bind fun r27 => ((fX5_looksAtTuft N r27).bind fun r28 => (if r28.1 = 0 then (some (0, r28.2)) else (osm (lX5_line_337 N N r28.2 0) id fun q36 => ((rA q36 7 5).bind fun v37 => ((wA q36 7 (169 + v37) (gI q36 18)).bind fun σ38 => ((rA σ38 7 5).bind fun v39 => ((wA σ38 7 5 (v39 + 1)).bind fun σ40 => ((fX5_next N σ40).bind fun r41 => some (1, r41))))))))))))
section PVH
variable {S : Nat → Prop} {h0 h h' h2 : HS} {σ0 σ σ' : MS} {N b rd sz lim P Zm Wm Z W a l n q p w : Nat} {sp : Bool} {F F' : Nat → Nat} {nm nm' : Nat → Int64}
theorem l337 {t : Nat} (ht : t < 144) (hA : ∀ i, i < 429 → gA σ 7 i = nI (F i)) (g18 : gI σ 18 = nI t) (f5 : F 5 ≤ 8) (hb : ∀ k, k < F 5 → F (169 + k) < 144) : ∀ k i fuel, i + k = F 5 → k < fuel → (∀ j, j < i → F (169 + j) ≠ t) →
    ((∃ j, j < F 5 ∧ F (169 + j) = t) ∧ lX5_line_337 N fuel σ (nI i) = some (.inr (0, (fX5_bad σ 3).2))) ∨ ((∀ j, j < F 5 → F (169 + j) ≠ t) ∧ lX5_line_337 N fuel σ (nI i) = some (.inl σ)) := by
  have r5 : rA σ 7 5 = some (nI (F 5)) := by rw [show rA σ 7 5 = some (gA σ 7 5) from rA7 (n := 5) (by decide), hA 5 (by decide)]
  intro k
  induction k with
  | zero =>
    intro i fuel hi hf hj
    obtain ⟨m, rfl⟩ : ∃ m, fuel = m + 1 := ⟨fuel - 1, by omega⟩
    exact Or.inr ⟨fun j h => hj j (by omega), by rw [lX5_line_337, r5, Option.bind_some, if_pos (nI_le (by omega) (by omega))]⟩
  | succ k ih =>
    intro i fuel hi hf hj
    obtain ⟨m, rfl⟩ : ∃ m, fuel = m + 1 := ⟨fuel - 1, by omega⟩
    have ri : rA σ 7 (169 + nI i) = some (nI (F (169 + i))) := by rw [show (169 : Int32) + nI i = nI (169 + i) from pl_la 169 i, rA7 (by omega), hA _ (by omega)]
    have bi := hb i (by omega)
    by_cases c : F (169 + i) = t
    · refine Or.inl ⟨⟨i, by omega, c⟩, ?_⟩
      rw [lX5_line_337, r5, Option.bind_some, if_neg (nI_ge (by omega) (by omega)), ri, Option.bind_some, if_pos (by rw [g18, c])]; rfl
    · have st : lX5_line_337 N (m + 1) σ (nI i) = lX5_line_337 N m σ (nI (i + 1)) := by
        rw [lX5_line_337, r5, Option.bind_some, if_neg (nI_ge (by omega) (by omega)), ri, Option.bind_some, if_neg (by rw [g18]; exact fun z => c ((nI_eq (by omega) (by omega)).mp z)), show nI i + 1 = nI (i + 1) from nI_add i 1]
      rw [st]
      exact ih (i + 1) m (by omega) (by omega) fun j h => by
        by_cases e : j = i
        · rw [e]; exact c
        · exact hj j (by omega)
/-- an Integer -/
theorem val_of (hC : CS h (kI h) b) {t : Nat} (ht : t < 144) (hz : kZ h + 1 ≤ kG h 1) (hw : kW h + 1 ≤ kG h 2) (gz : kG h 0 ≤ kZ h) (bz : b + 18420 ≤ kZ h) : ∃ q h', fJ16_valueOf N h (nI t) = some (q, h') ∧ ond (fun _ => False) h h' ∧ kZ h' ≤ kZ h + 1 ∧ kW h' ≤ kW h + 1 ∧ imm b (kZ h') q ∧ kT h' q = 18 ∧ kI h' q 0 = nI t := by
  by_cases c : 127 < t
  · have T : kT (tA h 18 0 1) (kZ h) = 18 := by rw [kT_tA, if_pos rfl]
    refine ⟨kZ h, tI (tA h 18 0 1) (kZ h) 0 (nI t), ?_, ond.tA.tr ond.tI fun q hq z => by omega, Nat.le_refl _, Nat.le_refl _, ⟨Nat.lt_succ_self _, Or.inr (Or.inl bz)⟩, T, by rw [kI_tI, if_pos ⟨rfl, rfl⟩]⟩
    unfold fJ16_valueOf fJ16_init nO
    rw [ltE, if_pos (by rw [if_neg (show ¬ nI t < -128 from fun z => absurd (Int32.lt_trans z (show (-128 : Int32) < 0 by decide)) (nI_nlt (b := 0) (by omega) (by omega))), if_pos (show (127 : Int32) < nI t from nI_lt (a := 127) c (by omega))]), if_pos ⟨hz, hw⟩, Option.bind_some, pI_n (h := tA h 18 0 1) (Nat.le_of_eq T.symm) (Nat.le_of_eq T) gz, Option.bind_some, Option.bind_some]
  · obtain ⟨-, -, -, c1, c2, c3, c4⟩ := hC
    obtain ⟨d1, d2, d3, d4⟩ := c4 (t + 128) (by omega)
    refine ⟨rf h (kG h 13) (t + 128), h, ?_, ond.refl, by omega, by omega, d2, d3, ?_⟩
    · unfold fJ16_valueOf
      rw [ltE, if_neg (by rw [if_neg (show ¬ nI t < -128 from fun z => absurd (Int32.lt_trans z (show (-128 : Int32) < 0 by decide)) (nI_nlt (b := 0) (by omega) (by omega))), if_neg (show ¬ (127 : Int32) < nI t from nI_nlt (a := 127) (by omega) (by omega))]; decide), show nI t + 128 = nI (t + 128) from nI_add t 128, fA_n c2 (by rw [c3]; omega) (by rw [c3]; decide), d1]; rfl
    · rw [d4, ← nI_add]
      show nI t + nI 128 - nI 128 = nI t
      exact Int32.add_sub_cancel ..
theorem HOK.dr (H : HOK F) {t : Nat} (f5 : F 5 < 8) (ht : tuf F t) (e : ∀ i, i ≠ 5 → i ≠ 169 + F 5 → F' i = F i) (e5 : F' 5 = F 5 + 1) (et : F' (169 + F 5) = t) : HOK F' := by
  obtain ⟨⟨a0, a1, a2, a3, a4, a5, a6⟩, c1, c2, c3, c4, c5⟩ := H
  have e0 := e 0 (by decide) (by omega)
  have e1 := e 1 (by decide) (by omega)
  unfold HOK tuf
  unfold tuf at ht c4 c5
  rw [e0, e1, e 2 (by decide) (by omega), e 3 (by decide) (by omega), e 4 (by decide) (by omega), e 6 (by decide) (by omega), e5]
  refine ⟨⟨a0, a1, a2, a3, a4, by omega, a6⟩, fun p hp => ?_, fun p h1 h2 => ?_, fun x hx => ?_, fun k hk => ?_, fun w hw => ?_⟩
  · rw [e _ (by omega) (by omega), e _ (by omega) (by omega), e _ (by omega) (by omega)]; exact c1 p hp
  · rw [e _ (by omega) (by omega)]; exact c2 p h1 h2
  · rw [e _ (by omega) (by omega)]; exact c3 x hx
  · by_cases c : k = F 5
    · rw [c, et]; exact ht
    · rw [e _ (by omega) (by omega)]; exact c4 k (by omega)
  · rw [e _ (by omega) (by omega)]
    refine ⟨(c5 w hw).1, (c5 w hw).2.1, fun i hi => ?_⟩
    rw [e _ (by omega) (by omega)]; exact (c5 w hw).2.2 i hi
/-- a door is set -/
theorem door_h (H : HBc b rd h F nm) (hC : CS h (kI h) b) {t : Nat} (ht : t < 144) (htu : tuf F t) (f5 : F 5 < 8) (nt : ∀ k, k < F 5 → F (169 + k) ≠ t) (hz : kZ h + 2 ≤ kG h 1) (hw : kW h + 12 ≤ kG h 2) (gr : kG h 0 ≤ rd) (bz : b + 18420 ≤ rd) :
    ∃ q h6 h7 S, fJ16_valueOf N (tI h (rd + 6) t 1) (nI t) = some (q, h6) ∧ HBw b rd (tI h (rd + 6) t 1) F ∧ HBw b rd h6 F ∧ fJ2_add N h6 (rd + 4) q = some (1, h7) ∧ ond S h h7 ∧ (∀ q, q < kZ h → S q → rd < q ∧ (kT h q = 15 ∨ kT h q = 39 ∨ kT h q = 33)) ∧ kZ h7 ≤ kZ h + 2 ∧ kW h7 ≤ kW h + 12 ∧ HBc b rd h7 (uF (uF F (169 + F 5) t) 5 (F 5 + 1)) nm := by
  have zz := hb_z H
  have Hw := H.wk
  have e8 : rf h (rd + 1) 8 = rd + 5 := H.2.1 8 (by decide) (by decide)
  have e9 : rf h (rd + 1) 9 = rd + 6 := H.2.1 9 (by decide) (by decide)
  have w8 : wlR h (kI h) b F (rd + 5) := by rw [← e8]; exact H.1.2.2.2.2.2.2.2.2.2.2.2.1
  have d9 : drR h (kI h) b F (rd + 6) := by rw [← e9]; exact H.1.2.2.2.2.2.2.2.2.2.2.2.2
  have t2 : kT h (rd + 1) = 2 := H.1.2.2.1
  obtain ⟨h5, eh5⟩ : ∃ x, x = tI h (rd + 6) t 1 := ⟨_, rfl⟩
  rw [← eh5]
  have K5 : ond (fun q => q = rd + 6) h h5 := by rw [eh5]; exact ond.tI
  have H5 : HBw b rd h5 F := Hw.o K5 ⟨show ¬ rd = rd + 6 by omega, show ¬ rd + 1 = rd + 6 by omega⟩ fun j j1 j2 => ⟨show ¬ rd + j = rd + 6 by omega, fun z => by
    have z : rf h (rd + j) 1 = rd + 6 := z
    have := (Hw.1 j j1 j2).2.2.2.1.2.1
    rw [z, d9.2.1] at this; omega⟩
  have C5 : CS h5 (kI h5) b := by
    obtain ⟨⟨⟨y1, y2, y3⟩, y4, y5, y6⟩, s1, ⟨s2, s3, s4⟩, s5, s6, s7, s8⟩ := id hC
    have n : ∀ q k, kT h q = k → k ≠ 33 → q ≠ rd + 6 := fun q k e1 e2 z => by rw [z, d9.2.1] at e1; omega
    have sm : ∀ q, q < kZ h → q ≠ rd + 6 → kT h5 q = kT h q ∧ kN h5 q = kN h q ∧ kI h5 q = kI h q ∧ kR h5 q = kR h q := fun q hq hn => K5.2.2 q hq hn
    have g5 : kG h5 = kG h := K5.2.1
    have z5 : kZ h5 = kZ h := by rw [eh5]; rfl
    have sr : ∀ q l, StrR h (kI h) b q l → StrR h5 (kI h5) b q l := fun q l hS => hS.ond K5 (n q 17 hS.2.1 (by decide)) (n _ 32 hS.2.2.2.2.1 (by decide))
    obtain ⟨u1, u2, u3, u4⟩ := sm _ y1.1 (n _ 31 y2 (by decide))
    obtain ⟨v1, v2, v3, v4⟩ := sm _ y4.1 (n _ 31 y5 (by decide))
    obtain ⟨x1, x2, x3, x4⟩ := sm _ s2.1 (n _ 39 s3 (by decide))
    obtain ⟨p1, p2, p3, p4⟩ := sm _ s5.1 (n _ 40 s6 (by decide))
    unfold CS CstR
    rw [g5, z5, u1, u2, u3, v1, v2, v3, x1, x2, p1, p2]
    refine ⟨⟨⟨y1, y2, y3⟩, y4, y5, y6⟩, fun k k1 k2 => sr _ _ (s1 k k1 k2), ⟨s2, s3, s4⟩, s5, s6, s7, fun i hi => ?_⟩
    obtain ⟨o1, o2, o3, o4⟩ := s8 i hi
    have er : rf h5 (kG h 13) i = rf h (kG h 13) i := by unfold rf; rw [p4]
    rw [er]
    obtain ⟨l1, l2, l3, l4⟩ := sm _ o2.1 (n _ 18 o3 (by decide))
    rw [l1, l3]
    exact ⟨by unfold isr; rw [er, p4]; exact o1, o2, o3, o4⟩
  have G5 : kG h5 = kG h := K5.2.1
  have z5 : kZ h5 = kZ h := by rw [eh5]; rfl
  have wk5 : kW h5 = kW h := by rw [eh5]; rfl
  obtain ⟨q, h6, a1, a2, a3, a4, a5, a6, a7⟩ := val_of (N := N) C5 ht (by rw [z5, G5]; omega) (by rw [wk5, G5]; omega) (by rw [z5, G5]; omega) (by rw [z5]; omega)
  have H6 : HBw b rd h6 F := H5.o a2 ⟨id, id⟩ fun _ _ _ => ⟨id, id⟩
  have G6 : kG h6 = kG h := a2.2.1.trans G5
  obtain ⟨⟨s2, s3, s4⟩, -⟩ := hC.2.2
  have e12 : kN h6 (kG h6 12) = 0 := by
    have x5 := K5.2.2 _ s2.1 (fun z => by have z : kG h 12 = rd + 6 := z; rw [z, d9.2.1] at s3; omega)
    rw [G6, (a2.2.2 _ (by rw [z5]; exact s2.1) id).2.1, x5.2.1]; exact s4
  obtain ⟨h7, S, b1, b2, b3, b4, b5, b6, b7, b8⟩ := hb_add (N := N) H6 (x := q) 4 (by decide) (by decide) (by rw [G6]; exact gr) e12 (show F 5 < 10 by omega) a5 (by unfold wOk; simp only [a6]; decide) (by rw [G6]; omega) (by rw [G6]; omega) bz
  have KK : ond (fun x => x = rd + 6 ∨ (x < kZ h ∧ S x)) h h7 := (((K5.up fun q _ z => Or.inl z).tr a2 fun q _ z => z.elim).tr b2 fun q hq z => Or.inr ⟨hq, z⟩)
  have S6 : ∀ x, x < kZ h → x ≠ rd + 6 → kT h6 x = kT h x ∧ kN h6 x = kN h x ∧ kI h6 x = kI h x ∧ kR h6 x = kR h x := fun x hx hn => by
    have y1 := K5.2.2 x hx hn
    have y2 := a2.2.2 x (by rw [z5]; exact hx) id
    exact ⟨y2.1.trans y1.1, y2.2.1.trans y1.2.1, y2.2.2.1.trans y1.2.2.1, y2.2.2.2.trans y1.2.2.2⟩
  have T6 : ∀ x, x < kZ h → kT h6 x = kT h x := fun x hx => by
    rw [(a2.2.2 x (by rw [z5]; exact hx) id).1, eh5]; rfl
  have sS : ∀ x, x < kZ h → (x = rd + 6 ∨ (x < kZ h ∧ S x)) → rd < x ∧ (kT h x = 15 ∨ kT h x = 39 ∨ kT h x = 33) := fun x hx z => by
    rcases z with z | ⟨-, z⟩
    · rw [z]; exact ⟨by omega, Or.inr (Or.inr d9.2.1)⟩
    · have := b3 x (Nat.lt_of_lt_of_le hx (by rw [← z5]; exact a2.1)) z
      rw [T6 x hx] at this
      exact ⟨this.1, by omega⟩
  obtain ⟨F', eF⟩ : ∃ x, x = uF (uF F (169 + F 5) t) 5 (F 5 + 1) := ⟨_, rfl⟩
  have F5 : F' 5 = F 5 + 1 := by rw [eF, uF_s]
  have Fo : ∀ i, i ≠ 5 → i ≠ 169 + F 5 → F' i = F i := fun i i1 i2 => by rw [eF, uF_o i1, uF_o i2]
  have Ft : F' (169 + F 5) = t := by rw [eF, uF_o (by omega), uF_s]
  rw [← eF]
  have fn : ∀ j, 2 ≤ j → j ≤ 4 → F' (fN j) = if j = 4 then F (fN j) + 1 else F (fN j) := fun j j1 j2 => by
    rcases (show j = 2 ∨ j = 3 ∨ j = 4 by omega) with rfl | rfl | rfl
    · exact Fo 2 (by decide) (by omega)
    · exact Fo 3 (by decide) (by omega)
    · exact F5
  have hE : nEl (fun x => x = rd + 6 ∨ (x < kZ h ∧ S x)) h := fun x hx z => by have := (sS x hx z).2; omega
  have n1 : ¬ (rd + 1 = rd + 6 ∨ (rd + 1 < kZ h ∧ S (rd + 1))) := fun z => by have := (sS (rd + 1) (by omega) z).2; omega
  have n5 : ¬ (rd + 5 = rd + 6 ∨ (rd + 5 < kZ h ∧ S (rd + 5))) := fun z => by
    rcases z with z | ⟨hx, z⟩
    · omega
    · have := (b3 (rd + 5) (Nat.lt_of_lt_of_le hx (by rw [← z5]; exact a2.1)) z).2
      rw [T6 _ hx, w8.2.1] at this; omega
  have c1 := KK.2.2 (rd + 1) (by omega) n1
  have x1 := H.2.1 5 (by decide) (by decide)
  have x2 := H.2.1 6 (by decide) (by decide)
  have x3 := H.2.1 7 (by decide) (by decide)
  have hi := H.1.2.2.2.2.1
  have qS : ¬ S q := fun z => by have := (b3 q a5.1 z).2; omega
  have q7 := b2.2.2 q a5.1 qS
  have leo : ∀ j, 2 ≤ j → j ≤ 4 → ∀ i, i < F (fN j) → le h7 (rd + j) i = le h (rd + j) i := fun j j1 j2 i hi => by
    rw [(b6 j j1 j2).2 i hi]
    have y1 : rf h6 (rd + j) 1 = rf h (rd + j) 1 := by unfold rf; rw [(S6 (rd + j) (by omega) (by omega)).2.2.2]
    have y2 := (Hw.1 j j1 j2).2.2.2.1
    unfold le
    rw [y1]
    unfold rf at y2 ⊢
    rw [(S6 _ y2.1.1 (fun z => by have := y2.2.1; rw [z, d9.2.1] at this; omega)).2.2.2]
  refine ⟨q, h6, h7, _, a1, H5, H6, b1, KK, sS, by omega, by omega, b8 F' nm fn (hou_mk KK hE H.1 (H.1.1.dr f5 htu Fo F5 Ft) (c1.1.trans t2) (fun k _ _ => by rw [c1.2.2.2]) ⟨by rw [c1.2.2.1, Fo 0 (by decide) (by omega)]; exact hi.1, by rw [c1.2.2.1, Fo 1 (by decide) (by omega)]; exact hi.2.1, by rw [c1.2.2.1, Fo 6 (by decide) (by omega)]; exact hi.2.2.1, by rw [c1.2.2.1, Fo 4 (by decide) (by omega)]; exact hi.2.2.2⟩ ?_ ?_ ?_ (fun p hp => Or.inl ?_) (fun w hw => Or.inl ?_) (fun k hk => ?_) ?_ ?_)⟩
  · rw [x1, Fo 2 (by decide) (by omega)]; exact (b6 2 (by decide) (by decide)).1
  · rw [x2, Fo 3 (by decide) (by omega)]; exact (b6 3 (by decide) (by decide)).1
  · rw [x3, F5]; exact (b6 4 (by decide) (by decide)).1
  · rw [x1]
    rw [Fo 2 (by decide) (by omega)] at hp
    have := H.1.1.1.2.2.1
    exact ⟨hp, leo 2 (by decide) (by decide) p hp, Fo _ (by omega) (by omega), Fo _ (by omega) (by omega), Fo _ (by omega) (by omega), rfl⟩
  · rw [x2]
    rw [Fo 3 (by decide) (by omega)] at hw
    exact ⟨hw, leo 3 (by decide) (by decide) w hw, Fo _ (by omega) (by omega), fun i _ => Fo _ (by omega) (by omega), rfl⟩
  · rw [x3]
    by_cases c : k = F 5
    · right
      rw [c, show le h7 (rd + 7 - 3) (F 5) = q from b7, Ft]
      exact ⟨q7.1.trans a6, by rw [q7.2.2.1]; exact a7⟩
    · left
      have hk' : k < F 5 := by omega
      exact ⟨hk', leo 4 (by decide) (by decide) k hk', Fo _ (by omega) (by omega)⟩
  · rw [e8]
    have := w8.ond KK n5
    refine ⟨this.1, this.2.1, this.2.2.1, fun x hx => ?_⟩
    rw [Fo _ (by omega) (by omega)]; exact this.2.2.2 x hx
  · rw [e9]
    have n6 : ¬ S (rd + 6) := fun z => by
      have := (b3 (rd + 6) (by have := a2.1; omega) z).2
      rw [T6 _ (by omega), d9.2.1] at this; omega
    have y2 := b2.2.2 (rd + 6) (by have := a2.1; omega) n6
    have y1 := a2.2.2 (rd + 6) (by omega) id
    refine ⟨d9.1.up KK.1, by rw [y2.1, y1.1, eh5]; exact d9.2.1, by rw [y2.2.1, y1.2.1, eh5]; exact d9.2.2.1, fun x hx => ?_⟩
    rw [y2.2.2.1, y1.2.2.1, eh5, kI_tI]
    by_cases c : x = t
    · rw [if_pos ⟨rfl, c⟩]
      exact Or.inl ⟨rfl, F 5, by omega, by rw [Ft, c]⟩
    · rw [if_neg (fun z => c z.2)]
      rcases d9.2.2.2 x hx with ⟨v1, k, v2, v3⟩ | ⟨v1, v2⟩
      · exact Or.inl ⟨v1, k, by omega, by rw [Fo _ (by omega) (by omega)]; exact v3⟩
      · refine Or.inr ⟨v1, fun k hk => ?_⟩
        by_cases ck : k = F 5
        · rw [ck, Ft]; exact fun z => c z.symm
        · rw [Fo _ (by omega) (by omega)]; exact v2 k (by omega)
end PVH
