/-! houses: tufts, lists -/
def uF (F : Nat → Nat) (i v : Nat) : Nat → Nat := fun j => if j = i then v else F j
/-- lists and the house's own refs alone -/
def HBw (b rd : Nat) (h : HS) (F : Nat → Nat) : Prop := (∀ j, 2 ≤ j → j ≤ 4 → LstR h (kI h) b (rd + j) (F (fN j))) ∧ kT h (rd + 1) = 2 ∧ rd + 7 ≤ kZ h ∧ (∀ k, 5 ≤ k → k ≤ 9 → kR h (rd + 1) k = some (rd + k - 3)) ∧ (∀ j, 2 ≤ j → j ≤ 4 → LB rd h (rd + j) (F (fN j))) ∧ (∀ j k, 2 ≤ j → j ≤ 4 → 2 ≤ k → k ≤ 4 → j ≠ k → 1 ≤ F (fN j) → 1 ≤ F (fN k) → rf h (rd + j) 1 ≠ rf h (rd + k) 1) ∧ kG h 12 < rd ∧ kT h rd = 5 ∧ kR h rd 9 = some (rd + 1)
section PVD
variable {S : Nat → Prop} {h0 h h' h2 : HS} {σ0 σ σ' : MS} {N b rd sz lim P Zm Wm Z W a l n q p w : Nat} {sp : Bool} {F F' : Nat → Nat} {nm nm' : Nat → Int64}
theorem uF_s {i v : Nat} : uF F i v i = v := if_pos rfl
theorem uF_o {i j v : Nat} (h : j ≠ i) : uF F i v j = F j := if_neg h
theorem upd_uF {f : Nat → Int32} {i v : Nat} (h : ∀ j, j < 429 → f j = nI (F j)) : ∀ j, j < 429 → upd f i (nI v) j = nI (uF F i v j) := fun j hj => by
  by_cases c : j = i
  · rw [c, pk_us, uF_s]
  · rw [pk_un c, uF_o c]; exact h j hj
/-- a tuft is looked at -/
theorem tuft_both (hN : 200000 ≤ N) (R : PRS h0 b rd sz lim Zm Wm sp P h σ) (H : HBc b rd h F nm) (m0 : gA σ 7 0 = nI (F 0)) (m1 : gA σ 7 1 = nI (F 1)) :
    (∃ fa h' σ', fX6_holdTuft N h rd (rd + 1) = some (.inl fa, h') ∧ fX5_looksAtTuft N σ = some (0, σ') ∧ FLT h0 Zm Wm h' fa σ' ∧ mK σ σ') ∨
    ∃ t h' σ' P', t < 144 ∧ tuf F t ∧ fX6_holdTuft N h rd (rd + 1) = some (.inr (nI t), h') ∧ fX5_looksAtTuft N σ = some (1, σ') ∧ gI σ' 18 = nI t ∧ PRS h0 b rd sz lim Zm Wm true P' h' σ' ∧ kI h' rd 4 = 3 ∧ P ≤ P' ∧ cK rd h h' ∧ mK σ σ' ∧ gI σ' 15 = gI σ 15 := by
  have k0 : F 0 ≤ 12 := H.1.1.1.1
  have k1 : F 1 ≤ 12 := H.1.1.1.2.1
  have o0 : oI h (rd + 1) 2 2 0 = some (nI (F 0)) := ho_0 (h := h) (g := kI h) H.1
  have r0 : rA σ 7 0 = some (nI (F 0)) := by rw [show rA σ 7 0 = some (gA σ 7 0) from rA7 (n := 0) (by decide), m0]
  have e0 : fX6_holdTuft N h rd (rd + 1) = ((fX6_number N h rd 0 (nI (F 0) - 1)).bind fun r2 => thr r2.1 (fun b2 => some (.inl b2, r2.2)) fun w2 => ((oI r2.2 (rd + 1) 2 2 1).bind fun v3 => gT r2.2 rd 5 7 (((fX6_hold N r2.2 rd 0 (v3 - 1)).bind fun r4 => thr r4.1 (fun b4 => some (.inl b4, r4.2)) fun w4 => some ((Sum.inr ((12 * w4) + w2) : Nat ⊕ Int32), r4.2))))) := by
    unfold fX6_holdTuft
    rw [o0, Option.bind_some, H.g57]
  rcases num_both (N := N) hN R 0 (nI (F 0) - 1) with ⟨fa, h', σ', q1, q2, q3, q4⟩ | ⟨x, h1, σ1, P1, x1, x2, q1, q2, q3, R1, p1, p2, K1, M1, f1⟩
  · refine Or.inl ⟨fa, h', σ', by rw [e0, q1]; rfl, ?_, q3, q4⟩
    unfold fX5_looksAtTuft
    rw [r0, Option.bind_some, q2, Option.bind_some, if_pos rfl]
  · have H1 := H.ck K1
    have o1 : oI h1 (rd + 1) 2 2 1 = some (nI (F 1)) := ho_1 (h := h1) (g := kI h1) H1.1
    have r1 : rA σ1 7 1 = some (nI (F 1)) := by rw [show rA σ1 7 1 = some (gA σ1 7 1) from rA7 (n := 1) (by decide), M1.1, m1]
    have xl : x < F 0 := by
      rw [isIn_in _ (by omega), inB_n (by omega)] at x2
      by_cases c : x < F 0
      · exact c
      · rw [decide_eq_false c] at x2; exact absurd x2 (by decide)
    have e1 : fX6_holdTuft N h rd (rd + 1) = ((fX6_hold N h1 rd 0 (nI (F 1) - 1)).bind fun r4 => thr r4.1 (fun b4 => some (.inl b4, r4.2)) fun w4 => some ((Sum.inr ((12 * w4) + nI x) : Nat ⊕ Int32), r4.2)) := by
      rw [e0, q1, Option.bind_some]
      simp only [thr]
      rw [o1, Option.bind_some, H1.g57]
    have eM : fX5_looksAtTuft N σ = (if (gI σ1 11) = 2 then (if (gI σ1 14) < nI (F 1) then some (1, sI σ1 18 ((12 * (gI σ1 14)) + (gI σ1 18))) else some (0, (fX5_bad σ1 2).2)) else some (0, (fX5_bad σ1 1).2)) := by
      unfold fX5_looksAtTuft
      rw [r0, Option.bind_some, q2, Option.bind_some, if_neg (show ¬ (1 : Int32) = 0 by decide)]
      show (if (gI σ1 11) = 2 then ((rA σ1 7 1).bind fun v5 => (if (gI σ1 14) < v5 then (lt_ (sI σ1 18 ((12 * (gI σ1 14)) + (gI σ1 18))) fun σ7 => some (1, σ7)) else (lt_ (fX5_bad σ1 2) fun r8 => gB r8.1 (some (r8.1, r8.2))))) else (lt_ (fX5_bad σ1 1) fun r10 => gB r10.1 (some (r10.1, r10.2)))) = _
      rw [r1, Option.bind_some]
      rfl
    rcases hold_c (N := N) R1 0 (nI (F 1) - 1) with ⟨c1, fa, h', e2, e3⟩ | ⟨c1, y, y1, y2, y3, ⟨y4, fa, h', e2, e3⟩ | ⟨y4, e2⟩⟩
    · refine Or.inl ⟨fa, h', (fX5_bad σ1 1).2, by rw [e1, e2]; rfl, by rw [eM, if_neg c1], e3, M1.trans (bad_m 1)⟩
    · rw [isIn_in _ (by omega), inB_n (by omega)] at y4
      have yl : ¬ y < F 1 := fun c => by rw [decide_eq_true c] at y4; exact absurd y4 (by decide)
      refine Or.inl ⟨fa, h', (fX5_bad σ1 2).2, by rw [e1, e2]; rfl, by rw [eM, if_pos c1, y2, if_neg (nI_nlt (by omega) (by omega))], e3, M1.trans (bad_m 2)⟩
    · rw [isIn_in _ (by omega), inB_n (by omega)] at y4
      have yl : y < F 1 := by
        by_cases c : y < F 1
        · exact c
        · rw [decide_eq_false c] at y4; exact absurd y4 (by decide)
      have ev : (12 : Int32) * nI y + nI x = nI (12 * y + x) := by rw [pl_lm, nI_add]
      have lt : 12 * y + x < 144 := by omega
      refine Or.inr ⟨12 * y + x, h1, sI σ1 18 (nI (12 * y + x)), P1, lt, ⟨by omega, by omega⟩, ?_, ?_, rfl, R1.ms rfl rfl rfl (fun k hk => by rw [gI_sI, if_neg (by omega)]), y3, p1, K1, ?_, ?_⟩
      · rw [e1, e2, Option.bind_some]
        simp only [thr]
        rw [ev]
      · rw [eM, if_pos c1, y2, if_pos (nI_lt yl (by omega)), q3, ev]
      · refine M1.trans ⟨rfl, rfl, fun k a1 a2 a3 a4 a5 a6 a7 a8 => ?_⟩
        rw [gI_sI, if_neg a8]
      · rw [gI_sI, if_neg (by decide)]; exact f1
/-- the house's own cells are written: the lists stay -/
theorem hb_mk0 (H : HBc b rd h F nm) (K : ond S h h') (nS : ∀ j, 2 ≤ j → j ≤ 4 → ¬ S (rd + j) ∧ ¬ S (rf h (rd + j) 1)) (nr : ¬ S rd) (ra : ∀ k, 5 ≤ k → k ≤ 9 → kR h' (rd + 1) k = kR h (rd + 1) k) (hF : ∀ j, 2 ≤ j → j ≤ 4 → F' (fN j) = F (fN j)) (hH' : HouR h' (kI h') b (rd + 1) F' nm') : HBc b rd h' F' nm' := by
  have hz := hb_z H
  have hl : ∀ j, 2 ≤ j → j ≤ 4 → LstR h (kI h) b (rd + j) (F (fN j)) := fun j j1 j2 => hb_lst H j1 j2
  obtain ⟨hH, er, lb, ds, g12, t5, r9⟩ := H
  have lb' : ∀ j, 2 ≤ j → j ≤ 4 → LB rd h' (rd + j) (F (fN j)) ∧ rf h' (rd + j) 1 = rf h (rd + j) 1 := fun j j1 j2 => (lb j j1 j2).ond K (hl j j1 j2) (nS j j1 j2).1 (nS j j1 j2).2
  obtain ⟨a1, a2, a3, a4⟩ := K.2.2 rd (by omega) nr
  refine ⟨hH', fun k k1 k2 => ?_, fun j j1 j2 => by rw [hF j j1 j2]; exact (lb' j j1 j2).1, fun j k j1 j2 k1 k2 jk x y => by rw [hF j j1 j2] at x; rw [hF k k1 k2] at y; rw [(lb' j j1 j2).2, (lb' k k1 k2).2]; exact ds j k j1 j2 k1 k2 jk x y, by rw [K.2.1]; exact g12, a1.trans t5, by rw [a4]; exact r9⟩
  unfold rf; rw [ra k k1 k2]; exact er k k1 k2
theorem HBc.wk (H : HBc b rd h F nm) : HBw b rd h F := by
  have zz := hb_z H
  have hl : ∀ j, 2 ≤ j → j ≤ 4 → LstR h (kI h) b (rd + j) (F (fN j)) := fun j j1 j2 => hb_lst H j1 j2
  obtain ⟨hH, er, lb, ds, g12, t5, r9⟩ := H
  exact ⟨hl, hH.2.2.1, zz, fun k k1 k2 => by rw [← er k k1 k2]; exact hH.2.2.2.1 k k1 k2, lb, ds, g12, t5, r9⟩
theorem HBw.o (H : HBw b rd h F) (K : ond S h h') (nr : ¬ S rd ∧ ¬ S (rd + 1)) (nS : ∀ j, 2 ≤ j → j ≤ 4 → ¬ S (rd + j) ∧ ¬ S (rf h (rd + j) 1)) : HBw b rd h' F := by
  obtain ⟨hl, t2, zz, er, lb, ds, g12, t5, r9⟩ := H
  obtain ⟨a1, a2, a3, a4⟩ := K.2.2 rd (by omega) nr.1
  obtain ⟨b1, b2, b3, b4⟩ := K.2.2 (rd + 1) (by omega) nr.2
  have lb' : ∀ j, 2 ≤ j → j ≤ 4 → LB rd h' (rd + j) (F (fN j)) ∧ rf h' (rd + j) 1 = rf h (rd + j) 1 := fun j j1 j2 => (lb j j1 j2).ond K (hl j j1 j2) (nS j j1 j2).1 (nS j j1 j2).2
  exact ⟨fun j j1 j2 => ((hl j j1 j2).ond K (nS j j1 j2).1 (nS j j1 j2).2).1, b1.trans t2, Nat.le_trans zz K.1, fun k k1 k2 => by rw [b4]; exact er k k1 k2, fun j j1 j2 => (lb' j j1 j2).1, fun j k j1 j2 k1 k2 jk x y => by rw [(lb' j j1 j2).2, (lb' k k1 k2).2]; exact ds j k j1 j2 k1 k2 jk x y, by rw [K.2.1]; exact g12, a1.trans t5, by rw [a4]; exact r9⟩
theorem HBw.a9 (H : HBw b rd h F) : fR h rd 5 5 9 = some (rd + 1) := (fR_n (Nat.le_of_eq H.2.2.2.2.2.2.2.1.symm) (Nat.le_of_eq H.2.2.2.2.2.2.2.1)).trans H.2.2.2.2.2.2.2.2
theorem HBw.ar (H : HBw b rd h F) {k : Nat} (k1 : 5 ≤ k) (k2 : k ≤ 9) : fR h (rd + 1) 2 2 k = some (rd + k - 3) := (fR_n (Nat.le_of_eq H.2.1.symm) (Nat.le_of_eq H.2.1)).trans (H.2.2.2.1 k k1 k2)
theorem HBw.gl {α : Type} {x : Option α} (H : HBw b rd h F) {j : Nat} (j1 : 2 ≤ j) (j2 : j ≤ 4) : gT h (rd + j) 15 15 x = x := gT_n (Nat.le_of_eq (H.1 j j1 j2).2.1.symm) (Nat.le_of_eq (H.1 j j1 j2).2.1)
theorem HBw.gt {α : Type} {x : Option α} (H : HBw b rd h F) : gT h rd 5 5 x = x := gT_n (Nat.le_of_eq H.2.2.2.2.2.2.2.1.symm) (Nat.le_of_eq H.2.2.2.2.2.2.2.1)
/-- one more in a list -/
theorem hb_add (H : HBw b rd h F) {x : Nat} (j0 : Nat) (j1 : 2 ≤ j0) (j2 : j0 ≤ 4) (gr : kG h 0 ≤ rd) (e12 : kN h (kG h 12) = 0) (hn : F (fN j0) < 10) (ix : imm b (kZ h) x) (wok : wOk h 39 (some x) = true) (hz : kZ h + 1 ≤ kG h 1) (hw : kW h + 10 ≤ kG h 2) (bz : b + 18420 ≤ rd) :
    ∃ h' S, fJ2_add N h (rd + j0) x = some (1, h') ∧ ond S h h' ∧ (∀ q, q < kZ h → S q → rd < q ∧ (kT h q = 15 ∨ kT h q = 39)) ∧ kZ h' ≤ kZ h + 1 ∧ kW h' ≤ kW h + 10 ∧ (∀ j, 2 ≤ j → j ≤ 4 → LstR h' (kI h') b (rd + j) (if j = j0 then F (fN j) + 1 else F (fN j)) ∧ ∀ i, i < F (fN j) → le h' (rd + j) i = le h (rd + j) i) ∧ le h' (rd + j0) (F (fN j0)) = x ∧ (∀ F' nm', (∀ j, 2 ≤ j → j ≤ 4 → F' (fN j) = if j = j0 then F (fN j) + 1 else F (fN j)) → HouR h' (kI h') b (rd + 1) F' nm' → HBc b rd h' F' nm') := by
  obtain ⟨hl, t2, zz, er, lb, ds, g12, t5, r9⟩ := H
  obtain ⟨h', c1, c2, c3, c4, c5, c6, c7, c8, c9⟩ := ls_add (N := N) (hl j0 j1 j2) (by omega) (lb j0 j1 j2) gr e12 hn ix wok hz hw (by omega) (by omega) (by omega)
  have n39 : ∀ j, 2 ≤ j → j ≤ 4 → kT h (rf h (rd + j) 1) = 39 := fun j j1 j2 => (hl j j1 j2).2.2.2.1.2.1
  have n15 : ∀ j, 2 ≤ j → j ≤ 4 → kT h (rd + j) = 15 := fun j j1 j2 => (hl j j1 j2).2.1
  have oth : ∀ j, 2 ≤ j → j ≤ 4 → j ≠ j0 → ¬ (rd + j = rd + j0 ∨ (1 ≤ F (fN j0) ∧ rd + j = rf h (rd + j0) 1)) ∧ ¬ (rf h (rd + j) 1 = rd + j0 ∨ (1 ≤ F (fN j0) ∧ rf h (rd + j) 1 = rf h (rd + j0) 1)) := fun j k1 k2 jk => by
    refine ⟨fun z => ?_, fun z => ?_⟩
    · rcases z with z | ⟨-, z⟩
      · omega
      · have y1 := n39 j0 j1 j2
        rw [← z, n15 j k1 k2] at y1; omega
    · rcases z with z | ⟨y, z⟩
      · have y1 := n39 j k1 k2
        rw [z, n15 j0 j1 j2] at y1; omega
      · rcases lb j k1 k2 with ⟨x1, x2⟩ | ⟨x1, x2, x3⟩
        · rcases lb j0 j1 j2 with ⟨v1, v2⟩ | ⟨v1, v2, v3⟩
          · omega
          · omega
        · exact ds j j0 k1 k2 j1 j2 jk x1 y z
  have ot : ∀ j, 2 ≤ j → j ≤ 4 → j ≠ j0 → (LstR h' (kI h') b (rd + j) (F (fN j)) ∧ rf h' (rd + j) 1 = rf h (rd + j) 1 ∧ ∀ i, le h' (rd + j) i = le h (rd + j) i) ∧ LB rd h' (rd + j) (F (fN j)) := fun j k1 k2 jk => ⟨(hl j k1 k2).ond c2 (oth j k1 k2 jk).1 (oth j k1 k2 jk).2, ((lb j k1 k2).ond c2 (hl j k1 k2) (oth j k1 k2 jk).1 (oth j k1 k2 jk).2).1⟩
  have nS : ∀ q, q < kZ h → (q = rd + j0 ∨ (1 ≤ F (fN j0) ∧ q = rf h (rd + j0) 1)) → rd < q ∧ (kT h q = 15 ∨ kT h q = 39) := fun q _ z => by
    rcases z with z | ⟨y, z⟩
    · rw [z]; exact ⟨by omega, Or.inl (n15 j0 j1 j2)⟩
    · refine ⟨?_, Or.inr (by rw [z]; exact n39 j0 j1 j2)⟩
      rcases lb j0 j1 j2 with ⟨v1, v2⟩ | ⟨v1, v2, v3⟩ <;> omega
  refine ⟨h', _, c1, c2, nS, c3, c4, fun j k1 k2 => ?_, c8, fun F' nm' hF hH' => ?_⟩
  · by_cases c : j = j0
    · rw [if_pos c, c]; exact ⟨c5, c7⟩
    · rw [if_neg c]; exact ⟨(ot j k1 k2 c).1.1, fun i _ => (ot j k1 k2 c).1.2.2 i⟩
  · have nr : ¬ (rd = rd + j0 ∨ (1 ≤ F (fN j0) ∧ rd = rf h (rd + j0) 1)) := fun z => by have := (nS rd (by omega) z).1; omega
    have n1 : ¬ (rd + 1 = rd + j0 ∨ (1 ≤ F (fN j0) ∧ rd + 1 = rf h (rd + j0) 1)) := fun z => by
      have := (nS (rd + 1) (by omega) z).2
      omega
    obtain ⟨a1, a2, a3, a4⟩ := c2.2.2 rd (by omega) nr
    have fresh : ∀ k, 2 ≤ k → k ≤ 4 → k ≠ j0 → 1 ≤ F (fN k) → rf h' (rd + j0) 1 ≠ rf h (rd + k) 1 := fun k k1 k2 kj y => by
      rcases c9 with ⟨v1, v2⟩ | ⟨v1, v2⟩
      · rw [v2]; exact ds j0 k j1 j2 k1 k2 (fun z => kj z.symm) v1 y
      · rw [v2]; have := (hl k k1 k2).2.2.2.1.1.1; omega
    refine ⟨hH', fun k k1 k2 => by unfold rf; rw [(c2.2.2 _ (by omega) n1).2.2.2, er k k1 k2]; rfl, fun j k1 k2 => ?_, fun j k k1 k2 k3 k4 jk x y => ?_, by rw [c2.2.1]; exact g12, a1.trans t5, by rw [a4]; exact r9⟩
    · rw [hF j k1 k2]
      by_cases c : j = j0
      · rw [if_pos c, c]; exact c6
      · rw [if_neg c]; exact (ot j k1 k2 c).2
    · rw [hF j k1 k2] at x
      rw [hF k k3 k4] at y
      by_cases cj : j = j0
      · have ck : k ≠ j0 := fun z => jk (cj.trans z.symm)
        rw [if_neg ck] at y
        rw [cj, (ot k k3 k4 ck).1.2.1]; exact fresh k k3 k4 ck y
      · rw [if_neg cj] at x
        by_cases ck : k = j0
        · rw [ck, (ot j k1 k2 cj).1.2.1]; exact fun z => fresh j k1 k2 cj x z.symm
        · rw [if_neg ck] at y
          rw [(ot j k1 k2 cj).1.2.1, (ot k k3 k4 ck).1.2.1]; exact ds j k k1 k2 k3 k4 jk x y
end PVD
