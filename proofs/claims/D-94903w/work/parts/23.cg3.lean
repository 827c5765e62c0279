def fX1_person (F : Nat) (h0 : HS) (x0 : Nat) (x1 : Int32) (x2 : Int32) : Option ((Nat ⊕ Int32) × HS) := gT h0 x0 1 1 (((fX1_isPerson F h0 x0 x1).bind fun r1 => (lt_ (if r1 = 0 then true else (if (fX1_isIn x2 0 5) = 0 then true else false)) fun q2 => (if q2 = true then ((fX1_need F h0 0).bind fun r6 => thr r6.1 (fun b6 => some (.inl b6, r6.2)) fun w6 => ((fR r6.2 x0 1 1 3).bind fun a7 => ((fR r6.2 a7 2 2 5).bind fun a8 => gT r6.2 a8 15 15 (((fJ2_get F r6.2 a8 x1).bind fun r9 => gT r6.2 r9 9 9 ((if x2 = 0 then ((oI r6.2 r9 9 9 1).bind fun v11 => some (.inr v11, r6.2)) else (if x2 = 1 then ((oI r6.2 r9 9 9 2).bind fun v13 => some (.inr v13, r6.2)) else (if x2 = 2 then ((oI r6.2 r9 9 9 3).bind fun v15 => some (.inr v15, r6.2)) else (if x2 = 3 then ((fR r6.2 x0 1 1 4).bind fun a17 => gT r6.2 a17 3 3 (((fX3_treadsOf F r6.2 a17 x1).bind fun r18 => some (.inr r18, r6.2)))) else (if x2 = 4 then ((fR r6.2 x0 1 1 4).bind fun a20 => gT r6.2 a20 3 3 (((fX3_tuftsOf F r6.2 a20 x1).bind fun r21 => some (.inr r21, r6.2)))) else ((fR r6.2 x0 1 1 4).bind fun a23 => ((fR r6.2 a23 3 3 8).bind fun a24 => ((aI r6.2 a24 31 x1).bind fun v25 => some (.inr v25, r6.2))))))))))))))) else ((fX1_need F h0 1).bind fun r26 => thr r26.1 (fun b26 => some (.inl b26, r26.2)) fun w26 => ((fR r26.2 x0 1 1 3).bind fun a27 => ((fR r26.2 a27 2 2 5).bind fun a28 => gT r26.2 a28 15 15 (((fJ2_get F r26.2 a28 x1).bind fun r29 => gT r26.2 r29 9 9 ((if x2 = 0 then ((oI r26.2 r29 9 9 1).bind fun v31 => some (.inr v31, r26.2)) else (if x2 = 1 then ((oI r26.2 r29 9 9 2).bind fun v33 => some (.inr v33, r26.2)) else (if x2 = 2 then ((oI r26.2 r29 9 9 3).bind fun v35 => some (.inr v35, r26.2)) else (if x2 = 3 then ((fR r26.2 x0 1 1 4).bind fun a37 => gT r26.2 a37 3 3 (((fX3_treadsOf F r26.2 a37 x1).bind fun r38 => some (.inr r38, r26.2)))) else (if x2 = 4 then ((fR r26.2 x0 1 1 4).bind fun a40 => gT r26.2 a40 3 3 (((fX3_tuftsOf F r26.2 a40 x1).bind fun r41 => some (.inr r41, r26.2)))) else ((fR r26.2 x0 1 1 4).bind fun a43 => ((fR r26.2 a43 3 3 8).bind fun a44 => ((aI r26.2 a44 31 x1).bind fun v45 => some (.inr v45, r26.2)))))))))))))))))))
theorem hyX1_person : yX1_person.cls ≠ "java/lang/invoke/MethodHandle" ∧ yX1_person.cls ≠ "java/lang/invoke/VarHandle" := by decide +kernel
theorem hlX1_person : (parseMethodDescriptor yX1_person.desc).map (fun d => d.parameters.length) = some 2 := by decide +kernel
set_option maxHeartbeats 4000000 in
set_option maxRecDepth 100000 in
theorem metX1_person (l : Launch) [NoTr l] (F : Nat) (D : va_G) (h0 : HS) (x0 : Nat) (x1 : Int32) (x2 : Int32) (r : (Nat ⊕ Int32) × HS) (hF : fX1_person F h0 x0 x1 x2 = some r) : CMet l yX1_person (ws_ yX1_person cX1_person 4 (some .int)) 10 240 D [.ref x0, .int x1, .int x2] h0 r.2 (xi r.1) := by
  refine CMet.ofW (by decide) ?_
  intro p e s m below meth c s₁ B S hX hM hr hlocks hnt hin
  obtain ⟨hx, hb, hml, hown, hts⟩ := id S
  have hl := lv_entry ([.ref x0, .int x1, .int x2]) (n := 4) (Nat.le_of_ble_eq_true rfl)
  rw [lg_entry_eq]
  generalize (lg_sl ([.ref x0, .int x1, .int x2]) ++ List.replicate (4 - (lg_sl ([.ref x0, .int x1, .int x2])).length) Slot.unset).toArray = ls at hl ⊢
  have hl : lv_has ls 4 [(0, .ref x0), (1, .int x1), (2, .int x2)] := hl
  unfold fX1_person at hF
  refine lv_aload_n hx hb dX1_person_0 rfl (lv_at hl 0 rfl) ?_
  refine lv_iload_n hx hb dX1_person_1 rfl (lv_at hl 1 rfl) ?_
  obtain ⟨z1, hF⟩ := gTe hF
  obtain ⟨r1, er1, hF⟩ := obn hF
  refine ccr (rest := []) (st1 := [.int r1]) S hX hM (metX1_isPerson l F D h0 x0 x1 r1 er1) (ci_V (C := "RugReader") (As := [.int x1]) (rest := []) S q1157 q1159 qs16 q1160 hyX1_isPerson (HI.cell (ci := 0) hX hM (by decide) (by omega)) hlX1_isPerson rfl dX1_person_2) q1160 q103 (Nat.le_of_ble_eq_true rfl) (Nat.le_of_ble_eq_true rfl) hl.1 (Nat.le_of_ble_eq_true rfl) rfl (fun H locs cs ss hM => ?_)
  obtain ⟨q2, hq2, hF⟩ := lte hF
  refine cjnc (C := q2 = true) (I := HI D h0 h0 s.heap) (nJ := 4) (lvJ := [(0, .ref x0), (1, .int x1), (2, .int x2)]) (J := 21) (stJ := []) ?_ ?_
  · intro cq2 H locs cs ss ls hM hl
    have hF := ifp hF cq2
    refine lv_iconst (v := 0) hx hb dX1_person_21 rfl ?_
    obtain ⟨r6, er6, hF⟩ := obn hF
    refine cctv (rest := []) S hX hM (metX1_need l F D h0 0 r6 er6) (ci_S (As := [.int 0]) (rest := []) S q1692 q1693 q103 q1694 hyX1_need hlX1_need rfl dX1_person_22) q1694 q103 (Nat.le_of_ble_eq_true rfl) (Nat.le_of_ble_eq_true rfl) hl.1 (Nat.le_of_ble_eq_true rfl) (fun w6 ew6 H locs cs ss hM => ?_) (fun b6 eb6 H locs cs ss hM => ?_)
    · have hF := thr_r hF ew6
      refine lv_aload_n hx hb dX1_person_25 rfl (lv_at hl 0 rfl) ?_
      obtain ⟨a7, ea7, hF⟩ := obn hF
      refine cgn S hX hM ea7 ck_1_1_3 q327 (fun _ h => h) dX1_person_26 ?_
      obtain ⟨a8, ea8, hF⟩ := obn hF
      refine cgnN S hX hM ea8 ck_2_2_5 (uq204 hX) dX1_person_29 ?_
      refine lv_iload_n hx hb dX1_person_32 rfl (lv_at hl 1 rfl) ?_
      obtain ⟨z9, hF⟩ := gTe hF
      obtain ⟨r9, er9, hF⟩ := obn hF
      refine ccr (rest := []) (st1 := [.ref r9]) S hX hM (metJ2_get l F D r6.2 a8 x1 r9 er9) (ci_V (C := "java/util/ArrayList") (As := [.int x1]) (rest := []) S q1151 q925 q926 q927 hyJ2_get (HI.cell (ci := 14) hX hM (by decide) (by omega)) hlJ2_get rfl dX1_person_33) q927 q107 (Nat.le_of_ble_eq_true rfl) (Nat.le_of_ble_eq_true rfl) hl.1 (Nat.le_of_ble_eq_true rfl) rfl (fun H locs cs ss hM => ?_)
      obtain ⟨z10, hF⟩ := gTe hF
      refine ccs (ci := 8) S hX hM (by decide) (by omega) q1249 dX1_person_36 ?_
      refine lv_astore_n (lv' := [(3, .ref r9), (0, .ref x0), (1, .int x1), (2, .int x2)]) hx hb dX1_person_39 rfl hl (by decide) rfl (fun ls hl => ?_)
      refine lv_iload_n hx hb dX1_person_40 rfl (lv_at hl 3 rfl) ?_
      by_cases c12 : x2 = 0
      · have hF := ifp hF c12
        refine lv_tableIn (off := 35) (tgt := 76) hx hb dX1_person_41 (by rw [c12]; decide) (by rw [c12]; decide) (by rw [c12]; rfl) (by decide) ?_
        refine lv_aload_n hx hb dX1_person_76 rfl (lv_at hl 0 rfl) ?_
        obtain ⟨v11, ev11, hF⟩ := obn hF
        refine cgiN S hX hM ev11 ck_9_9_1 (uq949 hX) dX1_person_77 ?_
        have hz := (Option.some.inj hF)
        subst hz
        exact cri S hM hr hlocks dX1_person_80
      · have hF := ifn hF c12
        by_cases c14 : x2 = 1
        · have hF := ifp hF c14
          refine lv_tableIn (off := 40) (tgt := 81) hx hb dX1_person_41 (by rw [c14]; decide) (by rw [c14]; decide) (by rw [c14]; rfl) (by decide) ?_
          refine lv_aload_n hx hb dX1_person_81 rfl (lv_at hl 0 rfl) ?_
          obtain ⟨v13, ev13, hF⟩ := obn hF
          refine cgiN S hX hM ev13 ck_9_9_2 (uq953 hX) dX1_person_82 ?_
          have hz := (Option.some.inj hF)
          subst hz
          exact cri S hM hr hlocks dX1_person_85
        · have hF := ifn hF c14
          by_cases c16 : x2 = 2
          · have hF := ifp hF c16
            refine lv_tableIn (off := 45) (tgt := 86) hx hb dX1_person_41 (by rw [c16]; decide) (by rw [c16]; decide) (by rw [c16]; rfl) (by decide) ?_
            refine lv_aload_n hx hb dX1_person_86 rfl (lv_at hl 0 rfl) ?_
            obtain ⟨v15, ev15, hF⟩ := obn hF
            refine cgiN S hX hM ev15 ck_9_9_3 (uq957 hX) dX1_person_87 ?_
            have hz := (Option.some.inj hF)
            subst hz
            exact cri S hM hr hlocks dX1_person_90
          · have hF := ifn hF c16
            by_cases c19 : x2 = 3
            · have hF := ifp hF c19
              refine lv_tableIn (off := 50) (tgt := 91) hx hb dX1_person_41 (by rw [c19]; decide) (by rw [c19]; decide) (by rw [c19]; rfl) (by decide) ?_
              refine lv_aload_n hx hb dX1_person_91 rfl (lv_at hl 1 rfl) ?_
              obtain ⟨a17, ea17, hF⟩ := obn hF
              refine cgn S hX hM ea17 ck_1_1_4 q328 (fun _ h => h) dX1_person_92 ?_
              refine lv_iload_n hx hb dX1_person_95 rfl (lv_at hl 2 rfl) ?_
              obtain ⟨z18, hF⟩ := gTe hF
              obtain ⟨r18, er18, hF⟩ := obn hF
              refine ccr (rest := []) (st1 := [.int r18]) S hX hM (metX3_treadsOf l F D r6.2 a17 x1 r18 er18) (ci_V (C := "RugReader$Rug") (As := [.int x1]) (rest := []) S q1715 q1647 q1648 q1649 hyX3_treadsOf (HI.cell (ci := 2) hX hM (by decide) (by omega)) hlX3_treadsOf rfl dX1_person_96) q1649 q108 (Nat.le_of_ble_eq_true rfl) (Nat.le_of_ble_eq_true rfl) hl.1 (Nat.le_of_ble_eq_true rfl) rfl (fun H locs cs ss hM => ?_)
              have hz := (Option.some.inj hF)
              subst hz
              exact cri S hM hr hlocks dX1_person_99
            · have hF := ifn hF c19
              by_cases c22 : x2 = 4
              · have hF := ifp hF c22
                refine lv_tableIn (off := 59) (tgt := 100) hx hb dX1_person_41 (by rw [c22]; decide) (by rw [c22]; decide) (by rw [c22]; rfl) (by decide) ?_
                refine lv_aload_n hx hb dX1_person_100 rfl (lv_at hl 1 rfl) ?_
                obtain ⟨a20, ea20, hF⟩ := obn hF
                refine cgn S hX hM ea20 ck_1_1_4 q328 (fun _ h => h) dX1_person_101 ?_
                refine lv_iload_n hx hb dX1_person_104 rfl (lv_at hl 2 rfl) ?_
                obtain ⟨z21, hF⟩ := gTe hF
                obtain ⟨r21, er21, hF⟩ := obn hF
                refine ccr (rest := []) (st1 := [.int r21]) S hX hM (metX3_tuftsOf l F D r6.2 a20 x1 r21 er21) (ci_V (C := "RugReader$Rug") (As := [.int x1]) (rest := []) S q1716 q1655 q1656 q1657 hyX3_tuftsOf (HI.cell (ci := 2) hX hM (by decide) (by omega)) hlX3_tuftsOf rfl dX1_person_105) q1657 q108 (Nat.le_of_ble_eq_true rfl) (Nat.le_of_ble_eq_true rfl) hl.1 (Nat.le_of_ble_eq_true rfl) rfl (fun H locs cs ss hM => ?_)
                have hz := (Option.some.inj hF)
                subst hz
                exact cri S hM hr hlocks dX1_person_108
              · have hF := ifn hF c22
                refine lv_tableOut (tgt := 109) hx hb dX1_person_41 (by first | omega | (have := lv_neT (a := 0) c12 rfl; have := lv_neT (a := 1) c14 rfl; have := lv_neT (a := 2) c16 rfl; have := lv_neT (a := 3) c19 rfl; have := lv_neT (a := 4) c22 rfl; omega)) (by decide) ?_
                refine lv_aload_n hx hb dX1_person_109 rfl (lv_at hl 1 rfl) ?_
                obtain ⟨a23, ea23, hF⟩ := obn hF
                refine cgn S hX hM ea23 ck_1_1_4 q328 (fun _ h => h) dX1_person_110 ?_
                obtain ⟨a24, ea24, hF⟩ := obn hF
                refine cgnN S hX hM ea24 ck_3_3_8 (uq268 hX) dX1_person_113 ?_
                refine lv_iload_n hx hb dX1_person_116 rfl (lv_at hl 2 rfl) ?_
                obtain ⟨v25, ev25, hF⟩ := obn hF
                refine cai S hX hM ev25 dX1_person_117 ?_
                have hz := (Option.some.inj hF)
                subst hz
                exact cri S hM hr hlocks dX1_person_118
    · have hF := thr_q hF eb6
      have hz := (Option.some.inj hF)
      subst hz
      exact cxout hM (fun x hx => (hnt x hx).elim) hlocks
  · intro hAq2
    refine cjnc (C := q2 = false) (I := HI D h0 h0 s.heap) (nJ := 4) (lvJ := [(0, .ref x0), (1, .int x1), (2, .int x2)]) (J := 17) (stJ := []) ?_ ?_
    · intro cq2 H locs cs ss ls hM hl
      have hF := ifn hF (by rw [cq2]; decide)
      refine lv_iconst (v := 1) hx hb dX1_person_17 rfl ?_
      refine lv_goto (tgt := 22) hx hb dX1_person_18 (by decide) ?_
      obtain ⟨r26, er26, hF⟩ := obn hF
      refine cctv (rest := []) S hX hM (metX1_need l F D h0 1 r26 er26) (ci_S (As := [.int 1]) (rest := []) S q1692 q1693 q103 q1694 hyX1_need hlX1_need rfl dX1_person_22) q1694 q103 (Nat.le_of_ble_eq_true rfl) (Nat.le_of_ble_eq_true rfl) hl.1 (Nat.le_of_ble_eq_true rfl) (fun w26 ew26 H locs cs ss hM => ?_) (fun b26 eb26 H locs cs ss hM => ?_)
      · have hF := thr_r hF ew26
        refine lv_aload_n hx hb dX1_person_25 rfl (lv_at hl 0 rfl) ?_
        obtain ⟨a27, ea27, hF⟩ := obn hF
        refine cgn S hX hM ea27 ck_1_1_3 q327 (fun _ h => h) dX1_person_26 ?_
        obtain ⟨a28, ea28, hF⟩ := obn hF
        refine cgnN S hX hM ea28 ck_2_2_5 (uq204 hX) dX1_person_29 ?_
        refine lv_iload_n hx hb dX1_person_32 rfl (lv_at hl 1 rfl) ?_
        obtain ⟨z29, hF⟩ := gTe hF
        obtain ⟨r29, er29, hF⟩ := obn hF
        refine ccr (rest := []) (st1 := [.ref r29]) S hX hM (metJ2_get l F D r26.2 a28 x1 r29 er29) (ci_V (C := "java/util/ArrayList") (As := [.int x1]) (rest := []) S q1151 q925 q926 q927 hyJ2_get (HI.cell (ci := 14) hX hM (by decide) (by omega)) hlJ2_get rfl dX1_person_33) q927 q107 (Nat.le_of_ble_eq_true rfl) (Nat.le_of_ble_eq_true rfl) hl.1 (Nat.le_of_ble_eq_true rfl) rfl (fun H locs cs ss hM => ?_)
        obtain ⟨z30, hF⟩ := gTe hF
        refine ccs (ci := 8) S hX hM (by decide) (by omega) q1249 dX1_person_36 ?_
        refine lv_astore_n (lv' := [(3, .ref r29), (0, .ref x0), (1, .int x1), (2, .int x2)]) hx hb dX1_person_39 rfl hl (by decide) rfl (fun ls hl => ?_)
        refine lv_iload_n hx hb dX1_person_40 rfl (lv_at hl 3 rfl) ?_
        by_cases c32 : x2 = 0
        · have hF := ifp hF c32
          refine lv_tableIn (off := 35) (tgt := 76) hx hb dX1_person_41 (by rw [c32]; decide) (by rw [c32]; decide) (by rw [c32]; rfl) (by decide) ?_
          refine lv_aload_n hx hb dX1_person_76 rfl (lv_at hl 0 rfl) ?_
          obtain ⟨v31, ev31, hF⟩ := obn hF
          refine cgiN S hX hM ev31 ck_9_9_1 (uq949 hX) dX1_person_77 ?_
          have hz := (Option.some.inj hF)
          subst hz
          exact cri S hM hr hlocks dX1_person_80
        · have hF := ifn hF c32
          by_cases c34 : x2 = 1
          · have hF := ifp hF c34
            refine lv_tableIn (off := 40) (tgt := 81) hx hb dX1_person_41 (by rw [c34]; decide) (by rw [c34]; decide) (by rw [c34]; rfl) (by decide) ?_
            refine lv_aload_n hx hb dX1_person_81 rfl (lv_at hl 0 rfl) ?_
            obtain ⟨v33, ev33, hF⟩ := obn hF
            refine cgiN S hX hM ev33 ck_9_9_2 (uq953 hX) dX1_person_82 ?_
            have hz := (Option.some.inj hF)
            subst hz
            exact cri S hM hr hlocks dX1_person_85
          · have hF := ifn hF c34
            by_cases c36 : x2 = 2
            · have hF := ifp hF c36
              refine lv_tableIn (off := 45) (tgt := 86) hx hb dX1_person_41 (by rw [c36]; decide) (by rw [c36]; decide) (by rw [c36]; rfl) (by decide) ?_
              refine lv_aload_n hx hb dX1_person_86 rfl (lv_at hl 0 rfl) ?_
              obtain ⟨v35, ev35, hF⟩ := obn hF
              refine cgiN S hX hM ev35 ck_9_9_3 (uq957 hX) dX1_person_87 ?_
              have hz := (Option.some.inj hF)
              subst hz
              exact cri S hM hr hlocks dX1_person_90
            · have hF := ifn hF c36
              by_cases c39 : x2 = 3
              · have hF := ifp hF c39
                refine lv_tableIn (off := 50) (tgt := 91) hx hb dX1_person_41 (by rw [c39]; decide) (by rw [c39]; decide) (by rw [c39]; rfl) (by decide) ?_
                refine lv_aload_n hx hb dX1_person_91 rfl (lv_at hl 1 rfl) ?_
                obtain ⟨a37, ea37, hF⟩ := obn hF
                refine cgn S hX hM ea37 ck_1_1_4 q328 (fun _ h => h) dX1_person_92 ?_
                refine lv_iload_n hx hb dX1_person_95 rfl (lv_at hl 2 rfl) ?_
                obtain ⟨z38, hF⟩ := gTe hF
                obtain ⟨r38, er38, hF⟩ := obn hF
                refine ccr (rest := []) (st1 := [.int r38]) S hX hM (metX3_treadsOf l F D r26.2 a37 x1 r38 er38) (ci_V (C := "RugReader$Rug") (As := [.int x1]) (rest := []) S q1715 q1647 q1648 q1649 hyX3_treadsOf (HI.cell (ci := 2) hX hM (by decide) (by omega)) hlX3_treadsOf rfl dX1_person_96) q1649 q108 (Nat.le_of_ble_eq_true rfl) (Nat.le_of_ble_eq_true rfl) hl.1 (Nat.le_of_ble_eq_true rfl) rfl (fun H locs cs ss hM => ?_)
                have hz := (Option.some.inj hF)
                subst hz
                exact cri S hM hr hlocks dX1_person_99
              · have hF := ifn hF c39
                by_cases c42 : x2 = 4
                · have hF := ifp hF c42
                  refine lv_tableIn (off := 59) (tgt := 100) hx hb dX1_person_41 (by rw [c42]; decide) (by rw [c42]; decide) (by rw [c42]; rfl) (by decide) ?_
                  refine lv_aload_n hx hb dX1_person_100 rfl (lv_at hl 1 rfl) ?_
                  obtain ⟨a40, ea40, hF⟩ := obn hF
                  refine cgn S hX hM ea40 ck_1_1_4 q328 (fun _ h => h) dX1_person_101 ?_
                  refine lv_iload_n hx hb dX1_person_104 rfl (lv_at hl 2 rfl) ?_
                  obtain ⟨z41, hF⟩ := gTe hF
                  obtain ⟨r41, er41, hF⟩ := obn hF
                  refine ccr (rest := []) (st1 := [.int r41]) S hX hM (metX3_tuftsOf l F D r26.2 a40 x1 r41 er41) (ci_V (C := "RugReader$Rug") (As := [.int x1]) (rest := []) S q1716 q1655 q1656 q1657 hyX3_tuftsOf (HI.cell (ci := 2) hX hM (by decide) (by omega)) hlX3_tuftsOf rfl dX1_person_105) q1657 q108 (Nat.le_of_ble_eq_true rfl) (Nat.le_of_ble_eq_true rfl) hl.1 (Nat.le_of_ble_eq_true rfl) rfl (fun H locs cs ss hM => ?_)
                  have hz := (Option.some.inj hF)
                  subst hz
                  exact cri S hM hr hlocks dX1_person_108
                · have hF := ifn hF c42
                  refine lv_tableOut (tgt := 109) hx hb dX1_person_41 (by first | omega | (have := lv_neT (a := 0) c32 rfl; have := lv_neT (a := 1) c34 rfl; have := lv_neT (a := 2) c36 rfl; have := lv_neT (a := 3) c39 rfl; have := lv_neT (a := 4) c42 rfl; omega)) (by decide) ?_
                  refine lv_aload_n hx hb dX1_person_109 rfl (lv_at hl 1 rfl) ?_
                  obtain ⟨a43, ea43, hF⟩ := obn hF
                  refine cgn S hX hM ea43 ck_1_1_4 q328 (fun _ h => h) dX1_person_110 ?_
                  obtain ⟨a44, ea44, hF⟩ := obn hF
                  refine cgnN S hX hM ea44 ck_3_3_8 (uq268 hX) dX1_person_113 ?_
                  refine lv_iload_n hx hb dX1_person_116 rfl (lv_at hl 2 rfl) ?_
                  obtain ⟨v45, ev45, hF⟩ := obn hF
                  refine cai S hX hM ev45 dX1_person_117 ?_
                  have hz := (Option.some.inj hF)
                  subst hz
                  exact cri S hM hr hlocks dX1_person_118
      · have hF := thr_q hF eb26
        have hz := (Option.some.inj hF)
        subst hz
        exact cxout hM (fun x hx => (hnt x hx).elim) hlocks
    · intro hBq2
      refine lv_if_eq (tgt := 21) hx hb dX1_person_5 (by decide) (fun c3 => ?_) (fun c3 => ?_)
      · have hq2 := ifp hq2 c3
        subst hq2
        exact hAq2 rfl _ _ _ _ _ hM (lv_sub hl [0, 1, 2] rfl)
      · have hq2 := ifn hq2 c3
        refine lv_iload_n hx hb dX1_person_8 rfl (lv_at hl 2 rfl) ?_
        refine lv_iconst (v := 0) hx hb dX1_person_9 rfl ?_
        refine lv_iconst (v := 5) hx hb dX1_person_10 rfl ?_
        refine ccr (rest := []) (st1 := [.int (fX1_isIn x2 0 5)]) S hX hM (metX1_isIn l D h0 x2 0 5 _ rfl) (ci_S (As := [.int x2, .int 0, .int 5]) (rest := []) S q1150 q821 q103 q822 hyX1_isIn hlX1_isIn rfl dX1_person_11) q822 q103 (Nat.le_of_ble_eq_true rfl) (Nat.le_of_ble_eq_true rfl) hl.1 (Nat.le_of_ble_eq_true rfl) rfl (fun H locs cs ss hM => ?_)
        refine lv_if_eq (tgt := 21) hx hb dX1_person_14 (by decide) (fun c5 => ?_) (fun c5 => ?_)
        · have hq2 := ifp hq2 c5
          subst hq2
          exact hAq2 rfl _ _ _ _ _ hM (lv_sub hl [0, 1, 2] rfl)
        · have hq2 := ifn hq2 c5
          subst hq2
          exact hBq2 rfl _ _ _ _ _ hM (lv_sub hl [0, 1, 2] rfl)
def fX1_tuft (F : Nat) (h0 : HS) (x0 : Nat) (x1 : Int32) (x2 : Int32) : Option ((Nat ⊕ Int32) × HS) := ((fR h0 x0 1 1 3).bind fun a1 => gT h0 a1 2 2 (((fX2_isTuft F h0 a1 x1).bind fun r2 => (lt_ (if r2 = 0 then true else (if (fX1_isIn x2 0 7) = 0 then true else false)) fun q3 => (if q3 = true then ((fX1_need F h0 0).bind fun r7 => thr r7.1 (fun b7 => some (.inl b7, r7.2)) fun w7 => (if x2 = 0 then ((fR r7.2 x0 1 1 4).bind fun a8 => gT r7.2 a8 3 3 (((fX3_depth F r7.2 a8 x1).bind fun r9 => some (.inr r9, r7.2)))) else (if x2 = 1 then ((fR r7.2 x0 1 1 4).bind fun a11 => gT r7.2 a11 3 3 (((fX3_treadsOn F r7.2 a11 x1 (-1)).bind fun r12 => some (.inr r12, r7.2)))) else (if x2 = 2 then ((fR r7.2 x0 1 1 4).bind fun a14 => ((fR r7.2 a14 3 3 4).bind fun a15 => ((aI r7.2 a15 31 x1).bind fun v16 => some (.inr v16, r7.2)))) else (if x2 = 3 then ((fR r7.2 x0 1 1 4).bind fun a18 => ((fR r7.2 a18 3 3 5).bind fun a19 => ((aI r7.2 a19 31 x1).bind fun v20 => some (.inr v20, r7.2)))) else (if x2 = 4 then ((fR r7.2 x0 1 1 4).bind fun a22 => ((fR r7.2 a22 3 3 6).bind fun a23 => ((aI r7.2 a23 31 x1).bind fun v24 => some (.inr v24, r7.2)))) else (if x2 = 5 then ((fR r7.2 x0 1 1 4).bind fun a26 => ((fR r7.2 a26 3 3 7).bind fun a27 => ((aI r7.2 a27 31 x1).bind fun v28 => some (.inr v28, r7.2)))) else (if x2 = 6 then ((fR r7.2 x0 1 1 3).bind fun a30 => ((fR r7.2 a30 2 2 8).bind fun a31 => ((aI r7.2 a31 33 x1).bind fun v32 => (if v32 = 0 then (some (.inr 0, r7.2)) else (some (.inr 1, r7.2)))))) else ((fR r7.2 x0 1 1 3).bind fun a35 => ((fR r7.2 a35 2 2 9).bind fun a36 => ((aI r7.2 a36 33 x1).bind fun v37 => (if v37 = 0 then (some (.inr 0, r7.2)) else (some (.inr 1, r7.2)))))))))))))) else ((fX1_need F h0 1).bind fun r39 => thr r39.1 (fun b39 => some (.inl b39, r39.2)) fun w39 => (if x2 = 0 then ((fR r39.2 x0 1 1 4).bind fun a40 => gT r39.2 a40 3 3 (((fX3_depth F r39.2 a40 x1).bind fun r41 => some (.inr r41, r39.2)))) else (if x2 = 1 then ((fR r39.2 x0 1 1 4).bind fun a43 => gT r39.2 a43 3 3 (((fX3_treadsOn F r39.2 a43 x1 (-1)).bind fun r44 => some (.inr r44, r39.2)))) else (if x2 = 2 then ((fR r39.2 x0 1 1 4).bind fun a46 => ((fR r39.2 a46 3 3 4).bind fun a47 => ((aI r39.2 a47 31 x1).bind fun v48 => some (.inr v48, r39.2)))) else (if x2 = 3 then ((fR r39.2 x0 1 1 4).bind fun a50 => ((fR r39.2 a50 3 3 5).bind fun a51 => ((aI r39.2 a51 31 x1).bind fun v52 => some (.inr v52, r39.2)))) else (if x2 = 4 then ((fR r39.2 x0 1 1 4).bind fun a54 => ((fR r39.2 a54 3 3 6).bind fun a55 => ((aI r39.2 a55 31 x1).bind fun v56 => some (.inr v56, r39.2)))) else (if x2 = 5 then ((fR r39.2 x0 1 1 4).bind fun a58 => ((fR r39.2 a58 3 3 7).bind fun a59 => ((aI r39.2 a59 31 x1).bind fun v60 => some (.inr v60, r39.2)))) else (if x2 = 6 then ((fR r39.2 x0 1 1 3).bind fun a62 => ((fR r39.2 a62 2 2 8).bind fun a63 => ((aI r39.2 a63 33 x1).bind fun v64 => (if v64 = 0 then (some (.inr 0, r39.2)) else (some (.inr 1, r39.2)))))) else ((fR r39.2 x0 1 1 3).bind fun a67 => ((fR r39.2 a67 2 2 9).bind fun a68 => ((aI r39.2 a68 33 x1).bind fun v69 => (if v69 = 0 then (some (.inr 0, r39.2)) else (some (.inr 1, r39.2)))))))))))))))))))
theorem hyX1_tuft : yX1_tuft.cls ≠ "java/lang/invoke/MethodHandle" ∧ yX1_tuft.cls ≠ "java/lang/invoke/VarHandle" := by decide +kernel
theorem hlX1_tuft : (parseMethodDescriptor yX1_tuft.desc).map (fun d => d.parameters.length) = some 2 := by decide +kernel
set_option maxHeartbeats 4000000 in
set_option maxRecDepth 100000 in
theorem metX1_tuft (l : Launch) [NoTr l] (F : Nat) (D : va_G) (h0 : HS) (x0 : Nat) (x1 : Int32) (x2 : Int32) (r : (Nat ⊕ Int32) × HS) (hF : fX1_tuft F h0 x0 x1 x2 = some r) : CMet l yX1_tuft (ws_ yX1_tuft cX1_tuft 3 (some .int)) 10 240 D [.ref x0, .int x1, .int x2] h0 r.2 (xi r.1) := by
  refine CMet.ofW (by decide) ?_
  intro p e s m below meth c s₁ B S hX hM hr hlocks hnt hin
  obtain ⟨hx, hb, hml, hown, hts⟩ := id S
  have hl := lv_entry ([.ref x0, .int x1, .int x2]) (n := 3) (Nat.le_of_ble_eq_true rfl)
  rw [lg_entry_eq]
  generalize (lg_sl ([.ref x0, .int x1, .int x2]) ++ List.replicate (3 - (lg_sl ([.ref x0, .int x1, .int x2])).length) Slot.unset).toArray = ls at hl ⊢
  have hl : lv_has ls 3 [(0, .ref x0), (1, .int x1), (2, .int x2)] := hl
  unfold fX1_tuft at hF
  refine lv_aload_n hx hb dX1_tuft_0 rfl (lv_at hl 0 rfl) ?_
  obtain ⟨a1, ea1, hF⟩ := obn hF
  refine cgn S hX hM ea1 ck_1_1_3 q327 (fun _ h => h) dX1_tuft_1 ?_
  refine lv_iload_n hx hb dX1_tuft_4 rfl (lv_at hl 1 rfl) ?_
  obtain ⟨z2, hF⟩ := gTe hF
  obtain ⟨r2, er2, hF⟩ := obn hF
  refine ccr (rest := []) (st1 := [.int r2]) S hX hM (metX2_isTuft l F D h0 a1 x1 r2 er2) (ci_V (C := "RugReader$House") (As := [.int x1]) (rest := []) S q1200 q1201 q1202 q1203 hyX2_isTuft (HI.cell (ci := 1) hX hM (by decide) (by omega)) hlX2_isTuft rfl dX1_tuft_5) q1203 q104 (Nat.le_of_ble_eq_true rfl) (Nat.le_of_ble_eq_true rfl) hl.1 (Nat.le_of_ble_eq_true rfl) rfl (fun H locs cs ss hM => ?_)
  obtain ⟨q3, hq3, hF⟩ := lte hF
  refine cjnc (C := q3 = true) (I := HI D h0 h0 s.heap) (nJ := 3) (lvJ := [(0, .ref x0), (1, .int x1), (2, .int x2)]) (J := 25) (stJ := []) ?_ ?_
  · intro cq3 H locs cs ss ls hM hl
    have hF := ifp hF cq3
    refine lv_iconst (v := 0) hx hb dX1_tuft_25 rfl ?_
    obtain ⟨r7, er7, hF⟩ := obn hF
    refine cctv (rest := []) S hX hM (metX1_need l F D h0 0 r7 er7) (ci_S (As := [.int 0]) (rest := []) S q1692 q1693 q103 q1694 hyX1_need hlX1_need rfl dX1_tuft_26) q1694 q103 (Nat.le_of_ble_eq_true rfl) (Nat.le_of_ble_eq_true rfl) hl.1 (Nat.le_of_ble_eq_true rfl) (fun w7 ew7 H locs cs ss hM => ?_) (fun b7 eb7 H locs cs ss hM => ?_)
    · have hF := thr_r hF ew7
      refine lv_iload_n hx hb dX1_tuft_29 rfl (lv_at hl 2 rfl) ?_
      by_cases c10 : x2 = 0
      · have hF := ifp hF c10
        refine lv_tableIn (off := 42) (tgt := 72) hx hb dX1_tuft_30 (by rw [c10]; decide) (by rw [c10]; decide) (by rw [c10]; rfl) (by decide) ?_
        refine lv_aload_n hx hb dX1_tuft_72 rfl (lv_at hl 0 rfl) ?_
        obtain ⟨a8, ea8, hF⟩ := obn hF
        refine cgn S hX hM ea8 ck_1_1_4 q328 (fun _ h => h) dX1_tuft_73 ?_
        refine lv_iload_n hx hb dX1_tuft_76 rfl (lv_at hl 1 rfl) ?_
        obtain ⟨z9, hF⟩ := gTe hF
        obtain ⟨r9, er9, hF⟩ := obn hF
        refine ccr (rest := []) (st1 := [.int r9]) S hX hM (metX3_depth l F D r7.2 a8 x1 r9 er9) (ci_V (C := "RugReader$Rug") (As := [.int x1]) (rest := []) S q1240 q1225 q1226 q1227 hyX3_depth (HI.cell (ci := 2) hX hM (by decide) (by omega)) hlX3_depth rfl dX1_tuft_77) q1227 q108 (Nat.le_of_ble_eq_true rfl) (Nat.le_of_ble_eq_true rfl) hl.1 (Nat.le_of_ble_eq_true rfl) rfl (fun H locs cs ss hM => ?_)
        have hz := (Option.some.inj hF)
        subst hz
        exact cri S hM hr hlocks dX1_tuft_80
      · have hF := ifn hF c10
        by_cases c13 : x2 = 1
        · have hF := ifp hF c13
          refine lv_tableIn (off := 51) (tgt := 81) hx hb dX1_tuft_30 (by rw [c13]; decide) (by rw [c13]; decide) (by rw [c13]; rfl) (by decide) ?_
          refine lv_aload_n hx hb dX1_tuft_81 rfl (lv_at hl 0 rfl) ?_
          obtain ⟨a11, ea11, hF⟩ := obn hF
          refine cgn S hX hM ea11 ck_1_1_4 q328 (fun _ h => h) dX1_tuft_82 ?_
          refine lv_iload_n hx hb dX1_tuft_85 rfl (lv_at hl 1 rfl) ?_
          refine lv_iconst (v := (-1)) hx hb dX1_tuft_86 rfl ?_
          obtain ⟨z12, hF⟩ := gTe hF
          obtain ⟨r12, er12, hF⟩ := obn hF
          refine ccr (rest := []) (st1 := [.int r12]) S hX hM (metX3_treadsOn l F D r7.2 a11 x1 (-1) r12 er12) (ci_V (C := "RugReader$Rug") (As := [.int x1, .int (-1)]) (rest := []) S q1724 q1651 q1652 q1653 hyX3_treadsOn (HI.cell (ci := 2) hX hM (by decide) (by omega)) hlX3_treadsOn rfl dX1_tuft_87) q1653 q108 (Nat.le_of_ble_eq_true rfl) (Nat.le_of_ble_eq_true rfl) hl.1 (Nat.le_of_ble_eq_true rfl) rfl (fun H locs cs ss hM => ?_)
          have hz := (Option.some.inj hF)
          subst hz
          exact cri S hM hr hlocks dX1_tuft_90
        · have hF := ifn hF c13
          by_cases c17 : x2 = 2
          · have hF := ifp hF c17
            refine lv_tableIn (off := 61) (tgt := 91) hx hb dX1_tuft_30 (by rw [c17]; decide) (by rw [c17]; decide) (by rw [c17]; rfl) (by decide) ?_
            refine lv_aload_n hx hb dX1_tuft_91 rfl (lv_at hl 0 rfl) ?_
            obtain ⟨a14, ea14, hF⟩ := obn hF
            refine cgn S hX hM ea14 ck_1_1_4 q328 (fun _ h => h) dX1_tuft_92 ?_
            obtain ⟨a15, ea15, hF⟩ := obn hF
            refine cgnN S hX hM ea15 ck_3_3_4 (uq260 hX) dX1_tuft_95 ?_
            refine lv_iload_n hx hb dX1_tuft_98 rfl (lv_at hl 1 rfl) ?_
            obtain ⟨v16, ev16, hF⟩ := obn hF
            refine cai S hX hM ev16 dX1_tuft_99 ?_
            have hz := (Option.some.inj hF)
            subst hz
            exact cri S hM hr hlocks dX1_tuft_100
          · have hF := ifn hF c17
            by_cases c21 : x2 = 3
            · have hF := ifp hF c21
              refine lv_tableIn (off := 71) (tgt := 101) hx hb dX1_tuft_30 (by rw [c21]; decide) (by rw [c21]; decide) (by rw [c21]; rfl) (by decide) ?_
              refine lv_aload_n hx hb dX1_tuft_101 rfl (lv_at hl 0 rfl) ?_
              obtain ⟨a18, ea18, hF⟩ := obn hF
              refine cgn S hX hM ea18 ck_1_1_4 q328 (fun _ h => h) dX1_tuft_102 ?_
              obtain ⟨a19, ea19, hF⟩ := obn hF
              refine cgnN S hX hM ea19 ck_3_3_5 (uq262 hX) dX1_tuft_105 ?_
              refine lv_iload_n hx hb dX1_tuft_108 rfl (lv_at hl 1 rfl) ?_
              obtain ⟨v20, ev20, hF⟩ := obn hF
              refine cai S hX hM ev20 dX1_tuft_109 ?_
              have hz := (Option.some.inj hF)
              subst hz
              exact cri S hM hr hlocks dX1_tuft_110
            · have hF := ifn hF c21
              by_cases c25 : x2 = 4
              · have hF := ifp hF c25
                refine lv_tableIn (off := 81) (tgt := 111) hx hb dX1_tuft_30 (by rw [c25]; decide) (by rw [c25]; decide) (by rw [c25]; rfl) (by decide) ?_
                refine lv_aload_n hx hb dX1_tuft_111 rfl (lv_at hl 0 rfl) ?_
                obtain ⟨a22, ea22, hF⟩ := obn hF
                refine cgn S hX hM ea22 ck_1_1_4 q328 (fun _ h => h) dX1_tuft_112 ?_
                obtain ⟨a23, ea23, hF⟩ := obn hF
                refine cgnN S hX hM ea23 ck_3_3_6 (uq264 hX) dX1_tuft_115 ?_
                refine lv_iload_n hx hb dX1_tuft_118 rfl (lv_at hl 1 rfl) ?_
                obtain ⟨v24, ev24, hF⟩ := obn hF
                refine cai S hX hM ev24 dX1_tuft_119 ?_
                have hz := (Option.some.inj hF)
                subst hz
                exact cri S hM hr hlocks dX1_tuft_120
              · have hF := ifn hF c25
                by_cases c29 : x2 = 5
                · have hF := ifp hF c29
                  refine lv_tableIn (off := 91) (tgt := 121) hx hb dX1_tuft_30 (by rw [c29]; decide) (by rw [c29]; decide) (by rw [c29]; rfl) (by decide) ?_
                  refine lv_aload_n hx hb dX1_tuft_121 rfl (lv_at hl 0 rfl) ?_
                  obtain ⟨a26, ea26, hF⟩ := obn hF
                  refine cgn S hX hM ea26 ck_1_1_4 q328 (fun _ h => h) dX1_tuft_122 ?_
                  obtain ⟨a27, ea27, hF⟩ := obn hF
                  refine cgnN S hX hM ea27 ck_3_3_7 (uq266 hX) dX1_tuft_125 ?_
                  refine lv_iload_n hx hb dX1_tuft_128 rfl (lv_at hl 1 rfl) ?_
                  obtain ⟨v28, ev28, hF⟩ := obn hF
                  refine cai S hX hM ev28 dX1_tuft_129 ?_
                  have hz := (Option.some.inj hF)
                  subst hz
                  exact cri S hM hr hlocks dX1_tuft_130
                · have hF := ifn hF c29
                  by_cases c34 : x2 = 6
                  · have hF := ifp hF c34
                    refine lv_tableIn (off := 101) (tgt := 131) hx hb dX1_tuft_30 (by rw [c34]; decide) (by rw [c34]; decide) (by rw [c34]; rfl) (by decide) ?_
                    refine lv_aload_n hx hb dX1_tuft_131 rfl (lv_at hl 0 rfl) ?_
                    obtain ⟨a30, ea30, hF⟩ := obn hF
                    refine cgn S hX hM ea30 ck_1_1_3 q327 (fun _ h => h) dX1_tuft_132 ?_
                    obtain ⟨a31, ea31, hF⟩ := obn hF
                    refine cgnN S hX hM ea31 ck_2_2_8 (uq217 hX) dX1_tuft_135 ?_
                    refine lv_iload_n hx hb dX1_tuft_138 rfl (lv_at hl 1 rfl) ?_
                    obtain ⟨v32, ev32, hF⟩ := obn hF
                    refine caz S hX hM ev32 dX1_tuft_139 ?_
                    refine lv_if_eq (tgt := 147) hx hb dX1_tuft_140 (by decide) (fun c33 => ?_) (fun c33 => ?_)
                    · have hF := ifp hF c33
                      refine lv_iconst (v := 0) hx hb dX1_tuft_147 rfl ?_
                      have hz := (Option.some.inj hF)
                      subst hz
                      exact cri S hM hr hlocks dX1_tuft_148
                    · have hF := ifn hF c33
                      refine lv_iconst (v := 1) hx hb dX1_tuft_143 rfl ?_
                      refine lv_goto (tgt := 148) hx hb dX1_tuft_144 (by decide) ?_
                      have hz := (Option.some.inj hF)
                      subst hz
                      exact cri S hM hr hlocks dX1_tuft_148
                  · have hF := ifn hF c34
                    refine lv_tableOut (tgt := 149) hx hb dX1_tuft_30 (by first | omega | (have := lv_neT (a := 0) c10 rfl; have := lv_neT (a := 1) c13 rfl; have := lv_neT (a := 2) c17 rfl; have := lv_neT (a := 3) c21 rfl; have := lv_neT (a := 4) c25 rfl; have := lv_neT (a := 5) c29 rfl; have := lv_neT (a := 6) c34 rfl; omega)) (by decide) ?_
                    refine lv_aload_n hx hb dX1_tuft_149 rfl (lv_at hl 0 rfl) ?_
                    obtain ⟨a35, ea35, hF⟩ := obn hF
                    refine cgn S hX hM ea35 ck_1_1_3 q327 (fun _ h => h) dX1_tuft_150 ?_
                    obtain ⟨a36, ea36, hF⟩ := obn hF
                    refine cgnN S hX hM ea36 ck_2_2_9 (uq220 hX) dX1_tuft_153 ?_
                    refine lv_iload_n hx hb dX1_tuft_156 rfl (lv_at hl 1 rfl) ?_
                    obtain ⟨v37, ev37, hF⟩ := obn hF
                    refine caz S hX hM ev37 dX1_tuft_157 ?_
                    refine lv_if_eq (tgt := 165) hx hb dX1_tuft_158 (by decide) (fun c38 => ?_) (fun c38 => ?_)
                    · have hF := ifp hF c38
                      refine lv_iconst (v := 0) hx hb dX1_tuft_165 rfl ?_
                      have hz := (Option.some.inj hF)
                      subst hz
                      exact cri S hM hr hlocks dX1_tuft_166
                    · have hF := ifn hF c38
                      refine lv_iconst (v := 1) hx hb dX1_tuft_161 rfl ?_
                      refine lv_goto (tgt := 166) hx hb dX1_tuft_162 (by decide) ?_
                      have hz := (Option.some.inj hF)
                      subst hz
                      exact cri S hM hr hlocks dX1_tuft_166
    · have hF := thr_q hF eb7
      have hz := (Option.some.inj hF)
      subst hz
      exact cxout hM (fun x hx => (hnt x hx).elim) hlocks
  · intro hAq3
    refine cjnc (C := q3 = false) (I := HI D h0 h0 s.heap) (nJ := 3) (lvJ := [(0, .ref x0), (1, .int x1), (2, .int x2)]) (J := 21) (stJ := []) ?_ ?_
    · intro cq3 H locs cs ss ls hM hl
      have hF := ifn hF (by rw [cq3]; decide)
      refine lv_iconst (v := 1) hx hb dX1_tuft_21 rfl ?_
      refine lv_goto (tgt := 26) hx hb dX1_tuft_22 (by decide) ?_
      obtain ⟨r39, er39, hF⟩ := obn hF
      refine cctv (rest := []) S hX hM (metX1_need l F D h0 1 r39 er39) (ci_S (As := [.int 1]) (rest := []) S q1692 q1693 q103 q1694 hyX1_need hlX1_need rfl dX1_tuft_26) q1694 q103 (Nat.le_of_ble_eq_true rfl) (Nat.le_of_ble_eq_true rfl) hl.1 (Nat.le_of_ble_eq_true rfl) (fun w39 ew39 H locs cs ss hM => ?_) (fun b39 eb39 H locs cs ss hM => ?_)
      · have hF := thr_r hF ew39
        refine lv_iload_n hx hb dX1_tuft_29 rfl (lv_at hl 2 rfl) ?_
        by_cases c42 : x2 = 0
        · have hF := ifp hF c42
          refine lv_tableIn (off := 42) (tgt := 72) hx hb dX1_tuft_30 (by rw [c42]; decide) (by rw [c42]; decide) (by rw [c42]; rfl) (by decide) ?_
          refine lv_aload_n hx hb dX1_tuft_72 rfl (lv_at hl 0 rfl) ?_
          obtain ⟨a40, ea40, hF⟩ := obn hF
          refine cgn S hX hM ea40 ck_1_1_4 q328 (fun _ h => h) dX1_tuft_73 ?_
          refine lv_iload_n hx hb dX1_tuft_76 rfl (lv_at hl 1 rfl) ?_
          obtain ⟨z41, hF⟩ := gTe hF
          obtain ⟨r41, er41, hF⟩ := obn hF
          refine ccr (rest := []) (st1 := [.int r41]) S hX hM (metX3_depth l F D r39.2 a40 x1 r41 er41) (ci_V (C := "RugReader$Rug") (As := [.int x1]) (rest := []) S q1240 q1225 q1226 q1227 hyX3_depth (HI.cell (ci := 2) hX hM (by decide) (by omega)) hlX3_depth rfl dX1_tuft_77) q1227 q108 (Nat.le_of_ble_eq_true rfl) (Nat.le_of_ble_eq_true rfl) hl.1 (Nat.le_of_ble_eq_true rfl) rfl (fun H locs cs ss hM => ?_)
          have hz := (Option.some.inj hF)
          subst hz
          exact cri S hM hr hlocks dX1_tuft_80
        · have hF := ifn hF c42
          by_cases c45 : x2 = 1
          · have hF := ifp hF c45
            refine lv_tableIn (off := 51) (tgt := 81) hx hb dX1_tuft_30 (by rw [c45]; decide) (by rw [c45]; decide) (by rw [c45]; rfl) (by decide) ?_
            refine lv_aload_n hx hb dX1_tuft_81 rfl (lv_at hl 0 rfl) ?_
            obtain ⟨a43, ea43, hF⟩ := obn hF
            refine cgn S hX hM ea43 ck_1_1_4 q328 (fun _ h => h) dX1_tuft_82 ?_
            refine lv_iload_n hx hb dX1_tuft_85 rfl (lv_at hl 1 rfl) ?_
            refine lv_iconst (v := (-1)) hx hb dX1_tuft_86 rfl ?_
            obtain ⟨z44, hF⟩ := gTe hF
            obtain ⟨r44, er44, hF⟩ := obn hF
            refine ccr (rest := []) (st1 := [.int r44]) S hX hM (metX3_treadsOn l F D r39.2 a43 x1 (-1) r44 er44) (ci_V (C := "RugReader$Rug") (As := [.int x1, .int (-1)]) (rest := []) S q1724 q1651 q1652 q1653 hyX3_treadsOn (HI.cell (ci := 2) hX hM (by decide) (by omega)) hlX3_treadsOn rfl dX1_tuft_87) q1653 q108 (Nat.le_of_ble_eq_true rfl) (Nat.le_of_ble_eq_true rfl) hl.1 (Nat.le_of_ble_eq_true rfl) rfl (fun H locs cs ss hM => ?_)
            have hz := (Option.some.inj hF)
            subst hz
            exact cri S hM hr hlocks dX1_tuft_90
          · have hF := ifn hF c45
            by_cases c49 : x2 = 2
            · have hF := ifp hF c49
              refine lv_tableIn (off := 61) (tgt := 91) hx hb dX1_tuft_30 (by rw [c49]; decide) (by rw [c49]; decide) (by rw [c49]; rfl) (by decide) ?_
              refine lv_aload_n hx hb dX1_tuft_91 rfl (lv_at hl 0 rfl) ?_
              obtain ⟨a46, ea46, hF⟩ := obn hF
              refine cgn S hX hM ea46 ck_1_1_4 q328 (fun _ h => h) dX1_tuft_92 ?_
              obtain ⟨a47, ea47, hF⟩ := obn hF
              refine cgnN S hX hM ea47 ck_3_3_4 (uq260 hX) dX1_tuft_95 ?_
              refine lv_iload_n hx hb dX1_tuft_98 rfl (lv_at hl 1 rfl) ?_
              obtain ⟨v48, ev48, hF⟩ := obn hF
              refine cai S hX hM ev48 dX1_tuft_99 ?_
              have hz := (Option.some.inj hF)
              subst hz
              exact cri S hM hr hlocks dX1_tuft_100
            · have hF := ifn hF c49
              by_cases c53 : x2 = 3
              · have hF := ifp hF c53
                refine lv_tableIn (off := 71) (tgt := 101) hx hb dX1_tuft_30 (by rw [c53]; decide) (by rw [c53]; decide) (by rw [c53]; rfl) (by decide) ?_
                refine lv_aload_n hx hb dX1_tuft_101 rfl (lv_at hl 0 rfl) ?_
                obtain ⟨a50, ea50, hF⟩ := obn hF
                refine cgn S hX hM ea50 ck_1_1_4 q328 (fun _ h => h) dX1_tuft_102 ?_
                obtain ⟨a51, ea51, hF⟩ := obn hF
                refine cgnN S hX hM ea51 ck_3_3_5 (uq262 hX) dX1_tuft_105 ?_
                refine lv_iload_n hx hb dX1_tuft_108 rfl (lv_at hl 1 rfl) ?_
                obtain ⟨v52, ev52, hF⟩ := obn hF
                refine cai S hX hM ev52 dX1_tuft_109 ?_
                have hz := (Option.some.inj hF)
                subst hz
                exact cri S hM hr hlocks dX1_tuft_110
              · have hF := ifn hF c53
                by_cases c57 : x2 = 4
                · have hF := ifp hF c57
                  refine lv_tableIn (off := 81) (tgt := 111) hx hb dX1_tuft_30 (by rw [c57]; decide) (by rw [c57]; decide) (by rw [c57]; rfl) (by decide) ?_
                  refine lv_aload_n hx hb dX1_tuft_111 rfl (lv_at hl 0 rfl) ?_
                  obtain ⟨a54, ea54, hF⟩ := obn hF
                  refine cgn S hX hM ea54 ck_1_1_4 q328 (fun _ h => h) dX1_tuft_112 ?_
                  obtain ⟨a55, ea55, hF⟩ := obn hF
                  refine cgnN S hX hM ea55 ck_3_3_6 (uq264 hX) dX1_tuft_115 ?_
                  refine lv_iload_n hx hb dX1_tuft_118 rfl (lv_at hl 1 rfl) ?_
                  obtain ⟨v56, ev56, hF⟩ := obn hF
                  refine cai S hX hM ev56 dX1_tuft_119 ?_
                  have hz := (Option.some.inj hF)
                  subst hz
                  exact cri S hM hr hlocks dX1_tuft_120
                · have hF := ifn hF c57
                  by_cases c61 : x2 = 5
                  · have hF := ifp hF c61
                    refine lv_tableIn (off := 91) (tgt := 121) hx hb dX1_tuft_30 (by rw [c61]; decide) (by rw [c61]; decide) (by rw [c61]; rfl) (by decide) ?_
                    refine lv_aload_n hx hb dX1_tuft_121 rfl (lv_at hl 0 rfl) ?_
                    obtain ⟨a58, ea58, hF⟩ := obn hF
                    refine cgn S hX hM ea58 ck_1_1_4 q328 (fun _ h => h) dX1_tuft_122 ?_
                    obtain ⟨a59, ea59, hF⟩ := obn hF
                    refine cgnN S hX hM ea59 ck_3_3_7 (uq266 hX) dX1_tuft_125 ?_
                    refine lv_iload_n hx hb dX1_tuft_128 rfl (lv_at hl 1 rfl) ?_
                    obtain ⟨v60, ev60, hF⟩ := obn hF
                    refine cai S hX hM ev60 dX1_tuft_129 ?_
                    have hz := (Option.some.inj hF)
                    subst hz
                    exact cri S hM hr hlocks dX1_tuft_130
                  · have hF := ifn hF c61
                    by_cases c66 : x2 = 6
                    · have hF := ifp hF c66
                      refine lv_tableIn (off := 101) (tgt := 131) hx hb dX1_tuft_30 (by rw [c66]; decide) (by rw [c66]; decide) (by rw [c66]; rfl) (by decide) ?_
                      refine lv_aload_n hx hb dX1_tuft_131 rfl (lv_at hl 0 rfl) ?_
                      obtain ⟨a62, ea62, hF⟩ := obn hF
                      refine cgn S hX hM ea62 ck_1_1_3 q327 (fun _ h => h) dX1_tuft_132 ?_
                      obtain ⟨a63, ea63, hF⟩ := obn hF
                      refine cgnN S hX hM ea63 ck_2_2_8 (uq217 hX) dX1_tuft_135 ?_
                      refine lv_iload_n hx hb dX1_tuft_138 rfl (lv_at hl 1 rfl) ?_
                      obtain ⟨v64, ev64, hF⟩ := obn hF
                      refine caz S hX hM ev64 dX1_tuft_139 ?_
                      refine lv_if_eq (tgt := 147) hx hb dX1_tuft_140 (by decide) (fun c65 => ?_) (fun c65 => ?_)
                      · have hF := ifp hF c65
                        refine lv_iconst (v := 0) hx hb dX1_tuft_147 rfl ?_
                        have hz := (Option.some.inj hF)
                        subst hz
                        exact cri S hM hr hlocks dX1_tuft_148
                      · have hF := ifn hF c65
                        refine lv_iconst (v := 1) hx hb dX1_tuft_143 rfl ?_
                        refine lv_goto (tgt := 148) hx hb dX1_tuft_144 (by decide) ?_
                        have hz := (Option.some.inj hF)
                        subst hz
                        exact cri S hM hr hlocks dX1_tuft_148
                    · have hF := ifn hF c66
                      refine lv_tableOut (tgt := 149) hx hb dX1_tuft_30 (by first | omega | (have := lv_neT (a := 0) c42 rfl; have := lv_neT (a := 1) c45 rfl; have := lv_neT (a := 2) c49 rfl; have := lv_neT (a := 3) c53 rfl; have := lv_neT (a := 4) c57 rfl; have := lv_neT (a := 5) c61 rfl; have := lv_neT (a := 6) c66 rfl; omega)) (by decide) ?_
                      refine lv_aload_n hx hb dX1_tuft_149 rfl (lv_at hl 0 rfl) ?_
                      obtain ⟨a67, ea67, hF⟩ := obn hF
                      refine cgn S hX hM ea67 ck_1_1_3 q327 (fun _ h => h) dX1_tuft_150 ?_
                      obtain ⟨a68, ea68, hF⟩ := obn hF
                      refine cgnN S hX hM ea68 ck_2_2_9 (uq220 hX) dX1_tuft_153 ?_
                      refine lv_iload_n hx hb dX1_tuft_156 rfl (lv_at hl 1 rfl) ?_
                      obtain ⟨v69, ev69, hF⟩ := obn hF
                      refine caz S hX hM ev69 dX1_tuft_157 ?_
                      refine lv_if_eq (tgt := 165) hx hb dX1_tuft_158 (by decide) (fun c70 => ?_) (fun c70 => ?_)
                      · have hF := ifp hF c70
                        refine lv_iconst (v := 0) hx hb dX1_tuft_165 rfl ?_
                        have hz := (Option.some.inj hF)
                        subst hz
                        exact cri S hM hr hlocks dX1_tuft_166
                      · have hF := ifn hF c70
                        refine lv_iconst (v := 1) hx hb dX1_tuft_161 rfl ?_
                        refine lv_goto (tgt := 166) hx hb dX1_tuft_162 (by decide) ?_
                        have hz := (Option.some.inj hF)
                        subst hz
                        exact cri S hM hr hlocks dX1_tuft_166
      · have hF := thr_q hF eb39
        have hz := (Option.some.inj hF)
        subst hz
        exact cxout hM (fun x hx => (hnt x hx).elim) hlocks
    · intro hBq3
      refine lv_if_eq (tgt := 25) hx hb dX1_tuft_8 (by decide) (fun c4 => ?_) (fun c4 => ?_)
      · have hq3 := ifp hq3 c4
        subst hq3
        exact hAq3 rfl _ _ _ _ _ hM (lv_sub hl [0, 1, 2] rfl)
      · have hq3 := ifn hq3 c4
        refine lv_iload_n hx hb dX1_tuft_11 rfl (lv_at hl 2 rfl) ?_
        refine lv_iconst (v := 0) hx hb dX1_tuft_12 rfl ?_
        refine lv_bipush (v := 7) hx hb dX1_tuft_13 rfl ?_
        refine ccr (rest := []) (st1 := [.int (fX1_isIn x2 0 7)]) S hX hM (metX1_isIn l D h0 x2 0 7 _ rfl) (ci_S (As := [.int x2, .int 0, .int 7]) (rest := []) S q1150 q821 q103 q822 hyX1_isIn hlX1_isIn rfl dX1_tuft_15) q822 q103 (Nat.le_of_ble_eq_true rfl) (Nat.le_of_ble_eq_true rfl) hl.1 (Nat.le_of_ble_eq_true rfl) rfl (fun H locs cs ss hM => ?_)
        refine lv_if_eq (tgt := 25) hx hb dX1_tuft_18 (by decide) (fun c6 => ?_) (fun c6 => ?_)
        · have hq3 := ifp hq3 c6
          subst hq3
          exact hAq3 rfl _ _ _ _ _ hM (lv_sub hl [0, 1, 2] rfl)
        · have hq3 := ifn hq3 c6
          subst hq3
          exact hBq3 rfl _ _ _ _ _ hM (lv_sub hl [0, 1, 2] rfl)
def fX13_numbered (F : Nat) (h0 : HS) (x0 : Nat) : Option (Int32) := gT h0 x0 7 7 (((fX6_is F h0 x0 (kG h0 22)).bind fun r1 => (if r1 = 0 then (gT h0 x0 7 7 (((fX6_is F h0 x0 (kG h0 23)).bind fun r3 => (if r3 = 0 then (gT h0 x0 7 7 (((fX6_is F h0 x0 (kG h0 24)).bind fun r5 => (if r5 = 0 then (gT h0 x0 7 7 (((fX6_is F h0 x0 (kG h0 25)).bind fun r7 => (if r7 = 0 then (gT h0 x0 7 7 (((fX6_is F h0 x0 (kG h0 26)).bind fun r9 => (if r9 = 0 then (gT h0 x0 7 7 (((fX6_is F h0 x0 (kG h0 27)).bind fun r11 => (if r11 = 0 then (some (-1)) else (some 5))))) else (some 4))))) else (some 3))))) else (some 2))))) else (some 1))))) else (some 0))))
theorem hyX13_numbered : yX13_numbered.cls ≠ "java/lang/invoke/MethodHandle" ∧ yX13_numbered.cls ≠ "java/lang/invoke/VarHandle" := by decide +kernel
theorem hlX13_numbered : (parseMethodDescriptor yX13_numbered.desc).map (fun d => d.parameters.length) = some 0 := by decide +kernel
set_option maxHeartbeats 4000000 in
set_option maxRecDepth 100000 in
theorem metX13_numbered (l : Launch) [NoTr l] (F : Nat) (D : va_G) (h0 : HS) (x0 : Nat) (r : Int32) (hF : fX13_numbered F h0 x0 = some r) : CMet l yX13_numbered (ws_ yX13_numbered cX13_numbered 1 (some .int)) 3 65 D [.ref x0] h0 h0 (.inr (some (.int r))) := by
  refine CMet.ofW (by decide) ?_
  intro p e s m below meth c s₁ B S hX hM hr hlocks hnt hin
  obtain ⟨hx, hb, hml, hown, hts⟩ := id S
  have hl := lv_entry ([.ref x0]) (n := 1) (Nat.le_of_ble_eq_true rfl)
  rw [lg_entry_eq]
  generalize (lg_sl ([.ref x0]) ++ List.replicate (1 - (lg_sl ([.ref x0])).length) Slot.unset).toArray = ls at hl ⊢
  have hl : lv_has ls 1 [(0, .ref x0)] := hl
  unfold fX13_numbered at hF
  refine lv_aload_n hx hb dX13_numbered_0 rfl (lv_at hl 0 rfl) ?_
  refine cldc S hM (uq1543 hX) dX13_numbered_1 ?_
  obtain ⟨z1, hF⟩ := gTe hF
  obtain ⟨r1, er1, hF⟩ := obn hF
  refine ccr (rest := []) (st1 := [.int r1]) S hX hM (metX6_is l F D h0 x0 (kG h0 22) r1 er1) (ci_U (C := "RugReader$SentenceReader") (As := [.ref (kG h0 22)]) (rest := []) S q1535 q1536 rfl q714 q1537 q715 hyX6_is (HI.cell (ci := 6) hX hM (by decide) (by omega)) hlX6_is rfl dX13_numbered_3) q715 q112 (Nat.le_of_ble_eq_true rfl) (Nat.le_of_ble_eq_true rfl) hl.1 (Nat.le_of_ble_eq_true rfl) rfl (fun H locs cs ss hM => ?_)
  refine lv_if_eq (tgt := 13) hx hb dX13_numbered_6 (by decide) (fun c2 => ?_) (fun c2 => ?_)
  · have hF := ifp hF c2
    refine lv_aload_n hx hb dX13_numbered_13 rfl (lv_at hl 0 rfl) ?_
    refine cldc S hM (uq1544 hX) dX13_numbered_14 ?_
    obtain ⟨z3, hF⟩ := gTe hF
    obtain ⟨r3, er3, hF⟩ := obn hF
    refine ccr (rest := []) (st1 := [.int r3]) S hX hM (metX6_is l F D h0 x0 (kG h0 23) r3 er3) (ci_U (C := "RugReader$SentenceReader") (As := [.ref (kG h0 23)]) (rest := []) S q1535 q1536 rfl q714 q1537 q715 hyX6_is (HI.cell (ci := 6) hX hM (by decide) (by omega)) hlX6_is rfl dX13_numbered_16) q715 q112 (Nat.le_of_ble_eq_true rfl) (Nat.le_of_ble_eq_true rfl) hl.1 (Nat.le_of_ble_eq_true rfl) rfl (fun H locs cs ss hM => ?_)
    refine lv_if_eq (tgt := 26) hx hb dX13_numbered_19 (by decide) (fun c4 => ?_) (fun c4 => ?_)
    · have hF := ifp hF c4
      refine lv_aload_n hx hb dX13_numbered_26 rfl (lv_at hl 0 rfl) ?_
      refine cldc S hM (uq1545 hX) dX13_numbered_27 ?_
      obtain ⟨z5, hF⟩ := gTe hF
      obtain ⟨r5, er5, hF⟩ := obn hF
      refine ccr (rest := []) (st1 := [.int r5]) S hX hM (metX6_is l F D h0 x0 (kG h0 24) r5 er5) (ci_U (C := "RugReader$SentenceReader") (As := [.ref (kG h0 24)]) (rest := []) S q1535 q1536 rfl q714 q1537 q715 hyX6_is (HI.cell (ci := 6) hX hM (by decide) (by omega)) hlX6_is rfl dX13_numbered_29) q715 q112 (Nat.le_of_ble_eq_true rfl) (Nat.le_of_ble_eq_true rfl) hl.1 (Nat.le_of_ble_eq_true rfl) rfl (fun H locs cs ss hM => ?_)
      refine lv_if_eq (tgt := 39) hx hb dX13_numbered_32 (by decide) (fun c6 => ?_) (fun c6 => ?_)
      · have hF := ifp hF c6
        refine lv_aload_n hx hb dX13_numbered_39 rfl (lv_at hl 0 rfl) ?_
        refine cldc S hM (uq1546 hX) dX13_numbered_40 ?_
        obtain ⟨z7, hF⟩ := gTe hF
        obtain ⟨r7, er7, hF⟩ := obn hF
        refine ccr (rest := []) (st1 := [.int r7]) S hX hM (metX6_is l F D h0 x0 (kG h0 25) r7 er7) (ci_U (C := "RugReader$SentenceReader") (As := [.ref (kG h0 25)]) (rest := []) S q1535 q1536 rfl q714 q1537 q715 hyX6_is (HI.cell (ci := 6) hX hM (by decide) (by omega)) hlX6_is rfl dX13_numbered_42) q715 q112 (Nat.le_of_ble_eq_true rfl) (Nat.le_of_ble_eq_true rfl) hl.1 (Nat.le_of_ble_eq_true rfl) rfl (fun H locs cs ss hM => ?_)
        refine lv_if_eq (tgt := 52) hx hb dX13_numbered_45 (by decide) (fun c8 => ?_) (fun c8 => ?_)
        · have hF := ifp hF c8
          refine lv_aload_n hx hb dX13_numbered_52 rfl (lv_at hl 0 rfl) ?_
          refine cldc S hM (uq1547 hX) dX13_numbered_53 ?_
          obtain ⟨z9, hF⟩ := gTe hF
          obtain ⟨r9, er9, hF⟩ := obn hF
          refine ccr (rest := []) (st1 := [.int r9]) S hX hM (metX6_is l F D h0 x0 (kG h0 26) r9 er9) (ci_U (C := "RugReader$SentenceReader") (As := [.ref (kG h0 26)]) (rest := []) S q1535 q1536 rfl q714 q1537 q715 hyX6_is (HI.cell (ci := 6) hX hM (by decide) (by omega)) hlX6_is rfl dX13_numbered_55) q715 q112 (Nat.le_of_ble_eq_true rfl) (Nat.le_of_ble_eq_true rfl) hl.1 (Nat.le_of_ble_eq_true rfl) rfl (fun H locs cs ss hM => ?_)
          refine lv_if_eq (tgt := 65) hx hb dX13_numbered_58 (by decide) (fun c10 => ?_) (fun c10 => ?_)
          · have hF := ifp hF c10
            refine lv_aload_n hx hb dX13_numbered_65 rfl (lv_at hl 0 rfl) ?_
            refine cldc S hM (uq1548 hX) dX13_numbered_66 ?_
            obtain ⟨z11, hF⟩ := gTe hF
            obtain ⟨r11, er11, hF⟩ := obn hF
            refine ccr (rest := []) (st1 := [.int r11]) S hX hM (metX6_is l F D h0 x0 (kG h0 27) r11 er11) (ci_U (C := "RugReader$SentenceReader") (As := [.ref (kG h0 27)]) (rest := []) S q1535 q1536 rfl q714 q1537 q715 hyX6_is (HI.cell (ci := 6) hX hM (by decide) (by omega)) hlX6_is rfl dX13_numbered_68) q715 q112 (Nat.le_of_ble_eq_true rfl) (Nat.le_of_ble_eq_true rfl) hl.1 (Nat.le_of_ble_eq_true rfl) rfl (fun H locs cs ss hM => ?_)
            refine lv_if_eq (tgt := 78) hx hb dX13_numbered_71 (by decide) (fun c12 => ?_) (fun c12 => ?_)
            · have hF := ifp hF c12
              refine lv_iconst (v := (-1)) hx hb dX13_numbered_78 rfl ?_
              have hz := (Option.some.inj hF)
              subst hz
              exact cri S hM hr hlocks dX13_numbered_79
            · have hF := ifn hF c12
              refine lv_iconst (v := 5) hx hb dX13_numbered_74 rfl ?_
              refine lv_goto (tgt := 79) hx hb dX13_numbered_75 (by decide) ?_
              have hz := (Option.some.inj hF)
              subst hz
              exact cri S hM hr hlocks dX13_numbered_79
          · have hF := ifn hF c10
            refine lv_iconst (v := 4) hx hb dX13_numbered_61 rfl ?_
            refine lv_goto (tgt := 79) hx hb dX13_numbered_62 (by decide) ?_
            have hz := (Option.some.inj hF)
            subst hz
            exact cri S hM hr hlocks dX13_numbered_79
        · have hF := ifn hF c8
          refine lv_iconst (v := 3) hx hb dX13_numbered_48 rfl ?_
          refine lv_goto (tgt := 79) hx hb dX13_numbered_49 (by decide) ?_
          have hz := (Option.some.inj hF)
          subst hz
          exact cri S hM hr hlocks dX13_numbered_79
      · have hF := ifn hF c6
        refine lv_iconst (v := 2) hx hb dX13_numbered_35 rfl ?_
        refine lv_goto (tgt := 79) hx hb dX13_numbered_36 (by decide) ?_
        have hz := (Option.some.inj hF)
        subst hz
        exact cri S hM hr hlocks dX13_numbered_79
    · have hF := ifn hF c4
      refine lv_iconst (v := 1) hx hb dX13_numbered_22 rfl ?_
      refine lv_goto (tgt := 79) hx hb dX13_numbered_23 (by decide) ?_
      have hz := (Option.some.inj hF)
      subst hz
      exact cri S hM hr hlocks dX13_numbered_79
  · have hF := ifn hF c2
    refine lv_iconst (v := 0) hx hb dX13_numbered_9 rfl ?_
    refine lv_goto (tgt := 79) hx hb dX13_numbered_10 (by decide) ?_
    have hz := (Option.some.inj hF)
    subst hz
    exact cri S hM hr hlocks dX13_numbered_79
def fX13_bracket (F : Nat) (rec : HS → Nat → Option ((Nat ⊕ Nat) × HS)) (h0 : HS) (x0 : Nat) : Option ((Nat ⊕ Nat) × HS) := gT h0 x0 7 7 (((fX13_or F rec h0 x0).bind fun r1 => thr r1.1 (fun b1 => some (.inl b1, r1.2)) fun w1 => ((oI r1.2 x0 7 7 4).bind fun v2 => ((if v2 = 6 then ((oI r1.2 x0 7 7 7).bind fun v5 => (if v5 = 41 then (some false) else (some true))) else (some true)).bind fun q3 => (if q3 = true then (gT r1.2 x0 7 7 (((fX6_need F r1.2 x0 0 1).bind fun r7 => thr r7.1 (fun b7 => some (.inl b7, r7.2)) fun w7 => gT r7.2 x0 7 7 (((fX6_go F r7.2 x0).bind fun r8 => some (.inr w1, r8)))))) else (gT r1.2 x0 7 7 (((fX6_need F r1.2 x0 1 1).bind fun r9 => thr r9.1 (fun b9 => some (.inl b9, r9.2)) fun w9 => gT r9.2 x0 7 7 (((fX6_go F r9.2 x0).bind fun r10 => some (.inr w1, r10)))))))))))
theorem hyX13_bracket : yX13_bracket.cls ≠ "java/lang/invoke/MethodHandle" ∧ yX13_bracket.cls ≠ "java/lang/invoke/VarHandle" := by decide +kernel
theorem hlX13_bracket : (parseMethodDescriptor yX13_bracket.desc).map (fun d => d.parameters.length) = some 0 := by decide +kernel
set_option maxHeartbeats 4000000 in
set_option maxRecDepth 100000 in
theorem metX13_bracket (l : Launch) [NoTr l] (F : Nat) (D : va_G) (RF RL : Nat) (rec : HS → Nat → Option ((Nat ⊕ Nat) × HS)) (hrec : RecOne l D RF RL rec) (h0 : HS) (x0 : Nat) (r : (Nat ⊕ Nat) × HS) (hF : fX13_bracket F rec h0 x0 = some r) : CMet l yX13_bracket (ws_ yX13_bracket cX13_bracket 2 (some (.object "RugReader$Cond"))) (RF + 10) (RL + 244) D [.ref x0] h0 r.2 (xr r.1) := by
  refine CMet.ofW (by decide) ?_
  intro p e s m below meth c s₁ B S hX hM hr hlocks hnt hin
  obtain ⟨hx, hb, hml, hown, hts⟩ := id S
  have hl := lv_entry ([.ref x0]) (n := 2) (Nat.le_of_ble_eq_true rfl)
  rw [lg_entry_eq]
  generalize (lg_sl ([.ref x0]) ++ List.replicate (2 - (lg_sl ([.ref x0])).length) Slot.unset).toArray = ls at hl ⊢
  have hl : lv_has ls 2 [(0, .ref x0)] := hl
  unfold fX13_bracket at hF
  refine lv_aload_n hx hb dX13_bracket_0 rfl (lv_at hl 0 rfl) ?_
  obtain ⟨z1, hF⟩ := gTe hF
  obtain ⟨r1, er1, hF⟩ := obn hF
  refine cctr (rest := []) S hX hM (metX13_or l F D RF RL rec hrec h0 x0 r1 er1) (ci_V (C := "RugReader$SentenceReader") (As := []) (rest := []) S q1522 q1524 qs37 q1525 hyX13_or (HI.cell (ci := 6) hX hM (by decide) (by omega)) hlX13_or rfl dX13_bracket_1) q1525 q136 (by omega) (by omega) hl.1 (Nat.le_of_ble_eq_true rfl) (fun w1 ew1 H locs cs ss hM => ?_) (fun b1 eb1 H locs cs ss hM => ?_)
  · have hF := thr_r hF ew1
    refine lv_astore_n (lv' := [(1, .ref w1), (0, .ref x0)]) hx hb dX13_bracket_4 rfl hl (by decide) rfl (fun ls hl => ?_)
    refine lv_aload_n hx hb dX13_bracket_5 rfl (lv_at hl 1 rfl) ?_
    refine lv_aload_n hx hb dX13_bracket_6 rfl (lv_at hl 1 rfl) ?_
    obtain ⟨v2, ev2, hF⟩ := obn hF
    refine cgi S hX hM ev2 ck_7_7_4 q462 (u_same (hts _ q463)) dX13_bracket_7 ?_
    refine lv_bipush (v := 6) hx hb dX13_bracket_10 rfl ?_
    obtain ⟨q3, hq3, hF⟩ := obn hF
    refine cjnc (C := q3 = true) (I := HI D h0 r1.2 s.heap) (nJ := 2) (lvJ := [(0, .ref x0), (1, .ref w1)]) (J := 28) (stJ := [.ref x0]) ?_ ?_
    · intro cq3 H locs cs ss ls hM hl
      have hF := ifp hF cq3
      refine lv_iconst (v := 0) hx hb dX13_bracket_28 rfl ?_
      refine lv_iconst (v := 1) hx hb dX13_bracket_29 rfl ?_
      obtain ⟨z7, hF⟩ := gTe hF
      obtain ⟨r7, er7, hF⟩ := obn hF
      refine cctv (rest := []) S hX hM (metX6_need l F D r1.2 x0 0 1 r7 er7) (ci_U (C := "RugReader$SentenceReader") (As := [.int 0, .int 1]) (rest := []) S q1549 q1550 rfl q739 q1551 q740 hyX6_need (HI.cell (ci := 6) hX hM (by decide) (by omega)) hlX6_need rfl dX13_bracket_30) q740 q112 (by omega) (by omega) hl.1 (Nat.le_of_ble_eq_true rfl) (fun w7 ew7 H locs cs ss hM => ?_) (fun b7 eb7 H locs cs ss hM => ?_)
      · have hF := thr_r hF ew7
        refine lv_aload_n hx hb dX13_bracket_33 rfl (lv_at hl 0 rfl) ?_
        obtain ⟨z8, hF⟩ := gTe hF
        obtain ⟨r8, er8, hF⟩ := obn hF
        refine ccr (rest := []) (st1 := []) S hX hM (metX6_go l F D r7.2 x0 r8 er8) (ci_U (C := "RugReader$SentenceReader") (As := []) (rest := []) S q1519 q1520 rfl q506 q1521 q507 hyX6_go (HI.cell (ci := 6) hX hM (by decide) (by omega)) hlX6_go rfl dX13_bracket_34) q507 q112 (by omega) (by omega) hl.1 (Nat.le_of_ble_eq_true rfl) rfl (fun H locs cs ss hM => ?_)
        refine lv_aload_n hx hb dX13_bracket_37 rfl (lv_at hl 1 rfl) ?_
        have hz := (Option.some.inj hF)
        subst hz
        exact cra S hM hr (Or.inl ⟨_, rfl⟩) hlocks dX13_bracket_38
      · have hF := thr_q hF eb7
        have hz := (Option.some.inj hF)
        subst hz
        exact cxout hM (fun x hx => (hnt x hx).elim) hlocks
    · intro hAq3
      refine cjnc (C := q3 = false) (I := HI D h0 r1.2 s.heap) (nJ := 2) (lvJ := [(0, .ref x0), (1, .ref w1)]) (J := 24) (stJ := [.ref x0]) ?_ ?_
      · intro cq3 H locs cs ss ls hM hl
        have hF := ifn hF (by rw [cq3]; decide)
        refine lv_iconst (v := 1) hx hb dX13_bracket_24 rfl ?_
        refine lv_goto (tgt := 29) hx hb dX13_bracket_25 (by decide) ?_
        refine lv_iconst (v := 1) hx hb dX13_bracket_29 rfl ?_
        obtain ⟨z9, hF⟩ := gTe hF
        obtain ⟨r9, er9, hF⟩ := obn hF
        refine cctv (rest := []) S hX hM (metX6_need l F D r1.2 x0 1 1 r9 er9) (ci_U (C := "RugReader$SentenceReader") (As := [.int 1, .int 1]) (rest := []) S q1549 q1550 rfl q739 q1551 q740 hyX6_need (HI.cell (ci := 6) hX hM (by decide) (by omega)) hlX6_need rfl dX13_bracket_30) q740 q112 (by omega) (by omega) hl.1 (Nat.le_of_ble_eq_true rfl) (fun w9 ew9 H locs cs ss hM => ?_) (fun b9 eb9 H locs cs ss hM => ?_)
        · have hF := thr_r hF ew9
          refine lv_aload_n hx hb dX13_bracket_33 rfl (lv_at hl 0 rfl) ?_
          obtain ⟨z10, hF⟩ := gTe hF
          obtain ⟨r10, er10, hF⟩ := obn hF
          refine ccr (rest := []) (st1 := []) S hX hM (metX6_go l F D r9.2 x0 r10 er10) (ci_U (C := "RugReader$SentenceReader") (As := []) (rest := []) S q1519 q1520 rfl q506 q1521 q507 hyX6_go (HI.cell (ci := 6) hX hM (by decide) (by omega)) hlX6_go rfl dX13_bracket_34) q507 q112 (by omega) (by omega) hl.1 (Nat.le_of_ble_eq_true rfl) rfl (fun H locs cs ss hM => ?_)
          refine lv_aload_n hx hb dX13_bracket_37 rfl (lv_at hl 1 rfl) ?_
          have hz := (Option.some.inj hF)
          subst hz
          exact cra S hM hr (Or.inl ⟨_, rfl⟩) hlocks dX13_bracket_38
        · have hF := thr_q hF eb9
          have hz := (Option.some.inj hF)
          subst hz
          exact cxout hM (fun x hx => (hnt x hx).elim) hlocks
      · intro hBq3
        refine lv_icmp_ne (tgt := 28) hx hb dX13_bracket_12 (by decide) (fun c4 => ?_) (fun c4 => ?_)
        · have hq3 := ifn hq3 c4
          cases hq3
          exact hAq3 rfl _ _ _ _ _ hM (lv_sub hl [1, 0] rfl)
        · have hq3 := ifp hq3 c4
          refine lv_aload_n hx hb dX13_bracket_15 rfl (lv_at hl 1 rfl) ?_
          obtain ⟨v5, ev5, hq3⟩ := obn hq3
          refine cgi S hX hM ev5 ck_7_7_7 q470 (u_same (hts _ q471)) dX13_bracket_16 ?_
          refine lv_bipush (v := 41) hx hb dX13_bracket_19 rfl ?_
          refine lv_icmp_ne (tgt := 28) hx hb dX13_bracket_21 (by decide) (fun c6 => ?_) (fun c6 => ?_)
          · have hq3 := ifn hq3 c6
            cases hq3
            exact hAq3 rfl _ _ _ _ _ hM (lv_sub hl [1, 0] rfl)
          · have hq3 := ifp hq3 c6
            cases hq3
            exact hBq3 rfl _ _ _ _ _ hM (lv_sub hl [1, 0] rfl)
  · have hF := thr_q hF eb1
    have hz := (Option.some.inj hF)
    subst hz
    exact cxout hM (fun x hx => (hnt x hx).elim) hlocks
def fX15_init (F : Nat) (h0 : HS) (x0 : Nat) (x1 : Nat) : Option (HS) := ((pR h0 x0 11 11 0 (some x1)).bind fun σ2 => some σ2)
theorem hyX15_init : yX15_init.cls ≠ "java/lang/invoke/MethodHandle" ∧ yX15_init.cls ≠ "java/lang/invoke/VarHandle" := by decide +kernel
theorem hlX15_init : (parseMethodDescriptor yX15_init.desc).map (fun d => d.parameters.length) = some 1 := by decide +kernel
set_option maxHeartbeats 4000000 in
set_option maxRecDepth 100000 in
theorem metX15_init (l : Launch) [NoTr l] (F : Nat) (D : va_G) (h0 : HS) (x0 : Nat) (x1 : Nat) (r : HS) (hF : fX15_init F h0 x0 x1 = some r) : CMet l yX15_init (ws_ yX15_init cX15_init 2 none) 2 40 D [.ref x0, .ref x1] h0 r (.inr none) := by
  refine CMet.ofW (by decide) ?_
  intro p e s m below meth c s₁ B S hX hM hr hlocks hnt hin
  obtain ⟨hx, hb, hml, hown, hts⟩ := id S
  have hl := lv_entry ([.ref x0, .ref x1]) (n := 2) (Nat.le_of_ble_eq_true rfl)
  rw [lg_entry_eq]
  generalize (lg_sl ([.ref x0, .ref x1]) ++ List.replicate (2 - (lg_sl ([.ref x0, .ref x1])).length) Slot.unset).toArray = ls at hl ⊢
  have hl : lv_has ls 2 [(0, .ref x0), (1, .ref x1)] := hl
  unfold fX15_init at hF
  refine lv_aload_n hx hb dX15_init_0 rfl (lv_at hl 0 rfl) ?_
  refine ccr (rest := []) (st1 := []) S hX hM (metX14_init l D h0 x0 _ rfl) (ci_IN (As := []) (rest := []) S rfl (uq1561 hX) q1562 q1563 hyX14_init hlX14_init rfl dX15_init_1) q1563 q137 (Nat.le_of_ble_eq_true rfl) (Nat.le_of_ble_eq_true rfl) hl.1 (Nat.le_of_ble_eq_true rfl) rfl (fun H locs cs ss hM => ?_)
  refine lv_aload_n hx hb dX15_init_4 rfl (lv_at hl 0 rfl) ?_
  refine lv_aload_n hx hb dX15_init_5 rfl (lv_at hl 1 rfl) ?_
  obtain ⟨σ2, eσ2, hF⟩ := obn hF
  refine cprF (v := (some x1)) S hX hM eσ2 ck_11_11_0 cw_11_11_0 rfl q1565 hin dX15_init_6 (fun H locs hM => ?_)
  have hz := (Option.some.inj hF)
  subst hz
  exact crv S hM hr hlocks dX15_init_9
def fX16_init (F : Nat) (h0 : HS) (x0 : Nat) (x1 : Int32) : Option (HS) := ((pI h0 x0 12 12 0 x1).bind fun σ2 => some σ2)
theorem hyX16_init : yX16_init.cls ≠ "java/lang/invoke/MethodHandle" ∧ yX16_init.cls ≠ "java/lang/invoke/VarHandle" := by decide +kernel
theorem hlX16_init : (parseMethodDescriptor yX16_init.desc).map (fun d => d.parameters.length) = some 1 := by decide +kernel
set_option maxHeartbeats 4000000 in
set_option maxRecDepth 100000 in
theorem metX16_init (l : Launch) [NoTr l] (F : Nat) (D : va_G) (h0 : HS) (x0 : Nat) (x1 : Int32) (r : HS) (hF : fX16_init F h0 x0 x1 = some r) : CMet l yX16_init (ws_ yX16_init cX16_init 2 none) 2 40 D [.ref x0, .int x1] h0 r (.inr none) := by
  refine CMet.ofW (by decide) ?_
  intro p e s m below meth c s₁ B S hX hM hr hlocks hnt hin
  obtain ⟨hx, hb, hml, hown, hts⟩ := id S
  have hl := lv_entry ([.ref x0, .int x1]) (n := 2) (Nat.le_of_ble_eq_true rfl)
  rw [lg_entry_eq]
  generalize (lg_sl ([.ref x0, .int x1]) ++ List.replicate (2 - (lg_sl ([.ref x0, .int x1])).length) Slot.unset).toArray = ls at hl ⊢
  have hl : lv_has ls 2 [(0, .ref x0), (1, .int x1)] := hl
  unfold fX16_init at hF
  refine lv_aload_n hx hb dX16_init_0 rfl (lv_at hl 0 rfl) ?_
  refine ccr (rest := []) (st1 := []) S hX hM (metX14_init l D h0 x0 _ rfl) (ci_IN (As := []) (rest := []) S rfl (uq1581 hX) q1562 q1563 hyX14_init hlX14_init rfl dX16_init_1) q1563 q137 (Nat.le_of_ble_eq_true rfl) (Nat.le_of_ble_eq_true rfl) hl.1 (Nat.le_of_ble_eq_true rfl) rfl (fun H locs cs ss hM => ?_)
  refine lv_aload_n hx hb dX16_init_4 rfl (lv_at hl 0 rfl) ?_
  refine lv_iload_n hx hb dX16_init_5 rfl (lv_at hl 1 rfl) ?_
  obtain ⟨σ2, eσ2, hF⟩ := obn hF
  refine cpiF S hX hM eσ2 ck_12_12_0 cw_12_12_0 rfl rfl q1582 hin dX16_init_6 (fun H locs hM => ?_)
  have hz := (Option.some.inj hF)
  subst hz
  exact crv S hM hr hlocks dX16_init_9
def fX13_trod (F : Nat) (h0 : HS) (x0 : Nat) : Option ((Nat ⊕ Nat) × HS) := ((fR h0 x0 7 7 9).bind fun a1 => ((fR h0 a1 2 2 6).bind fun a2 => gT h0 x0 7 7 (((fX6_holdOne F h0 x0 a2).bind fun r3 => thr r3.1 (fun b3 => some (.inl b3, r3.2)) fun w3 => gT r3.2 x0 7 7 (((fX6_go F r3.2 x0).bind fun r4 => ((nO r4 12 1).bind fun r5 => ((fX16_init F r5.2 r5.1 w3).bind fun r6 => some (.inr r5.1, r6)))))))))
theorem hyX13_trod : yX13_trod.cls ≠ "java/lang/invoke/MethodHandle" ∧ yX13_trod.cls ≠ "java/lang/invoke/VarHandle" := by decide +kernel
theorem hlX13_trod : (parseMethodDescriptor yX13_trod.desc).map (fun d => d.parameters.length) = some 0 := by decide +kernel
set_option maxHeartbeats 4000000 in
set_option maxRecDepth 100000 in
theorem metX13_trod (l : Launch) [NoTr l] (F : Nat) (D : va_G) (h0 : HS) (x0 : Nat) (r : (Nat ⊕ Nat) × HS) (hF : fX13_trod F h0 x0 = some r) : CMet l yX13_trod (ws_ yX13_trod cX13_trod 2 (some (.object "RugReader$Cond"))) 11 266 D [.ref x0] h0 r.2 (xr r.1) := by
  refine CMet.ofW (by decide) ?_
  intro p e s m below meth c s₁ B S hX hM hr hlocks hnt hin
  obtain ⟨hx, hb, hml, hown, hts⟩ := id S
  have hl := lv_entry ([.ref x0]) (n := 2) (Nat.le_of_ble_eq_true rfl)
  rw [lg_entry_eq]
  generalize (lg_sl ([.ref x0]) ++ List.replicate (2 - (lg_sl ([.ref x0])).length) Slot.unset).toArray = ls at hl ⊢
  have hl : lv_has ls 2 [(0, .ref x0)] := hl
  unfold fX13_trod at hF
  refine lv_aload_n hx hb dX13_trod_0 rfl (lv_at hl 0 rfl) ?_
  refine lv_aload_n hx hb dX13_trod_1 rfl (lv_at hl 0 rfl) ?_
  obtain ⟨a1, ea1, hF⟩ := obn hF
  refine cgn S hX hM ea1 ck_7_7_9 q1495 (fun _ h => h) dX13_trod_2 ?_
  obtain ⟨a2, ea2, hF⟩ := obn hF
  refine cgnN S hX hM ea2 ck_2_2_6 (uq208 hX) dX13_trod_5 ?_
  obtain ⟨z3, hF⟩ := gTe hF
  obtain ⟨r3, er3, hF⟩ := obn hF
  refine ccti (rest := []) S hX hM (metX6_holdOne l F D h0 x0 a2 r3 er3) (ci_U (C := "RugReader$SentenceReader") (As := [.ref a2]) (rest := []) S q1573 q1574 rfl q1379 q1575 q1380 hyX6_holdOne (HI.cell (ci := 6) hX hM (by decide) (by omega)) hlX6_holdOne rfl dX13_trod_8) q1380 q112 (Nat.le_of_ble_eq_true rfl) (Nat.le_of_ble_eq_true rfl) hl.1 (Nat.le_of_ble_eq_true rfl) (fun w3 ew3 H locs cs ss hM => ?_) (fun b3 eb3 H locs cs ss hM => ?_)
  · have hF := thr_r hF ew3
    refine lv_istore_n (lv' := [(1, .int w3), (0, .ref x0)]) hx hb dX13_trod_11 rfl hl (by decide) rfl (fun ls hl => ?_)
    refine lv_aload_n hx hb dX13_trod_12 rfl (lv_at hl 1 rfl) ?_
    obtain ⟨z4, hF⟩ := gTe hF
    obtain ⟨r4, er4, hF⟩ := obn hF
    refine ccr (rest := []) (st1 := []) S hX hM (metX6_go l F D r3.2 x0 r4 er4) (ci_U (C := "RugReader$SentenceReader") (As := []) (rest := []) S q1519 q1520 rfl q506 q1521 q507 hyX6_go (HI.cell (ci := 6) hX hM (by decide) (by omega)) hlX6_go rfl dX13_trod_13) q507 q112 (Nat.le_of_ble_eq_true rfl) (Nat.le_of_ble_eq_true rfl) hl.1 (Nat.le_of_ble_eq_true rfl) rfl (fun H locs cs ss hM => ?_)
    obtain ⟨r5, er5, hF⟩ := obn hF
    refine cno (ci := 11) S hX hM er5 (by decide) q1576 q1577 q139 dX13_trod_16 (fun H cs ss hM => ?_)
    refine lv_dup hx hb dX13_trod_19 rfl ?_
    refine lv_iload_n hx hb dX13_trod_20 rfl (lv_at hl 0 rfl) ?_
    obtain ⟨r6, er6, hF⟩ := obn hF
    refine ccr (rest := [.ref r5.1]) (st1 := [.ref r5.1]) S hX hM (metX16_init l F D r5.2 r5.1 w3 r6 er6) (ci_I (As := [.int w3]) (rest := [.ref r5.1]) S rfl q1578 q1579 q1580 hyX16_init hlX16_init rfl dX13_trod_21) q1580 q139 (Nat.le_of_ble_eq_true rfl) (Nat.le_of_ble_eq_true rfl) hl.1 (Nat.le_of_ble_eq_true rfl) rfl (fun H locs cs ss hM => ?_)
    have hz := (Option.some.inj hF)
    subst hz
    exact cra S hM hr (Or.inl ⟨_, rfl⟩) hlocks dX13_trod_24
  · have hF := thr_q hF eb3
    have hz := (Option.some.inj hF)
    subst hz
    exact cxout hM (fun x hx => (hnt x hx).elim) hlocks
def fX17_init (F : Nat) (h0 : HS) (x0 : Nat) (x1 : Int32) (x2 : Int32) (x3 : Int32) : Option (HS) := ((pI h0 x0 13 13 0 x1).bind fun σ2 => ((pI σ2 x0 13 13 1 x2).bind fun σ3 => ((pI σ3 x0 13 13 2 x3).bind fun σ4 => some σ4)))
theorem hyX17_init : yX17_init.cls ≠ "java/lang/invoke/MethodHandle" ∧ yX17_init.cls ≠ "java/lang/invoke/VarHandle" := by decide +kernel
theorem hlX17_init : (parseMethodDescriptor yX17_init.desc).map (fun d => d.parameters.length) = some 3 := by decide +kernel
set_option maxHeartbeats 4000000 in
set_option maxRecDepth 100000 in
theorem metX17_init (l : Launch) [NoTr l] (F : Nat) (D : va_G) (h0 : HS) (x0 : Nat) (x1 : Int32) (x2 : Int32) (x3 : Int32) (r : HS) (hF : fX17_init F h0 x0 x1 x2 x3 = some r) : CMet l yX17_init (ws_ yX17_init cX17_init 4 none) 2 40 D [.ref x0, .int x1, .int x2, .int x3] h0 r (.inr none) := by
  refine CMet.ofW (by decide) ?_
  intro p e s m below meth c s₁ B S hX hM hr hlocks hnt hin
  obtain ⟨hx, hb, hml, hown, hts⟩ := id S
  have hl := lv_entry ([.ref x0, .int x1, .int x2, .int x3]) (n := 4) (Nat.le_of_ble_eq_true rfl)
  rw [lg_entry_eq]
  generalize (lg_sl ([.ref x0, .int x1, .int x2, .int x3]) ++ List.replicate (4 - (lg_sl ([.ref x0, .int x1, .int x2, .int x3])).length) Slot.unset).toArray = ls at hl ⊢
  have hl : lv_has ls 4 [(0, .ref x0), (1, .int x1), (2, .int x2), (3, .int x3)] := hl
  unfold fX17_init at hF
  refine lv_aload_n hx hb dX17_init_0 rfl (lv_at hl 0 rfl) ?_
  refine ccr (rest := []) (st1 := []) S hX hM (metX14_init l D h0 x0 _ rfl) (ci_IN (As := []) (rest := []) S rfl (uq1598 hX) q1562 q1563 hyX14_init hlX14_init rfl dX17_init_1) q1563 q137 (Nat.le_of_ble_eq_true rfl) (Nat.le_of_ble_eq_true rfl) hl.1 (Nat.le_of_ble_eq_true rfl) rfl (fun H locs cs ss hM => ?_)
  refine lv_aload_n hx hb dX17_init_4 rfl (lv_at hl 0 rfl) ?_
  refine lv_iload_n hx hb dX17_init_5 rfl (lv_at hl 1 rfl) ?_
  obtain ⟨σ2, eσ2, hF⟩ := obn hF
  refine cpiF S hX hM eσ2 ck_13_13_0 cw_13_13_0 rfl rfl q1599 hin dX17_init_6 (fun H locs hM => ?_)
  refine lv_aload_n hx hb dX17_init_9 rfl (lv_at hl 0 rfl) ?_
  refine lv_iload_n hx hb dX17_init_10 rfl (lv_at hl 2 rfl) ?_
  obtain ⟨σ3, eσ3, hF⟩ := obn hF
  refine cpiF S hX hM eσ3 ck_13_13_1 cw_13_13_1 rfl rfl q1600 hin dX17_init_11 (fun H locs hM => ?_)
  refine lv_aload_n hx hb dX17_init_14 rfl (lv_at hl 0 rfl) ?_
  refine lv_iload_n hx hb dX17_init_15 rfl (lv_at hl 3 rfl) ?_
  obtain ⟨σ4, eσ4, hF⟩ := obn hF
  refine cpiF S hX hM eσ4 ck_13_13_2 cw_13_13_2 rfl rfl q1601 hin dX17_init_16 (fun H locs hM => ?_)
  have hz := (Option.some.inj hF)
  subst hz
  exact crv S hM hr hlocks dX17_init_19
def fX13_than (F : Nat) (h0 : HS) (x0 : Nat) (x1 : Int32) : Option ((Nat ⊕ Nat) × HS) := ((oI h0 x0 7 7 4).bind fun v1 => ((if v1 = 6 then ((oI h0 x0 7 7 7).bind fun v4 => (if v4 = 40 then (some true) else (some false))) else (some true)).bind fun q2 => (if q2 = true then (gT h0 x0 7 7 (((fX6_need F h0 x0 0 1).bind fun r6 => thr r6.1 (fun b6 => some (.inl b6, r6.2)) fun w6 => ((oI r6.2 x0 7 7 7).bind fun v7 => gT r6.2 x0 7 7 (((fX6_go F r6.2 x0).bind fun r8 => ((nO r8 13 3).bind fun r9 => gT r9.2 x0 7 7 (((fX6_number F r9.2 x0 0 999).bind fun r10 => thr r10.1 (fun b10 => some (.inl b10, r10.2)) fun w10 => ((fX17_init F r10.2 r9.1 x1 v7 w10).bind fun r11 => some (.inr r9.1, r11))))))))))) else ((oI h0 x0 7 7 7).bind fun v12 => (if v12 = 41 then (gT h0 x0 7 7 (((fX6_need F h0 x0 0 1).bind fun r14 => thr r14.1 (fun b14 => some (.inl b14, r14.2)) fun w14 => ((oI r14.2 x0 7 7 7).bind fun v15 => gT r14.2 x0 7 7 (((fX6_go F r14.2 x0).bind fun r16 => ((nO r16 13 3).bind fun r17 => gT r17.2 x0 7 7 (((fX6_number F r17.2 x0 0 999).bind fun r18 => thr r18.1 (fun b18 => some (.inl b18, r18.2)) fun w18 => ((fX17_init F r18.2 r17.1 x1 v15 w18).bind fun r19 => some (.inr r17.1, r19))))))))))) else (gT h0 x0 7 7 (((fX6_need F h0 x0 1 1).bind fun r20 => thr r20.1 (fun b20 => some (.inl b20, r20.2)) fun w20 => ((oI r20.2 x0 7 7 7).bind fun v21 => gT r20.2 x0 7 7 (((fX6_go F r20.2 x0).bind fun r22 => ((nO r22 13 3).bind fun r23 => gT r23.2 x0 7 7 (((fX6_number F r23.2 x0 0 999).bind fun r24 => thr r24.1 (fun b24 => some (.inl b24, r24.2)) fun w24 => ((fX17_init F r24.2 r23.1 x1 v21 w24).bind fun r25 => some (.inr r23.1, r25))))))))))))))))
theorem hyX13_than : yX13_than.cls ≠ "java/lang/invoke/MethodHandle" ∧ yX13_than.cls ≠ "java/lang/invoke/VarHandle" := by decide +kernel
theorem hlX13_than : (parseMethodDescriptor yX13_than.desc).map (fun d => d.parameters.length) = some 1 := by decide +kernel
set_option maxHeartbeats 4000000 in
set_option maxRecDepth 100000 in
theorem metX13_than (l : Launch) [NoTr l] (F : Nat) (D : va_G) (h0 : HS) (x0 : Nat) (x1 : Int32) (r : (Nat ⊕ Nat) × HS) (hF : fX13_than F h0 x0 x1 = some r) : CMet l yX13_than (ws_ yX13_than cX13_than 3 (some (.object "RugReader$Cond"))) 12 289 D [.ref x0, .int x1] h0 r.2 (xr r.1) := by
  refine CMet.ofW (by decide) ?_
  intro p e s m below meth c s₁ B S hX hM hr hlocks hnt hin
  obtain ⟨hx, hb, hml, hown, hts⟩ := id S
  have hl := lv_entry ([.ref x0, .int x1]) (n := 3) (Nat.le_of_ble_eq_true rfl)
  rw [lg_entry_eq]
  generalize (lg_sl ([.ref x0, .int x1]) ++ List.replicate (3 - (lg_sl ([.ref x0, .int x1])).length) Slot.unset).toArray = ls at hl ⊢
  have hl : lv_has ls 3 [(0, .ref x0), (1, .int x1)] := hl
  unfold fX13_than at hF
  refine lv_aload_n hx hb dX13_than_0 rfl (lv_at hl 0 rfl) ?_
  refine lv_aload_n hx hb dX13_than_1 rfl (lv_at hl 0 rfl) ?_
  obtain ⟨v1, ev1, hF⟩ := obn hF
  refine cgi S hX hM ev1 ck_7_7_4 q462 (u_same (hts _ q463)) dX13_than_2 ?_
  refine lv_bipush (v := 6) hx hb dX13_than_5 rfl ?_
  obtain ⟨q2, hq2, hF⟩ := obn hF
  refine cjnc (C := q2 = true) (I := HI D h0 h0 s.heap) (nJ := 3) (lvJ := [(0, .ref x0), (1, .int x1)]) (J := 32) (stJ := [.ref x0]) ?_ ?_
  · intro cq2 H locs cs ss ls hM hl
    have hF := ifp hF cq2
    refine lv_iconst (v := 0) hx hb dX13_than_32 rfl ?_
    refine lv_iconst (v := 1) hx hb dX13_than_33 rfl ?_
    obtain ⟨z6, hF⟩ := gTe hF
    obtain ⟨r6, er6, hF⟩ := obn hF
    refine cctv (rest := []) S hX hM (metX6_need l F D h0 x0 0 1 r6 er6) (ci_U (C := "RugReader$SentenceReader") (As := [.int 0, .int 1]) (rest := []) S q1549 q1550 rfl q739 q1551 q740 hyX6_need (HI.cell (ci := 6) hX hM (by decide) (by omega)) hlX6_need rfl dX13_than_34) q740 q112 (Nat.le_of_ble_eq_true rfl) (Nat.le_of_ble_eq_true rfl) hl.1 (Nat.le_of_ble_eq_true rfl) (fun w6 ew6 H locs cs ss hM => ?_) (fun b6 eb6 H locs cs ss hM => ?_)
    · have hF := thr_r hF ew6
      refine lv_aload_n hx hb dX13_than_37 rfl (lv_at hl 0 rfl) ?_
      obtain ⟨v7, ev7, hF⟩ := obn hF
      refine cgi S hX hM ev7 ck_7_7_7 q470 (u_same (hts _ q471)) dX13_than_38 ?_
      refine lv_istore_n (lv' := [(2, .int v7), (0, .ref x0), (1, .int x1)]) hx hb dX13_than_41 rfl hl (by decide) rfl (fun ls hl => ?_)
      refine lv_aload_n hx hb dX13_than_42 rfl (lv_at hl 1 rfl) ?_
      obtain ⟨z8, hF⟩ := gTe hF
      obtain ⟨r8, er8, hF⟩ := obn hF
      refine ccr (rest := []) (st1 := []) S hX hM (metX6_go l F D r6.2 x0 r8 er8) (ci_U (C := "RugReader$SentenceReader") (As := []) (rest := []) S q1519 q1520 rfl q506 q1521 q507 hyX6_go (HI.cell (ci := 6) hX hM (by decide) (by omega)) hlX6_go rfl dX13_than_43) q507 q112 (Nat.le_of_ble_eq_true rfl) (Nat.le_of_ble_eq_true rfl) hl.1 (Nat.le_of_ble_eq_true rfl) rfl (fun H locs cs ss hM => ?_)
      obtain ⟨r9, er9, hF⟩ := obn hF
      refine cno (ci := 12) S hX hM er9 (by decide) q1590 q1591 q140 dX13_than_46 (fun H cs ss hM => ?_)
      refine lv_dup hx hb dX13_than_49 rfl ?_
      refine lv_iload_n hx hb dX13_than_50 rfl (lv_at hl 2 rfl) ?_
      refine lv_iload_n hx hb dX13_than_51 rfl (lv_at hl 0 rfl) ?_
      refine lv_aload_n hx hb dX13_than_52 rfl (lv_at hl 1 rfl) ?_
      refine lv_iconst (v := 0) hx hb dX13_than_53 rfl ?_
      refine lv_sipush (v := 999) hx hb dX13_than_54 rfl ?_
      obtain ⟨z10, hF⟩ := gTe hF
      obtain ⟨r10, er10, hF⟩ := obn hF
      refine ccti (rest := [.int v7, .int x1, .ref r9.1, .ref r9.1]) S hX hM (metX6_number l F D r9.2 x0 0 999 r10 er10) (ci_U (C := "RugReader$SentenceReader") (As := [.int 0, .int 999]) (rest := [.int v7, .int x1, .ref r9.1, .ref r9.1]) S q1592 q1593 rfl q810 q1594 q811 hyX6_number (HI.cell (ci := 6) hX hM (by decide) (by omega)) hlX6_number rfl dX13_than_57) q811 q112 (Nat.le_of_ble_eq_true rfl) (Nat.le_of_ble_eq_true rfl) hl.1 (Nat.le_of_ble_eq_true rfl) (fun w10 ew10 H locs cs ss hM => ?_) (fun b10 eb10 H locs cs ss hM => ?_)
      · have hF := thr_r hF ew10
        obtain ⟨r11, er11, hF⟩ := obn hF
        refine ccr (rest := [.ref r9.1]) (st1 := [.ref r9.1]) S hX hM (metX17_init l F D r10.2 r9.1 x1 v7 w10 r11 er11) (ci_I (As := [.int x1, .int v7, .int w10]) (rest := [.ref r9.1]) S rfl q1595 q1596 q1597 hyX17_init hlX17_init rfl dX13_than_60) q1597 q140 (Nat.le_of_ble_eq_true rfl) (Nat.le_of_ble_eq_true rfl) hl.1 (Nat.le_of_ble_eq_true rfl) rfl (fun H locs cs ss hM => ?_)
        have hz := (Option.some.inj hF)
        subst hz
        exact cra S hM hr (Or.inl ⟨_, rfl⟩) hlocks dX13_than_63
      · have hF := thr_q hF eb10
        have hz := (Option.some.inj hF)
        subst hz
        exact cxout hM (fun x hx => (hnt x hx).elim) hlocks
    · have hF := thr_q hF eb6
      have hz := (Option.some.inj hF)
      subst hz
      exact cxout hM (fun x hx => (hnt x hx).elim) hlocks
  · intro hAq2
    refine cjnc (C := q2 = false) (I := HI D h0 h0 s.heap) (nJ := 3) (lvJ := [(0, .ref x0), (1, .int x1)]) (J := 19) (stJ := [.ref x0]) ?_ ?_
    · intro cq2 H locs cs ss ls hM hl
      have hF := ifn hF (by rw [cq2]; decide)
      refine lv_aload_n hx hb dX13_than_19 rfl (lv_at hl 0 rfl) ?_
      obtain ⟨v12, ev12, hF⟩ := obn hF
      refine cgi S hX hM ev12 ck_7_7_7 q470 (u_same (hts _ q471)) dX13_than_20 ?_
      refine lv_bipush (v := 41) hx hb dX13_than_23 rfl ?_
      refine lv_icmp_eq (tgt := 32) hx hb dX13_than_25 (by decide) (fun c13 => ?_) (fun c13 => ?_)
      · have hF := ifp hF c13
        refine lv_iconst (v := 0) hx hb dX13_than_32 rfl ?_
        refine lv_iconst (v := 1) hx hb dX13_than_33 rfl ?_
        obtain ⟨z14, hF⟩ := gTe hF
        obtain ⟨r14, er14, hF⟩ := obn hF
        refine cctv (rest := []) S hX hM (metX6_need l F D h0 x0 0 1 r14 er14) (ci_U (C := "RugReader$SentenceReader") (As := [.int 0, .int 1]) (rest := []) S q1549 q1550 rfl q739 q1551 q740 hyX6_need (HI.cell (ci := 6) hX hM (by decide) (by omega)) hlX6_need rfl dX13_than_34) q740 q112 (Nat.le_of_ble_eq_true rfl) (Nat.le_of_ble_eq_true rfl) hl.1 (Nat.le_of_ble_eq_true rfl) (fun w14 ew14 H locs cs ss hM => ?_) (fun b14 eb14 H locs cs ss hM => ?_)
        · have hF := thr_r hF ew14
          refine lv_aload_n hx hb dX13_than_37 rfl (lv_at hl 0 rfl) ?_
          obtain ⟨v15, ev15, hF⟩ := obn hF
          refine cgi S hX hM ev15 ck_7_7_7 q470 (u_same (hts _ q471)) dX13_than_38 ?_
          refine lv_istore_n (lv' := [(2, .int v15), (0, .ref x0), (1, .int x1)]) hx hb dX13_than_41 rfl hl (by decide) rfl (fun ls hl => ?_)
          refine lv_aload_n hx hb dX13_than_42 rfl (lv_at hl 1 rfl) ?_
          obtain ⟨z16, hF⟩ := gTe hF
          obtain ⟨r16, er16, hF⟩ := obn hF
          refine ccr (rest := []) (st1 := []) S hX hM (metX6_go l F D r14.2 x0 r16 er16) (ci_U (C := "RugReader$SentenceReader") (As := []) (rest := []) S q1519 q1520 rfl q506 q1521 q507 hyX6_go (HI.cell (ci := 6) hX hM (by decide) (by omega)) hlX6_go rfl dX13_than_43) q507 q112 (Nat.le_of_ble_eq_true rfl) (Nat.le_of_ble_eq_true rfl) hl.1 (Nat.le_of_ble_eq_true rfl) rfl (fun H locs cs ss hM => ?_)
          obtain ⟨r17, er17, hF⟩ := obn hF
          refine cno (ci := 12) S hX hM er17 (by decide) q1590 q1591 q140 dX13_than_46 (fun H cs ss hM => ?_)
          refine lv_dup hx hb dX13_than_49 rfl ?_
          refine lv_iload_n hx hb dX13_than_50 rfl (lv_at hl 2 rfl) ?_
          refine lv_iload_n hx hb dX13_than_51 rfl (lv_at hl 0 rfl) ?_
          refine lv_aload_n hx hb dX13_than_52 rfl (lv_at hl 1 rfl) ?_
          refine lv_iconst (v := 0) hx hb dX13_than_53 rfl ?_
          refine lv_sipush (v := 999) hx hb dX13_than_54 rfl ?_
          obtain ⟨z18, hF⟩ := gTe hF
          obtain ⟨r18, er18, hF⟩ := obn hF
          refine ccti (rest := [.int v15, .int x1, .ref r17.1, .ref r17.1]) S hX hM (metX6_number l F D r17.2 x0 0 999 r18 er18) (ci_U (C := "RugReader$SentenceReader") (As := [.int 0, .int 999]) (rest := [.int v15, .int x1, .ref r17.1, .ref r17.1]) S q1592 q1593 rfl q810 q1594 q811 hyX6_number (HI.cell (ci := 6) hX hM (by decide) (by omega)) hlX6_number rfl dX13_than_57) q811 q112 (Nat.le_of_ble_eq_true rfl) (Nat.le_of_ble_eq_true rfl) hl.1 (Nat.le_of_ble_eq_true rfl) (fun w18 ew18 H locs cs ss hM => ?_) (fun b18 eb18 H locs cs ss hM => ?_)
          · have hF := thr_r hF ew18
            obtain ⟨r19, er19, hF⟩ := obn hF
            refine ccr (rest := [.ref r17.1]) (st1 := [.ref r17.1]) S hX hM (metX17_init l F D r18.2 r17.1 x1 v15 w18 r19 er19) (ci_I (As := [.int x1, .int v15, .int w18]) (rest := [.ref r17.1]) S rfl q1595 q1596 q1597 hyX17_init hlX17_init rfl dX13_than_60) q1597 q140 (Nat.le_of_ble_eq_true rfl) (Nat.le_of_ble_eq_true rfl) hl.1 (Nat.le_of_ble_eq_true rfl) rfl (fun H locs cs ss hM => ?_)
            have hz := (Option.some.inj hF)
            subst hz
            exact cra S hM hr (Or.inl ⟨_, rfl⟩) hlocks dX13_than_63
          · have hF := thr_q hF eb18
            have hz := (Option.some.inj hF)
            subst hz
            exact cxout hM (fun x hx => (hnt x hx).elim) hlocks
        · have hF := thr_q hF eb14
          have hz := (Option.some.inj hF)
          subst hz
          exact cxout hM (fun x hx => (hnt x hx).elim) hlocks
      · have hF := ifn hF c13
        refine lv_iconst (v := 1) hx hb dX13_than_28 rfl ?_
        refine lv_goto (tgt := 33) hx hb dX13_than_29 (by decide) ?_
        refine lv_iconst (v := 1) hx hb dX13_than_33 rfl ?_
        obtain ⟨z20, hF⟩ := gTe hF
        obtain ⟨r20, er20, hF⟩ := obn hF
        refine cctv (rest := []) S hX hM (metX6_need l F D h0 x0 1 1 r20 er20) (ci_U (C := "RugReader$SentenceReader") (As := [.int 1, .int 1]) (rest := []) S q1549 q1550 rfl q739 q1551 q740 hyX6_need (HI.cell (ci := 6) hX hM (by decide) (by omega)) hlX6_need rfl dX13_than_34) q740 q112 (Nat.le_of_ble_eq_true rfl) (Nat.le_of_ble_eq_true rfl) hl.1 (Nat.le_of_ble_eq_true rfl) (fun w20 ew20 H locs cs ss hM => ?_) (fun b20 eb20 H locs cs ss hM => ?_)
        · have hF := thr_r hF ew20
          refine lv_aload_n hx hb dX13_than_37 rfl (lv_at hl 0 rfl) ?_
          obtain ⟨v21, ev21, hF⟩ := obn hF
          refine cgi S hX hM ev21 ck_7_7_7 q470 (u_same (hts _ q471)) dX13_than_38 ?_
          refine lv_istore_n (lv' := [(2, .int v21), (0, .ref x0), (1, .int x1)]) hx hb dX13_than_41 rfl hl (by decide) rfl (fun ls hl => ?_)
          refine lv_aload_n hx hb dX13_than_42 rfl (lv_at hl 1 rfl) ?_
          obtain ⟨z22, hF⟩ := gTe hF
          obtain ⟨r22, er22, hF⟩ := obn hF
          refine ccr (rest := []) (st1 := []) S hX hM (metX6_go l F D r20.2 x0 r22 er22) (ci_U (C := "RugReader$SentenceReader") (As := []) (rest := []) S q1519 q1520 rfl q506 q1521 q507 hyX6_go (HI.cell (ci := 6) hX hM (by decide) (by omega)) hlX6_go rfl dX13_than_43) q507 q112 (Nat.le_of_ble_eq_true rfl) (Nat.le_of_ble_eq_true rfl) hl.1 (Nat.le_of_ble_eq_true rfl) rfl (fun H locs cs ss hM => ?_)
          obtain ⟨r23, er23, hF⟩ := obn hF
          refine cno (ci := 12) S hX hM er23 (by decide) q1590 q1591 q140 dX13_than_46 (fun H cs ss hM => ?_)
          refine lv_dup hx hb dX13_than_49 rfl ?_
          refine lv_iload_n hx hb dX13_than_50 rfl (lv_at hl 2 rfl) ?_
          refine lv_iload_n hx hb dX13_than_51 rfl (lv_at hl 0 rfl) ?_
          refine lv_aload_n hx hb dX13_than_52 rfl (lv_at hl 1 rfl) ?_
          refine lv_iconst (v := 0) hx hb dX13_than_53 rfl ?_
          refine lv_sipush (v := 999) hx hb dX13_than_54 rfl ?_
          obtain ⟨z24, hF⟩ := gTe hF
          obtain ⟨r24, er24, hF⟩ := obn hF
          refine ccti (rest := [.int v21, .int x1, .ref r23.1, .ref r23.1]) S hX hM (metX6_number l F D r23.2 x0 0 999 r24 er24) (ci_U (C := "RugReader$SentenceReader") (As := [.int 0, .int 999]) (rest := [.int v21, .int x1, .ref r23.1, .ref r23.1]) S q1592 q1593 rfl q810 q1594 q811 hyX6_number (HI.cell (ci := 6) hX hM (by decide) (by omega)) hlX6_number rfl dX13_than_57) q811 q112 (Nat.le_of_ble_eq_true rfl) (Nat.le_of_ble_eq_true rfl) hl.1 (Nat.le_of_ble_eq_true rfl) (fun w24 ew24 H locs cs ss hM => ?_) (fun b24 eb24 H locs cs ss hM => ?_)
          · have hF := thr_r hF ew24
            obtain ⟨r25, er25, hF⟩ := obn hF
            refine ccr (rest := [.ref r23.1]) (st1 := [.ref r23.1]) S hX hM (metX17_init l F D r24.2 r23.1 x1 v21 w24 r25 er25) (ci_I (As := [.int x1, .int v21, .int w24]) (rest := [.ref r23.1]) S rfl q1595 q1596 q1597 hyX17_init hlX17_init rfl dX13_than_60) q1597 q140 (Nat.le_of_ble_eq_true rfl) (Nat.le_of_ble_eq_true rfl) hl.1 (Nat.le_of_ble_eq_true rfl) rfl (fun H locs cs ss hM => ?_)
            have hz := (Option.some.inj hF)
            subst hz
            exact cra S hM hr (Or.inl ⟨_, rfl⟩) hlocks dX13_than_63
          · have hF := thr_q hF eb24
            have hz := (Option.some.inj hF)
            subst hz
            exact cxout hM (fun x hx => (hnt x hx).elim) hlocks
        · have hF := thr_q hF eb20
          have hz := (Option.some.inj hF)
          subst hz
          exact cxout hM (fun x hx => (hnt x hx).elim) hlocks
    · intro hBq2
      refine lv_icmp_ne (tgt := 32) hx hb dX13_than_7 (by decide) (fun c3 => ?_) (fun c3 => ?_)
      · have hq2 := ifn hq2 c3
        cases hq2
        exact hAq2 rfl _ _ _ _ _ hM (lv_sub hl [0, 1] rfl)
      · have hq2 := ifp hq2 c3
        refine lv_aload_n hx hb dX13_than_10 rfl (lv_at hl 0 rfl) ?_
        obtain ⟨v4, ev4, hq2⟩ := obn hq2
        refine cgi S hX hM ev4 ck_7_7_7 q470 (u_same (hts _ q471)) dX13_than_11 ?_
        refine lv_bipush (v := 40) hx hb dX13_than_14 rfl ?_
        refine lv_icmp_eq (tgt := 32) hx hb dX13_than_16 (by decide) (fun c5 => ?_) (fun c5 => ?_)
        · have hq2 := ifp hq2 c5
          cases hq2
          exact hAq2 rfl _ _ _ _ _ hM (lv_sub hl [0, 1] rfl)
        · have hq2 := ifn hq2 c5
          cases hq2
          exact hBq2 rfl _ _ _ _ _ hM (lv_sub hl [0, 1] rfl)
def fX13_one (F : Nat) (rec : HS → Nat → Option ((Nat ⊕ Nat) × HS)) (h0 : HS) (x0 : Nat) : Option ((Nat ⊕ Nat) × HS) := ((oI h0 x0 7 7 4).bind fun v1 => ((if v1 = 6 then ((oI h0 x0 7 7 7).bind fun v4 => (if v4 = 40 then (some false) else (some true))) else (some true)).bind fun q2 => (if q2 = true then (gT h0 x0 7 7 (((fX6_is F h0 x0 (kG h0 20)).bind fun r6 => gT h0 x0 7 7 (((fX6_is F h0 x0 (kG h0 21)).bind fun r7 => gT h0 x0 7 7 (((fX13_numbered F h0 x0).bind fun r8 => (lt_ (if r6 = 0 then (if r7 = 0 then false else true) else true) fun q10 => (if q10 = true then (gT h0 x0 7 7 (((fX6_need F h0 x0 1 1).bind fun r13 => thr r13.1 (fun b13 => some (.inl b13, r13.2)) fun w13 => ((oI r13.2 x0 7 7 10).bind fun v14 => ((if 20 ≤ v14 then (some true) else ((oI r13.2 x0 7 7 11).bind fun v17 => (if 8 ≤ v17 then (some true) else (some false)))).bind fun q15 => (if q15 = true then (gT r13.2 x0 7 7 (((fX6_need F r13.2 x0 0 4).bind fun r19 => thr r19.1 (fun b19 => some (.inl b19, r19.2)) fun w19 => ((oI r19.2 x0 7 7 10).bind fun v20 => ((pI r19.2 x0 7 7 10 (v20 + 1)).bind fun σ21 => ((oI σ21 x0 7 7 11).bind fun v22 => ((pI σ21 x0 7 7 11 (v22 + 1)).bind fun σ23 => gT σ23 x0 7 7 (((fX6_go F σ23 x0).bind fun r24 => (if r6 = 0 then (if r7 = 0 then (gT r24 x0 7 7 (((fX13_than F r24 x0 r8).bind fun r28 => thr r28.1 (fun b28 => some (.inl b28, r28.2)) fun w28 => ((oI r28.2 x0 7 7 11).bind fun v29 => ((pI r28.2 x0 7 7 11 (v29 - 1)).bind fun σ30 => some (.inr w28, σ30)))))) else (gT r24 x0 7 7 (((fX13_trod F r24 x0).bind fun r31 => thr r31.1 (fun b31 => some (.inl b31, r31.2)) fun w31 => ((oI r31.2 x0 7 7 11).bind fun v32 => ((pI r31.2 x0 7 7 11 (v32 - 1)).bind fun σ33 => some (.inr w31, σ33))))))) else ((nO r24 11 1).bind fun r34 => gT r34.2 x0 7 7 (((rec r34.2 x0).bind fun r35 => thr r35.1 (fun b35 => some (.inl b35, r35.2)) fun w35 => ((fX15_init F r35.2 r34.1 w35).bind fun r36 => ((oI r36 x0 7 7 11).bind fun v37 => ((pI r36 x0 7 7 11 (v37 - 1)).bind fun σ38 => some (.inr r34.1, σ38))))))))))))))))) else (gT r13.2 x0 7 7 (((fX6_need F r13.2 x0 1 4).bind fun r39 => thr r39.1 (fun b39 => some (.inl b39, r39.2)) fun w39 => ((oI r39.2 x0 7 7 10).bind fun v40 => ((pI r39.2 x0 7 7 10 (v40 + 1)).bind fun σ41 => ((oI σ41 x0 7 7 11).bind fun v42 => ((pI σ41 x0 7 7 11 (v42 + 1)).bind fun σ43 => gT σ43 x0 7 7 (((fX6_go F σ43 x0).bind fun r44 => (if r6 = 0 then (if r7 = 0 then (gT r44 x0 7 7 (((fX13_than F r44 x0 r8).bind fun r48 => thr r48.1 (fun b48 => some (.inl b48, r48.2)) fun w48 => ((oI r48.2 x0 7 7 11).bind fun v49 => ((pI r48.2 x0 7 7 11 (v49 - 1)).bind fun σ50 => some (.inr w48, σ50)))))) else (gT r44 x0 7 7 (((fX13_trod F r44 x0).bind fun r51 => thr r51.1 (fun b51 => some (.inl b51, r51.2)) fun w51 => ((oI r51.2 x0 7 7 11).bind fun v52 => ((pI r51.2 x0 7 7 11 (v52 - 1)).bind fun σ53 => some (.inr w51, σ53))))))) else ((nO r44 11 1).bind fun r54 => gT r54.2 x0 7 7 (((rec r54.2 x0).bind fun r55 => thr r55.1 (fun b55 => some (.inl b55, r55.2)) fun w55 => ((fX15_init F r55.2 r54.1 w55).bind fun r56 => ((oI r56 x0 7 7 11).bind fun v57 => ((pI r56 x0 7 7 11 (v57 - 1)).bind fun σ58 => some (.inr r54.1, σ58))))))))))))))))))))))) else (if r8 = (-1) then (gT h0 x0 7 7 (((fX6_need F h0 x0 0 1).bind fun r60 => thr r60.1 (fun b60 => some (.inl b60, r60.2)) fun w60 => ((oI r60.2 x0 7 7 10).bind fun v61 => ((if 20 ≤ v61 then (some true) else ((oI r60.2 x0 7 7 11).bind fun v64 => (if 8 ≤ v64 then (some true) else (some false)))).bind fun q62 => (if q62 = true then (gT r60.2 x0 7 7 (((fX6_need F r60.2 x0 0 4).bind fun r66 => thr r66.1 (fun b66 => some (.inl b66, r66.2)) fun w66 => ((oI r66.2 x0 7 7 10).bind fun v67 => ((pI r66.2 x0 7 7 10 (v67 + 1)).bind fun σ68 => ((oI σ68 x0 7 7 11).bind fun v69 => ((pI σ68 x0 7 7 11 (v69 + 1)).bind fun σ70 => gT σ70 x0 7 7 (((fX6_go F σ70 x0).bind fun r71 => (if r6 = 0 then (if r7 = 0 then (gT r71 x0 7 7 (((fX13_than F r71 x0 r8).bind fun r75 => thr r75.1 (fun b75 => some (.inl b75, r75.2)) fun w75 => ((oI r75.2 x0 7 7 11).bind fun v76 => ((pI r75.2 x0 7 7 11 (v76 - 1)).bind fun σ77 => some (.inr w75, σ77)))))) else (gT r71 x0 7 7 (((fX13_trod F r71 x0).bind fun r78 => thr r78.1 (fun b78 => some (.inl b78, r78.2)) fun w78 => ((oI r78.2 x0 7 7 11).bind fun v79 => ((pI r78.2 x0 7 7 11 (v79 - 1)).bind fun σ80 => some (.inr w78, σ80))))))) else ((nO r71 11 1).bind fun r81 => gT r81.2 x0 7 7 (((rec r81.2 x0).bind fun r82 => thr r82.1 (fun b82 => some (.inl b82, r82.2)) fun w82 => ((fX15_init F r82.2 r81.1 w82).bind fun r83 => ((oI r83 x0 7 7 11).bind fun v84 => ((pI r83 x0 7 7 11 (v84 - 1)).bind fun σ85 => some (.inr r81.1, σ85))))))))))))))))) else (gT r60.2 x0 7 7 (((fX6_need F r60.2 x0 1 4).bind fun r86 => thr r86.1 (fun b86 => some (.inl b86, r86.2)) fun w86 => ((oI r86.2 x0 7 7 10).bind fun v87 => ((pI r86.2 x0 7 7 10 (v87 + 1)).bind fun σ88 => ((oI σ88 x0 7 7 11).bind fun v89 => ((pI σ88 x0 7 7 11 (v89 + 1)).bind fun σ90 => gT σ90 x0 7 7 (((fX6_go F σ90 x0).bind fun r91 => (if r6 = 0 then (if r7 = 0 then (gT r91 x0 7 7 (((fX13_than F r91 x0 r8).bind fun r95 => thr r95.1 (fun b95 => some (.inl b95, r95.2)) fun w95 => ((oI r95.2 x0 7 7 11).bind fun v96 => ((pI r95.2 x0 7 7 11 (v96 - 1)).bind fun σ97 => some (.inr w95, σ97)))))) else (gT r91 x0 7 7 (((fX13_trod F r91 x0).bind fun r98 => thr r98.1 (fun b98 => some (.inl b98, r98.2)) fun w98 => ((oI r98.2 x0 7 7 11).bind fun v99 => ((pI r98.2 x0 7 7 11 (v99 - 1)).bind fun σ100 => some (.inr w98, σ100))))))) else ((nO r91 11 1).bind fun r101 => gT r101.2 x0 7 7 (((rec r101.2 x0).bind fun r102 => thr r102.1 (fun b102 => some (.inl b102, r102.2)) fun w102 => ((fX15_init F r102.2 r101.1 w102).bind fun r103 => ((oI r103 x0 7 7 11).bind fun v104 => ((pI r103 x0 7 7 11 (v104 - 1)).bind fun σ105 => some (.inr r101.1, σ105))))))))))))))))))))))) else (gT h0 x0 7 7 (((fX6_need F h0 x0 1 1).bind fun r106 => thr r106.1 (fun b106 => some (.inl b106, r106.2)) fun w106 => ((oI r106.2 x0 7 7 10).bind fun v107 => ((if 20 ≤ v107 then (some true) else ((oI r106.2 x0 7 7 11).bind fun v110 => (if 8 ≤ v110 then (some true) else (some false)))).bind fun q108 => (if q108 = true then (gT r106.2 x0 7 7 (((fX6_need F r106.2 x0 0 4).bind fun r112 => thr r112.1 (fun b112 => some (.inl b112, r112.2)) fun w112 => ((oI r112.2 x0 7 7 10).bind fun v113 => ((pI r112.2 x0 7 7 10 (v113 + 1)).bind fun σ114 => ((oI σ114 x0 7 7 11).bind fun v115 => ((pI σ114 x0 7 7 11 (v115 + 1)).bind fun σ116 => gT σ116 x0 7 7 (((fX6_go F σ116 x0).bind fun r117 => (if r6 = 0 then (if r7 = 0 then (gT r117 x0 7 7 (((fX13_than F r117 x0 r8).bind fun r121 => thr r121.1 (fun b121 => some (.inl b121, r121.2)) fun w121 => ((oI r121.2 x0 7 7 11).bind fun v122 => ((pI r121.2 x0 7 7 11 (v122 - 1)).bind fun σ123 => some (.inr w121, σ123)))))) else (gT r117 x0 7 7 (((fX13_trod F r117 x0).bind fun r124 => thr r124.1 (fun b124 => some (.inl b124, r124.2)) fun w124 => ((oI r124.2 x0 7 7 11).bind fun v125 => ((pI r124.2 x0 7 7 11 (v125 - 1)).bind fun σ126 => some (.inr w124, σ126))))))) else ((nO r117 11 1).bind fun r127 => gT r127.2 x0 7 7 (((rec r127.2 x0).bind fun r128 => thr r128.1 (fun b128 => some (.inl b128, r128.2)) fun w128 => ((fX15_init F r128.2 r127.1 w128).bind fun r129 => ((oI r129 x0 7 7 11).bind fun v130 => ((pI r129 x0 7 7 11 (v130 - 1)).bind fun σ131 => some (.inr r127.1, σ131))))))))))))))))) else (gT r106.2 x0 7 7 (((fX6_need F r106.2 x0 1 4).bind fun r132 => thr r132.1 (fun b132 => some (.inl b132, r132.2)) fun w132 => ((oI r132.2 x0 7 7 10).bind fun v133 => ((pI r132.2 x0 7 7 10 (v133 + 1)).bind fun σ134 => ((oI σ134 x0 7 7 11).bind fun v135 => ((pI σ134 x0 7 7 11 (v135 + 1)).bind fun σ136 => gT σ136 x0 7 7 (((fX6_go F σ136 x0).bind fun r137 => (if r6 = 0 then (if r7 = 0 then (gT r137 x0 7 7 (((fX13_than F r137 x0 r8).bind fun r141 => thr r141.1 (fun b141 => some (.inl b141, r141.2)) fun w141 => ((oI r141.2 x0 7 7 11).bind fun v142 => ((pI r141.2 x0 7 7 11 (v142 - 1)).bind fun σ143 => some (.inr w141, σ143)))))) else (gT r137 x0 7 7 (((fX13_trod F r137 x0).bind fun r144 => thr r144.1 (fun b144 => some (.inl b144, r144.2)) fun w144 => ((oI r144.2 x0 7 7 11).bind fun v145 => ((pI r144.2 x0 7 7 11 (v145 - 1)).bind fun σ146 => some (.inr w144, σ146))))))) else ((nO r137 11 1).bind fun r147 => gT r147.2 x0 7 7 (((rec r147.2 x0).bind fun r148 => thr r148.1 (fun b148 => some (.inl b148, r148.2)) fun w148 => ((fX15_init F r148.2 r147.1 w148).bind fun r149 => ((oI r149 x0 7 7 11).bind fun v150 => ((pI r149 x0 7 7 11 (v150 - 1)).bind fun σ151 => some (.inr r147.1, σ151))))))))))))))))))))))))))))))))) else (gT h0 x0 7 7 (((fX6_is F h0 x0 (kG h0 20)).bind fun r152 => gT h0 x0 7 7 (((fX6_is F h0 x0 (kG h0 21)).bind fun r153 => gT h0 x0 7 7 (((fX13_numbered F h0 x0).bind fun r154 => gT h0 x0 7 7 (((fX6_need F h0 x0 1 1).bind fun r156 => thr r156.1 (fun b156 => some (.inl b156, r156.2)) fun w156 => ((oI r156.2 x0 7 7 10).bind fun v157 => ((if 20 ≤ v157 then (some true) else ((oI r156.2 x0 7 7 11).bind fun v160 => (if 8 ≤ v160 then (some true) else (some false)))).bind fun q158 => (if q158 = true then (gT r156.2 x0 7 7 (((fX6_need F r156.2 x0 0 4).bind fun r162 => thr r162.1 (fun b162 => some (.inl b162, r162.2)) fun w162 => ((oI r162.2 x0 7 7 10).bind fun v163 => ((pI r162.2 x0 7 7 10 (v163 + 1)).bind fun σ164 => ((oI σ164 x0 7 7 11).bind fun v165 => ((pI σ164 x0 7 7 11 (v165 + 1)).bind fun σ166 => gT σ166 x0 7 7 (((fX6_go F σ166 x0).bind fun r167 => gT r167 x0 7 7 (((fX13_bracket F rec r167 x0).bind fun r169 => thr r169.1 (fun b169 => some (.inl b169, r169.2)) fun w169 => ((oI r169.2 x0 7 7 11).bind fun v170 => ((pI r169.2 x0 7 7 11 (v170 - 1)).bind fun σ171 => some (.inr w169, σ171)))))))))))))) else (gT r156.2 x0 7 7 (((fX6_need F r156.2 x0 1 4).bind fun r172 => thr r172.1 (fun b172 => some (.inl b172, r172.2)) fun w172 => ((oI r172.2 x0 7 7 10).bind fun v173 => ((pI r172.2 x0 7 7 10 (v173 + 1)).bind fun σ174 => ((oI σ174 x0 7 7 11).bind fun v175 => ((pI σ174 x0 7 7 11 (v175 + 1)).bind fun σ176 => gT σ176 x0 7 7 (((fX6_go F σ176 x0).bind fun r177 => gT r177 x0 7 7 (((fX13_bracket F rec r177 x0).bind fun r179 => thr r179.1 (fun b179 => some (.inl b179, r179.2)) fun w179 => ((oI r179.2 x0 7 7 11).bind fun v180 => ((pI r179.2 x0 7 7 11 (v180 - 1)).bind fun σ181 => some (.inr w179, σ181)))))))))))))))))))))))))))))
set_option maxHeartbeats 4000000 in
set_option maxRecDepth 100000 in
theorem metX13_one (l : Launch) [NoTr l] (F : Nat) (D : va_G) (RF RL : Nat) (rec : HS → Nat → Option ((Nat ⊕ Nat) × HS)) (hrec : RecOne l D RF RL rec) (h0 : HS) (x0 : Nat) (r : (Nat ⊕ Nat) × HS) (hF : fX13_one F rec h0 x0 = some r) : CMet l yX13_one (ws_ yX13_one cX13_one 6 (some (.object "RugReader$Cond"))) (RF + 13) (RL + 311) D [.ref x0] h0 r.2 (xr r.1) := by
  refine CMet.ofW (by decide) ?_
  intro p e s m below meth c s₁ B S hX hM hr hlocks hnt hin
  obtain ⟨hx, hb, hml, hown, hts⟩ := id S
  have hl := lv_entry ([.ref x0]) (n := 6) (Nat.le_of_ble_eq_true rfl)
  rw [lg_entry_eq]
  generalize (lg_sl ([.ref x0]) ++ List.replicate (6 - (lg_sl ([.ref x0])).length) Slot.unset).toArray = ls at hl ⊢
  have hl : lv_has ls 6 [(0, .ref x0)] := hl
  unfold fX13_one at hF
  refine lv_aload_n hx hb dX13_one_0 rfl (lv_at hl 0 rfl) ?_
  obtain ⟨v1, ev1, hF⟩ := obn hF
  refine cgi S hX hM ev1 ck_7_7_4 q462 (u_same (hts _ q463)) dX13_one_1 ?_
  refine lv_bipush (v := 6) hx hb dX13_one_4 rfl ?_
  obtain ⟨q2, hq2, hF⟩ := obn hF
  refine cjnc (C := q2 = true) (I := HI D h0 h0 s.heap) (nJ := 6) (lvJ := [(0, .ref x0)]) (J := 22) (stJ := []) ?_ ?_
  · intro cq2 H locs cs ss ls hM hl
    have hF := ifp hF cq2
    refine lv_iconst (v := 0) hx hb dX13_one_22 rfl ?_
    refine lv_istore_n (lv' := [(1, .int 0), (0, .ref x0)]) hx hb dX13_one_23 rfl hl (by decide) rfl (fun ls hl => ?_)
    refine lv_aload_n hx hb dX13_one_24 rfl (lv_at hl 1 rfl) ?_
    refine cldc S hM (uq1534 hX) dX13_one_25 ?_
    obtain ⟨z6, hF⟩ := gTe hF
    obtain ⟨r6, er6, hF⟩ := obn hF
    refine ccr (rest := []) (st1 := [.int r6]) S hX hM (metX6_is l F D h0 x0 (kG h0 20) r6 er6) (ci_U (C := "RugReader$SentenceReader") (As := [.ref (kG h0 20)]) (rest := []) S q1535 q1536 rfl q714 q1537 q715 hyX6_is (HI.cell (ci := 6) hX hM (by decide) (by omega)) hlX6_is rfl dX13_one_27) q715 q112 (by omega) (by omega) hl.1 (Nat.le_of_ble_eq_true rfl) rfl (fun H locs cs ss hM => ?_)
    refine lv_istore_n (lv' := [(2, .int r6), (1, .int 0), (0, .ref x0)]) hx hb dX13_one_30 rfl hl (by decide) rfl (fun ls hl => ?_)
    refine lv_aload_n hx hb dX13_one_31 rfl (lv_at hl 2 rfl) ?_
    refine cldc S hM (uq1538 hX) dX13_one_32 ?_
    obtain ⟨z7, hF⟩ := gTe hF
    obtain ⟨r7, er7, hF⟩ := obn hF
    refine ccr (rest := []) (st1 := [.int r7]) S hX hM (metX6_is l F D h0 x0 (kG h0 21) r7 er7) (ci_U (C := "RugReader$SentenceReader") (As := [.ref (kG h0 21)]) (rest := []) S q1535 q1536 rfl q714 q1537 q715 hyX6_is (HI.cell (ci := 6) hX hM (by decide) (by omega)) hlX6_is rfl dX13_one_34) q715 q112 (by omega) (by omega) hl.1 (Nat.le_of_ble_eq_true rfl) rfl (fun H locs cs ss hM => ?_)
    refine lv_istore_n (lv' := [(3, .int r7), (2, .int r6), (1, .int 0), (0, .ref x0)]) hx hb dX13_one_37 rfl hl (by decide) rfl (fun ls hl => ?_)
    refine lv_aload_n hx hb dX13_one_38 rfl (lv_at hl 3 rfl) ?_
    obtain ⟨z8, hF⟩ := gTe hF
    obtain ⟨r8, er8, hF⟩ := obn hF
    refine ccr (rest := []) (st1 := [.int r8]) S hX hM (metX13_numbered l F D h0 x0 r8 er8) (ci_V (C := "RugReader$SentenceReader") (As := []) (rest := []) S q1539 q1541 qs40 q1542 hyX13_numbered (HI.cell (ci := 6) hX hM (by decide) (by omega)) hlX13_numbered rfl dX13_one_39) q1542 q136 (by omega) (by omega) hl.1 (Nat.le_of_ble_eq_true rfl) rfl (fun H locs cs ss hM => ?_)
    refine lv_istore (lv' := [(4, .int r8), (3, .int r7), (2, .int r6), (1, .int 0), (0, .ref x0)]) hx hb dX13_one_42 hl (by decide) rfl (fun ls hl => ?_)
    refine lv_aload_n hx hb dX13_one_44 rfl (lv_at hl 4 rfl) ?_
    refine lv_iload_n hx hb dX13_one_45 rfl (lv_at hl 3 rfl) ?_
    refine lv_if_ne (tgt := 63) hx hb dX13_one_46 (by decide) (fun c9 => ?_) (fun c9 => ?_)
    · exact absurd c9 (by decide)
    · refine lv_iload_n hx hb dX13_one_49 rfl (lv_at hl 2 rfl) ?_
      obtain ⟨q10, hq10, hF⟩ := lte hF
      refine cjnc (C := q10 = true) (I := HI D h0 h0 s.heap) (nJ := 6) (lvJ := [(0, .ref x0), (1, .int 0), (2, .int r6), (3, .int r7), (4, .int r8)]) (J := 63) (stJ := [.ref x0]) ?_ ?_
      · intro cq10 H locs cs ss ls hM hl
        have hF := ifp hF cq10
        refine lv_iconst (v := 1) hx hb dX13_one_63 rfl ?_
        refine lv_goto (tgt := 68) hx hb dX13_one_64 (by decide) ?_
        refine lv_iconst (v := 1) hx hb dX13_one_68 rfl ?_
        obtain ⟨z13, hF⟩ := gTe hF
        obtain ⟨r13, er13, hF⟩ := obn hF
        refine cctv (rest := []) S hX hM (metX6_need l F D h0 x0 1 1 r13 er13) (ci_U (C := "RugReader$SentenceReader") (As := [.int 1, .int 1]) (rest := []) S q1549 q1550 rfl q739 q1551 q740 hyX6_need (HI.cell (ci := 6) hX hM (by decide) (by omega)) hlX6_need rfl dX13_one_69) q740 q112 (by omega) (by omega) hl.1 (Nat.le_of_ble_eq_true rfl) (fun w13 ew13 H locs cs ss hM => ?_) (fun b13 eb13 H locs cs ss hM => ?_)
        · have hF := thr_r hF ew13
          refine lv_aload_n hx hb dX13_one_72 rfl (lv_at hl 0 rfl) ?_
          refine lv_aload_n hx hb dX13_one_73 rfl (lv_at hl 0 rfl) ?_
          obtain ⟨v14, ev14, hF⟩ := obn hF
          refine cgi S hX hM ev14 ck_7_7_10 q1496 (fun _ h => h) dX13_one_74 ?_
          refine lv_bipush (v := 20) hx hb dX13_one_77 rfl ?_
          obtain ⟨q15, hq15, hF⟩ := obn hF
          refine cjnc (C := q15 = true) (I := HI D h0 r13.2 s.heap) (nJ := 6) (lvJ := [(0, .ref x0), (1, .int 0), (2, .int r6), (3, .int r7), (4, .int r8)]) (J := 95) (stJ := [.ref x0]) ?_ ?_
          · intro cq15 H locs cs ss ls hM hl
            have hF := ifp hF cq15
            refine lv_iconst (v := 0) hx hb dX13_one_95 rfl ?_
            refine lv_iconst (v := 4) hx hb dX13_one_96 rfl ?_
            obtain ⟨z19, hF⟩ := gTe hF
            obtain ⟨r19, er19, hF⟩ := obn hF
            refine cctv (rest := []) S hX hM (metX6_need l F D r13.2 x0 0 4 r19 er19) (ci_U (C := "RugReader$SentenceReader") (As := [.int 0, .int 4]) (rest := []) S q1549 q1550 rfl q739 q1551 q740 hyX6_need (HI.cell (ci := 6) hX hM (by decide) (by omega)) hlX6_need rfl dX13_one_97) q740 q112 (by omega) (by omega) hl.1 (Nat.le_of_ble_eq_true rfl) (fun w19 ew19 H locs cs ss hM => ?_) (fun b19 eb19 H locs cs ss hM => ?_)
            · have hF := thr_r hF ew19
              refine lv_aload_n hx hb dX13_one_100 rfl (lv_at hl 0 rfl) ?_
              refine lv_dup hx hb dX13_one_101 rfl ?_
              obtain ⟨v20, ev20, hF⟩ := obn hF
              refine cgi S hX hM ev20 ck_7_7_10 q1496 (fun _ h => h) dX13_one_102 ?_
              refine lv_iconst (v := 1) hx hb dX13_one_105 rfl ?_
              refine lv_iadd hx hb dX13_one_106 ?_
              obtain ⟨σ21, eσ21, hF⟩ := obn hF
              refine cpi S hX hM eσ21 ck_7_7_10 cw_7_7_10 rfl rfl q1496 (fun _ h => h) dX13_one_107 (fun H locs hM => ?_)
              refine lv_aload_n hx hb dX13_one_110 rfl (lv_at hl 0 rfl) ?_
              refine lv_dup hx hb dX13_one_111 rfl ?_
              obtain ⟨v22, ev22, hF⟩ := obn hF
              refine cgi S hX hM ev22 ck_7_7_11 q1498 (fun _ h => h) dX13_one_112 ?_
              refine lv_iconst (v := 1) hx hb dX13_one_115 rfl ?_
              refine lv_iadd hx hb dX13_one_116 ?_
              obtain ⟨σ23, eσ23, hF⟩ := obn hF
              refine cpi S hX hM eσ23 ck_7_7_11 cw_7_7_11 rfl rfl q1498 (fun _ h => h) dX13_one_117 (fun H locs hM => ?_)
              refine lv_aload_n hx hb dX13_one_120 rfl (lv_at hl 0 rfl) ?_
              obtain ⟨z24, hF⟩ := gTe hF
              obtain ⟨r24, er24, hF⟩ := obn hF
              refine ccr (rest := []) (st1 := []) S hX hM (metX6_go l F D σ23 x0 r24 er24) (ci_U (C := "RugReader$SentenceReader") (As := []) (rest := []) S q1519 q1520 rfl q506 q1521 q507 hyX6_go (HI.cell (ci := 6) hX hM (by decide) (by omega)) hlX6_go rfl dX13_one_121) q507 q112 (by omega) (by omega) hl.1 (Nat.le_of_ble_eq_true rfl) rfl (fun H locs cs ss hM => ?_)
              refine lv_iload_n hx hb dX13_one_124 rfl (lv_at hl 1 rfl) ?_
              refine lv_if_eq (tgt := 135) hx hb dX13_one_125 (by decide) (fun c25 => ?_) (fun c25 => ?_)
              · refine lv_iload_n hx hb dX13_one_135 rfl (lv_at hl 2 rfl) ?_
                refine lv_if_eq (tgt := 153) hx hb dX13_one_136 (by decide) (fun c26 => ?_) (fun c26 => ?_)
                · have hF := ifp hF c26
                  refine lv_iload_n hx hb dX13_one_153 rfl (lv_at hl 3 rfl) ?_
                  refine lv_if_eq (tgt := 164) hx hb dX13_one_154 (by decide) (fun c27 => ?_) (fun c27 => ?_)
                  · have hF := ifp hF c27
                    refine lv_aload_n hx hb dX13_one_164 rfl (lv_at hl 0 rfl) ?_
                    refine lv_iload hx hb dX13_one_165 (lv_at hl 4 rfl) ?_
                    obtain ⟨z28, hF⟩ := gTe hF
                    obtain ⟨r28, er28, hF⟩ := obn hF
                    refine cctr (rest := []) S hX hM (metX13_than l F D r24 x0 r8 r28 er28) (ci_V (C := "RugReader$SentenceReader") (As := [.int r8]) (rest := []) S q1586 q1588 qs43 q1589 hyX13_than (HI.cell (ci := 6) hX hM (by decide) (by omega)) hlX13_than rfl dX13_one_167) q1589 q136 (by omega) (by omega) hl.1 (Nat.le_of_ble_eq_true rfl) (fun w28 ew28 H locs cs ss hM => ?_) (fun b28 eb28 H locs cs ss hM => ?_)
                    · have hF := thr_r hF ew28
                      refine lv_astore (lv' := [(5, .ref w28), (0, .ref x0), (1, .int 0), (2, .int r6), (3, .int r7), (4, .int r8)]) hx hb dX13_one_170 hl (by decide) rfl (fun ls hl => ?_)
                      refine lv_aload_n hx hb dX13_one_172 rfl (lv_at hl 1 rfl) ?_
                      refine lv_dup hx hb dX13_one_173 rfl ?_
                      obtain ⟨v29, ev29, hF⟩ := obn hF
                      refine cgi S hX hM ev29 ck_7_7_11 q1498 (fun _ h => h) dX13_one_174 ?_
                      refine lv_iconst (v := 1) hx hb dX13_one_177 rfl ?_
                      refine lv_isub hx hb dX13_one_178 ?_
                      obtain ⟨σ30, eσ30, hF⟩ := obn hF
                      refine cpi S hX hM eσ30 ck_7_7_11 cw_7_7_11 rfl rfl q1498 (fun _ h => h) dX13_one_179 (fun H locs hM => ?_)
                      refine lv_aload hx hb dX13_one_182 (lv_at hl 0 rfl) ?_
                      have hz := (Option.some.inj hF)
                      subst hz
                      exact cra S hM hr (Or.inl ⟨_, rfl⟩) hlocks dX13_one_184
                    · have hF := thr_q hF eb28
                      have hz := (Option.some.inj hF)
                      subst hz
                      exact cxout hM (fun x hx => (hnt x hx).elim) hlocks
                  · have hF := ifn hF c27
                    refine lv_aload_n hx hb dX13_one_157 rfl (lv_at hl 0 rfl) ?_
                    obtain ⟨z31, hF⟩ := gTe hF
                    obtain ⟨r31, er31, hF⟩ := obn hF
                    refine cctr (rest := []) S hX hM (metX13_trod l F D r24 x0 r31 er31) (ci_V (C := "RugReader$SentenceReader") (As := []) (rest := []) S q1569 q1571 qs42 q1572 hyX13_trod (HI.cell (ci := 6) hX hM (by decide) (by omega)) hlX13_trod rfl dX13_one_158) q1572 q136 (by omega) (by omega) hl.1 (Nat.le_of_ble_eq_true rfl) (fun w31 ew31 H locs cs ss hM => ?_) (fun b31 eb31 H locs cs ss hM => ?_)
                    · have hF := thr_r hF ew31
                      refine lv_goto (tgt := 170) hx hb dX13_one_161 (by decide) ?_
                      refine lv_astore (lv' := [(5, .ref w31), (0, .ref x0), (1, .int 0), (2, .int r6), (3, .int r7), (4, .int r8)]) hx hb dX13_one_170 hl (by decide) rfl (fun ls hl => ?_)
                      refine lv_aload_n hx hb dX13_one_172 rfl (lv_at hl 1 rfl) ?_
                      refine lv_dup hx hb dX13_one_173 rfl ?_
                      obtain ⟨v32, ev32, hF⟩ := obn hF
                      refine cgi S hX hM ev32 ck_7_7_11 q1498 (fun _ h => h) dX13_one_174 ?_
                      refine lv_iconst (v := 1) hx hb dX13_one_177 rfl ?_
                      refine lv_isub hx hb dX13_one_178 ?_
                      obtain ⟨σ33, eσ33, hF⟩ := obn hF
                      refine cpi S hX hM eσ33 ck_7_7_11 cw_7_7_11 rfl rfl q1498 (fun _ h => h) dX13_one_179 (fun H locs hM => ?_)
                      refine lv_aload hx hb dX13_one_182 (lv_at hl 0 rfl) ?_
                      have hz := (Option.some.inj hF)
                      subst hz
                      exact cra S hM hr (Or.inl ⟨_, rfl⟩) hlocks dX13_one_184
                    · have hF := thr_q hF eb31
                      have hz := (Option.some.inj hF)
                      subst hz
                      exact cxout hM (fun x hx => (hnt x hx).elim) hlocks
                · have hF := ifn hF c26
                  obtain ⟨r34, er34, hF⟩ := obn hF
                  refine cno (ci := 10) S hX hM er34 (by decide) q1556 q1557 q138 dX13_one_139 (fun H cs ss hM => ?_)
                  refine lv_dup hx hb dX13_one_142 rfl ?_
                  refine lv_aload_n hx hb dX13_one_143 rfl (lv_at hl 0 rfl) ?_
                  obtain ⟨z35, hF⟩ := gTe hF
                  obtain ⟨r35, er35, hF⟩ := obn hF
                  refine cctr (rest := [.ref r34.1, .ref r34.1]) S hX hM (hrec r34.2 x0 r35 er35) (ci_V (C := "RugReader$SentenceReader") (As := []) (rest := [.ref r34.1, .ref r34.1]) S q1530 q1532 qs39 q1533 hyX13_one (HI.cell (ci := 6) hX hM (by decide) (by omega)) hlX13_one rfl dX13_one_144) q1533 q136 (by omega) (by omega) hl.1 (Nat.le_of_ble_eq_true rfl) (fun w35 ew35 H locs cs ss hM => ?_) (fun b35 eb35 H locs cs ss hM => ?_)
                  · have hF := thr_r hF ew35
                    obtain ⟨r36, er36, hF⟩ := obn hF
                    refine ccr (rest := [.ref r34.1]) (st1 := [.ref r34.1]) S hX hM (metX15_init l F D r35.2 r34.1 w35 r36 er36) (ci_I (As := [.ref w35]) (rest := [.ref r34.1]) S rfl q1558 q1559 q1560 hyX15_init hlX15_init rfl dX13_one_147) q1560 q138 (by omega) (by omega) hl.1 (Nat.le_of_ble_eq_true rfl) rfl (fun H locs cs ss hM => ?_)
                    refine lv_goto (tgt := 170) hx hb dX13_one_150 (by decide) ?_
                    refine lv_astore (lv' := [(5, .ref r34.1), (0, .ref x0), (1, .int 0), (2, .int r6), (3, .int r7), (4, .int r8)]) hx hb dX13_one_170 hl (by decide) rfl (fun ls hl => ?_)
                    refine lv_aload_n hx hb dX13_one_172 rfl (lv_at hl 1 rfl) ?_
                    refine lv_dup hx hb dX13_one_173 rfl ?_
                    obtain ⟨v37, ev37, hF⟩ := obn hF
                    refine cgi S hX hM ev37 ck_7_7_11 q1498 (fun _ h => h) dX13_one_174 ?_
                    refine lv_iconst (v := 1) hx hb dX13_one_177 rfl ?_
                    refine lv_isub hx hb dX13_one_178 ?_
                    obtain ⟨σ38, eσ38, hF⟩ := obn hF
                    refine cpi S hX hM eσ38 ck_7_7_11 cw_7_7_11 rfl rfl q1498 (fun _ h => h) dX13_one_179 (fun H locs hM => ?_)
                    refine lv_aload hx hb dX13_one_182 (lv_at hl 0 rfl) ?_
                    have hz := (Option.some.inj hF)
                    subst hz
                    exact cra S hM hr (Or.inl ⟨_, rfl⟩) hlocks dX13_one_184
                  · have hF := thr_q hF eb35
                    have hz := (Option.some.inj hF)
                    subst hz
                    exact cxout hM (fun x hx => (hnt x hx).elim) hlocks
              · exact absurd c25 (by decide)
            · have hF := thr_q hF eb19
              have hz := (Option.some.inj hF)
              subst hz
              exact cxout hM (fun x hx => (hnt x hx).elim) hlocks
          · intro hAq15
            refine cjnc (C := q15 = false) (I := HI D h0 r13.2 s.heap) (nJ := 6) (lvJ := [(0, .ref x0), (1, .int 0), (2, .int r6), (3, .int r7), (4, .int r8)]) (J := 91) (stJ := [.ref x0]) ?_ ?_
            · intro cq15 H locs cs ss ls hM hl
              have hF := ifn hF (by rw [cq15]; decide)
              refine lv_iconst (v := 1) hx hb dX13_one_91 rfl ?_
              refine lv_goto (tgt := 96) hx hb dX13_one_92 (by decide) ?_
              refine lv_iconst (v := 4) hx hb dX13_one_96 rfl ?_
              obtain ⟨z39, hF⟩ := gTe hF
              obtain ⟨r39, er39, hF⟩ := obn hF
              refine cctv (rest := []) S hX hM (metX6_need l F D r13.2 x0 1 4 r39 er39) (ci_U (C := "RugReader$SentenceReader") (As := [.int 1, .int 4]) (rest := []) S q1549 q1550 rfl q739 q1551 q740 hyX6_need (HI.cell (ci := 6) hX hM (by decide) (by omega)) hlX6_need rfl dX13_one_97) q740 q112 (by omega) (by omega) hl.1 (Nat.le_of_ble_eq_true rfl) (fun w39 ew39 H locs cs ss hM => ?_) (fun b39 eb39 H locs cs ss hM => ?_)
              · have hF := thr_r hF ew39
                refine lv_aload_n hx hb dX13_one_100 rfl (lv_at hl 0 rfl) ?_
                refine lv_dup hx hb dX13_one_101 rfl ?_
                obtain ⟨v40, ev40, hF⟩ := obn hF
                refine cgi S hX hM ev40 ck_7_7_10 q1496 (fun _ h => h) dX13_one_102 ?_
                refine lv_iconst (v := 1) hx hb dX13_one_105 rfl ?_
                refine lv_iadd hx hb dX13_one_106 ?_
                obtain ⟨σ41, eσ41, hF⟩ := obn hF
                refine cpi S hX hM eσ41 ck_7_7_10 cw_7_7_10 rfl rfl q1496 (fun _ h => h) dX13_one_107 (fun H locs hM => ?_)
                refine lv_aload_n hx hb dX13_one_110 rfl (lv_at hl 0 rfl) ?_
                refine lv_dup hx hb dX13_one_111 rfl ?_
                obtain ⟨v42, ev42, hF⟩ := obn hF
                refine cgi S hX hM ev42 ck_7_7_11 q1498 (fun _ h => h) dX13_one_112 ?_
                refine lv_iconst (v := 1) hx hb dX13_one_115 rfl ?_
                refine lv_iadd hx hb dX13_one_116 ?_
                obtain ⟨σ43, eσ43, hF⟩ := obn hF
                refine cpi S hX hM eσ43 ck_7_7_11 cw_7_7_11 rfl rfl q1498 (fun _ h => h) dX13_one_117 (fun H locs hM => ?_)
                refine lv_aload_n hx hb dX13_one_120 rfl (lv_at hl 0 rfl) ?_
                obtain ⟨z44, hF⟩ := gTe hF
                obtain ⟨r44, er44, hF⟩ := obn hF
                refine ccr (rest := []) (st1 := []) S hX hM (metX6_go l F D σ43 x0 r44 er44) (ci_U (C := "RugReader$SentenceReader") (As := []) (rest := []) S q1519 q1520 rfl q506 q1521 q507 hyX6_go (HI.cell (ci := 6) hX hM (by decide) (by omega)) hlX6_go rfl dX13_one_121) q507 q112 (by omega) (by omega) hl.1 (Nat.le_of_ble_eq_true rfl) rfl (fun H locs cs ss hM => ?_)
                refine lv_iload_n hx hb dX13_one_124 rfl (lv_at hl 1 rfl) ?_
                refine lv_if_eq (tgt := 135) hx hb dX13_one_125 (by decide) (fun c45 => ?_) (fun c45 => ?_)
                · refine lv_iload_n hx hb dX13_one_135 rfl (lv_at hl 2 rfl) ?_
                  refine lv_if_eq (tgt := 153) hx hb dX13_one_136 (by decide) (fun c46 => ?_) (fun c46 => ?_)
                  · have hF := ifp hF c46
                    refine lv_iload_n hx hb dX13_one_153 rfl (lv_at hl 3 rfl) ?_
                    refine lv_if_eq (tgt := 164) hx hb dX13_one_154 (by decide) (fun c47 => ?_) (fun c47 => ?_)
                    · have hF := ifp hF c47
                      refine lv_aload_n hx hb dX13_one_164 rfl (lv_at hl 0 rfl) ?_
                      refine lv_iload hx hb dX13_one_165 (lv_at hl 4 rfl) ?_
                      obtain ⟨z48, hF⟩ := gTe hF
                      obtain ⟨r48, er48, hF⟩ := obn hF
                      refine cctr (rest := []) S hX hM (metX13_than l F D r44 x0 r8 r48 er48) (ci_V (C := "RugReader$SentenceReader") (As := [.int r8]) (rest := []) S q1586 q1588 qs43 q1589 hyX13_than (HI.cell (ci := 6) hX hM (by decide) (by omega)) hlX13_than rfl dX13_one_167) q1589 q136 (by omega) (by omega) hl.1 (Nat.le_of_ble_eq_true rfl) (fun w48 ew48 H locs cs ss hM => ?_) (fun b48 eb48 H locs cs ss hM => ?_)
                      · have hF := thr_r hF ew48
                        refine lv_astore (lv' := [(5, .ref w48), (0, .ref x0), (1, .int 0), (2, .int r6), (3, .int r7), (4, .int r8)]) hx hb dX13_one_170 hl (by decide) rfl (fun ls hl => ?_)
                        refine lv_aload_n hx hb dX13_one_172 rfl (lv_at hl 1 rfl) ?_
                        refine lv_dup hx hb dX13_one_173 rfl ?_
                        obtain ⟨v49, ev49, hF⟩ := obn hF
                        refine cgi S hX hM ev49 ck_7_7_11 q1498 (fun _ h => h) dX13_one_174 ?_
                        refine lv_iconst (v := 1) hx hb dX13_one_177 rfl ?_
                        refine lv_isub hx hb dX13_one_178 ?_
                        obtain ⟨σ50, eσ50, hF⟩ := obn hF
                        refine cpi S hX hM eσ50 ck_7_7_11 cw_7_7_11 rfl rfl q1498 (fun _ h => h) dX13_one_179 (fun H locs hM => ?_)
                        refine lv_aload hx hb dX13_one_182 (lv_at hl 0 rfl) ?_
                        have hz := (Option.some.inj hF)
                        subst hz
                        exact cra S hM hr (Or.inl ⟨_, rfl⟩) hlocks dX13_one_184
                      · have hF := thr_q hF eb48
                        have hz := (Option.some.inj hF)
                        subst hz
                        exact cxout hM (fun x hx => (hnt x hx).elim) hlocks
                    · have hF := ifn hF c47
                      refine lv_aload_n hx hb dX13_one_157 rfl (lv_at hl 0 rfl) ?_
                      obtain ⟨z51, hF⟩ := gTe hF
                      obtain ⟨r51, er51, hF⟩ := obn hF
                      refine cctr (rest := []) S hX hM (metX13_trod l F D r44 x0 r51 er51) (ci_V (C := "RugReader$SentenceReader") (As := []) (rest := []) S q1569 q1571 qs42 q1572 hyX13_trod (HI.cell (ci := 6) hX hM (by decide) (by omega)) hlX13_trod rfl dX13_one_158) q1572 q136 (by omega) (by omega) hl.1 (Nat.le_of_ble_eq_true rfl) (fun w51 ew51 H locs cs ss hM => ?_) (fun b51 eb51 H locs cs ss hM => ?_)
                      · have hF := thr_r hF ew51
                        refine lv_goto (tgt := 170) hx hb dX13_one_161 (by decide) ?_
                        refine lv_astore (lv' := [(5, .ref w51), (0, .ref x0), (1, .int 0), (2, .int r6), (3, .int r7), (4, .int r8)]) hx hb dX13_one_170 hl (by decide) rfl (fun ls hl => ?_)
                        refine lv_aload_n hx hb dX13_one_172 rfl (lv_at hl 1 rfl) ?_
                        refine lv_dup hx hb dX13_one_173 rfl ?_
                        obtain ⟨v52, ev52, hF⟩ := obn hF
                        refine cgi S hX hM ev52 ck_7_7_11 q1498 (fun _ h => h) dX13_one_174 ?_
                        refine lv_iconst (v := 1) hx hb dX13_one_177 rfl ?_
                        refine lv_isub hx hb dX13_one_178 ?_
                        obtain ⟨σ53, eσ53, hF⟩ := obn hF
                        refine cpi S hX hM eσ53 ck_7_7_11 cw_7_7_11 rfl rfl q1498 (fun _ h => h) dX13_one_179 (fun H locs hM => ?_)
                        refine lv_aload hx hb dX13_one_182 (lv_at hl 0 rfl) ?_
                        have hz := (Option.some.inj hF)
                        subst hz
                        exact cra S hM hr (Or.inl ⟨_, rfl⟩) hlocks dX13_one_184
                      · have hF := thr_q hF eb51
                        have hz := (Option.some.inj hF)
                        subst hz
                        exact cxout hM (fun x hx => (hnt x hx).elim) hlocks
                  · have hF := ifn hF c46
                    obtain ⟨r54, er54, hF⟩ := obn hF
                    refine cno (ci := 10) S hX hM er54 (by decide) q1556 q1557 q138 dX13_one_139 (fun H cs ss hM => ?_)
                    refine lv_dup hx hb dX13_one_142 rfl ?_
                    refine lv_aload_n hx hb dX13_one_143 rfl (lv_at hl 0 rfl) ?_
                    obtain ⟨z55, hF⟩ := gTe hF
                    obtain ⟨r55, er55, hF⟩ := obn hF
                    refine cctr (rest := [.ref r54.1, .ref r54.1]) S hX hM (hrec r54.2 x0 r55 er55) (ci_V (C := "RugReader$SentenceReader") (As := []) (rest := [.ref r54.1, .ref r54.1]) S q1530 q1532 qs39 q1533 hyX13_one (HI.cell (ci := 6) hX hM (by decide) (by omega)) hlX13_one rfl dX13_one_144) q1533 q136 (by omega) (by omega) hl.1 (Nat.le_of_ble_eq_true rfl) (fun w55 ew55 H locs cs ss hM => ?_) (fun b55 eb55 H locs cs ss hM => ?_)
                    · have hF := thr_r hF ew55
                      obtain ⟨r56, er56, hF⟩ := obn hF
                      refine ccr (rest := [.ref r54.1]) (st1 := [.ref r54.1]) S hX hM (metX15_init l F D r55.2 r54.1 w55 r56 er56) (ci_I (As := [.ref w55]) (rest := [.ref r54.1]) S rfl q1558 q1559 q1560 hyX15_init hlX15_init rfl dX13_one_147) q1560 q138 (by omega) (by omega) hl.1 (Nat.le_of_ble_eq_true rfl) rfl (fun H locs cs ss hM => ?_)
                      refine lv_goto (tgt := 170) hx hb dX13_one_150 (by decide) ?_
                      refine lv_astore (lv' := [(5, .ref r54.1), (0, .ref x0), (1, .int 0), (2, .int r6), (3, .int r7), (4, .int r8)]) hx hb dX13_one_170 hl (by decide) rfl (fun ls hl => ?_)
                      refine lv_aload_n hx hb dX13_one_172 rfl (lv_at hl 1 rfl) ?_
                      refine lv_dup hx hb dX13_one_173 rfl ?_
                      obtain ⟨v57, ev57, hF⟩ := obn hF
                      refine cgi S hX hM ev57 ck_7_7_11 q1498 (fun _ h => h) dX13_one_174 ?_
                      refine lv_iconst (v := 1) hx hb dX13_one_177 rfl ?_
                      refine lv_isub hx hb dX13_one_178 ?_
                      obtain ⟨σ58, eσ58, hF⟩ := obn hF
                      refine cpi S hX hM eσ58 ck_7_7_11 cw_7_7_11 rfl rfl q1498 (fun _ h => h) dX13_one_179 (fun H locs hM => ?_)
                      refine lv_aload hx hb dX13_one_182 (lv_at hl 0 rfl) ?_
                      have hz := (Option.some.inj hF)
                      subst hz
                      exact cra S hM hr (Or.inl ⟨_, rfl⟩) hlocks dX13_one_184
                    · have hF := thr_q hF eb55
                      have hz := (Option.some.inj hF)
                      subst hz
                      exact cxout hM (fun x hx => (hnt x hx).elim) hlocks
                · exact absurd c45 (by decide)
              · have hF := thr_q hF eb39
                have hz := (Option.some.inj hF)
                subst hz
                exact cxout hM (fun x hx => (hnt x hx).elim) hlocks
            · intro hBq15
              refine lv_icmp_ge (tgt := 95) hx hb dX13_one_79 (by decide) (fun c16 => ?_) (fun c16 => ?_)
              · have hq15 := ifp hq15 c16
                cases hq15
                exact hAq15 rfl _ _ _ _ _ hM (lv_sub hl [0, 1, 2, 3, 4] rfl)
              · have hq15 := ifn hq15 c16
                refine lv_aload_n hx hb dX13_one_82 rfl (lv_at hl 0 rfl) ?_
                obtain ⟨v17, ev17, hq15⟩ := obn hq15
                refine cgi S hX hM ev17 ck_7_7_11 q1498 (fun _ h => h) dX13_one_83 ?_
                refine lv_bipush (v := 8) hx hb dX13_one_86 rfl ?_
                refine lv_icmp_ge (tgt := 95) hx hb dX13_one_88 (by decide) (fun c18 => ?_) (fun c18 => ?_)
                · have hq15 := ifp hq15 c18
                  cases hq15
                  exact hAq15 rfl _ _ _ _ _ hM (lv_sub hl [0, 1, 2, 3, 4] rfl)
                · have hq15 := ifn hq15 c18
                  cases hq15
                  exact hBq15 rfl _ _ _ _ _ hM (lv_sub hl [0, 1, 2, 3, 4] rfl)
        · have hF := thr_q hF eb13
          have hz := (Option.some.inj hF)
          subst hz
          exact cxout hM (fun x hx => (hnt x hx).elim) hlocks
      · intro hAq10
        refine cjnc (C := q10 = false) (I := HI D h0 h0 s.heap) (nJ := 6) (lvJ := [(0, .ref x0), (1, .int 0), (2, .int r6), (3, .int r7), (4, .int r8)]) (J := 57) (stJ := [.ref x0]) ?_ ?_
        · intro cq10 H locs cs ss ls hM hl
          have hF := ifn hF (by rw [cq10]; decide)
          refine lv_iload hx hb dX13_one_57 (lv_at hl 4 rfl) ?_
          refine lv_iconst (v := (-1)) hx hb dX13_one_59 rfl ?_
          refine lv_icmp_eq (tgt := 67) hx hb dX13_one_60 (by decide) (fun c59 => ?_) (fun c59 => ?_)
          · have hF := ifp hF c59
            refine lv_iconst (v := 0) hx hb dX13_one_67 rfl ?_
            refine lv_iconst (v := 1) hx hb dX13_one_68 rfl ?_
            obtain ⟨z60, hF⟩ := gTe hF
            obtain ⟨r60, er60, hF⟩ := obn hF
            refine cctv (rest := []) S hX hM (metX6_need l F D h0 x0 0 1 r60 er60) (ci_U (C := "RugReader$SentenceReader") (As := [.int 0, .int 1]) (rest := []) S q1549 q1550 rfl q739 q1551 q740 hyX6_need (HI.cell (ci := 6) hX hM (by decide) (by omega)) hlX6_need rfl dX13_one_69) q740 q112 (by omega) (by omega) hl.1 (Nat.le_of_ble_eq_true rfl) (fun w60 ew60 H locs cs ss hM => ?_) (fun b60 eb60 H locs cs ss hM => ?_)
            · have hF := thr_r hF ew60
              refine lv_aload_n hx hb dX13_one_72 rfl (lv_at hl 0 rfl) ?_
              refine lv_aload_n hx hb dX13_one_73 rfl (lv_at hl 0 rfl) ?_
              obtain ⟨v61, ev61, hF⟩ := obn hF
              refine cgi S hX hM ev61 ck_7_7_10 q1496 (fun _ h => h) dX13_one_74 ?_
              refine lv_bipush (v := 20) hx hb dX13_one_77 rfl ?_
              obtain ⟨q62, hq62, hF⟩ := obn hF
              refine cjnc (C := q62 = true) (I := HI D h0 r60.2 s.heap) (nJ := 6) (lvJ := [(0, .ref x0), (1, .int 0), (2, .int r6), (3, .int r7), (4, .int r8)]) (J := 95) (stJ := [.ref x0]) ?_ ?_
              · intro cq62 H locs cs ss ls hM hl
                have hF := ifp hF cq62
                refine lv_iconst (v := 0) hx hb dX13_one_95 rfl ?_
                refine lv_iconst (v := 4) hx hb dX13_one_96 rfl ?_
                obtain ⟨z66, hF⟩ := gTe hF
                obtain ⟨r66, er66, hF⟩ := obn hF
                refine cctv (rest := []) S hX hM (metX6_need l F D r60.2 x0 0 4 r66 er66) (ci_U (C := "RugReader$SentenceReader") (As := [.int 0, .int 4]) (rest := []) S q1549 q1550 rfl q739 q1551 q740 hyX6_need (HI.cell (ci := 6) hX hM (by decide) (by omega)) hlX6_need rfl dX13_one_97) q740 q112 (by omega) (by omega) hl.1 (Nat.le_of_ble_eq_true rfl) (fun w66 ew66 H locs cs ss hM => ?_) (fun b66 eb66 H locs cs ss hM => ?_)
                · have hF := thr_r hF ew66
                  refine lv_aload_n hx hb dX13_one_100 rfl (lv_at hl 0 rfl) ?_
                  refine lv_dup hx hb dX13_one_101 rfl ?_
                  obtain ⟨v67, ev67, hF⟩ := obn hF
                  refine cgi S hX hM ev67 ck_7_7_10 q1496 (fun _ h => h) dX13_one_102 ?_
                  refine lv_iconst (v := 1) hx hb dX13_one_105 rfl ?_
                  refine lv_iadd hx hb dX13_one_106 ?_
                  obtain ⟨σ68, eσ68, hF⟩ := obn hF
                  refine cpi S hX hM eσ68 ck_7_7_10 cw_7_7_10 rfl rfl q1496 (fun _ h => h) dX13_one_107 (fun H locs hM => ?_)
                  refine lv_aload_n hx hb dX13_one_110 rfl (lv_at hl 0 rfl) ?_
                  refine lv_dup hx hb dX13_one_111 rfl ?_
                  obtain ⟨v69, ev69, hF⟩ := obn hF
                  refine cgi S hX hM ev69 ck_7_7_11 q1498 (fun _ h => h) dX13_one_112 ?_
                  refine lv_iconst (v := 1) hx hb dX13_one_115 rfl ?_
                  refine lv_iadd hx hb dX13_one_116 ?_
                  obtain ⟨σ70, eσ70, hF⟩ := obn hF
                  refine cpi S hX hM eσ70 ck_7_7_11 cw_7_7_11 rfl rfl q1498 (fun _ h => h) dX13_one_117 (fun H locs hM => ?_)
                  refine lv_aload_n hx hb dX13_one_120 rfl (lv_at hl 0 rfl) ?_
                  obtain ⟨z71, hF⟩ := gTe hF
                  obtain ⟨r71, er71, hF⟩ := obn hF
                  refine ccr (rest := []) (st1 := []) S hX hM (metX6_go l F D σ70 x0 r71 er71) (ci_U (C := "RugReader$SentenceReader") (As := []) (rest := []) S q1519 q1520 rfl q506 q1521 q507 hyX6_go (HI.cell (ci := 6) hX hM (by decide) (by omega)) hlX6_go rfl dX13_one_121) q507 q112 (by omega) (by omega) hl.1 (Nat.le_of_ble_eq_true rfl) rfl (fun H locs cs ss hM => ?_)
                  refine lv_iload_n hx hb dX13_one_124 rfl (lv_at hl 1 rfl) ?_
                  refine lv_if_eq (tgt := 135) hx hb dX13_one_125 (by decide) (fun c72 => ?_) (fun c72 => ?_)
                  · refine lv_iload_n hx hb dX13_one_135 rfl (lv_at hl 2 rfl) ?_
                    refine lv_if_eq (tgt := 153) hx hb dX13_one_136 (by decide) (fun c73 => ?_) (fun c73 => ?_)
                    · have hF := ifp hF c73
                      refine lv_iload_n hx hb dX13_one_153 rfl (lv_at hl 3 rfl) ?_
                      refine lv_if_eq (tgt := 164) hx hb dX13_one_154 (by decide) (fun c74 => ?_) (fun c74 => ?_)
                      · have hF := ifp hF c74
                        refine lv_aload_n hx hb dX13_one_164 rfl (lv_at hl 0 rfl) ?_
                        refine lv_iload hx hb dX13_one_165 (lv_at hl 4 rfl) ?_
                        obtain ⟨z75, hF⟩ := gTe hF
                        obtain ⟨r75, er75, hF⟩ := obn hF
                        refine cctr (rest := []) S hX hM (metX13_than l F D r71 x0 r8 r75 er75) (ci_V (C := "RugReader$SentenceReader") (As := [.int r8]) (rest := []) S q1586 q1588 qs43 q1589 hyX13_than (HI.cell (ci := 6) hX hM (by decide) (by omega)) hlX13_than rfl dX13_one_167) q1589 q136 (by omega) (by omega) hl.1 (Nat.le_of_ble_eq_true rfl) (fun w75 ew75 H locs cs ss hM => ?_) (fun b75 eb75 H locs cs ss hM => ?_)
                        · have hF := thr_r hF ew75
                          refine lv_astore (lv' := [(5, .ref w75), (0, .ref x0), (1, .int 0), (2, .int r6), (3, .int r7), (4, .int r8)]) hx hb dX13_one_170 hl (by decide) rfl (fun ls hl => ?_)
                          refine lv_aload_n hx hb dX13_one_172 rfl (lv_at hl 1 rfl) ?_
                          refine lv_dup hx hb dX13_one_173 rfl ?_
                          obtain ⟨v76, ev76, hF⟩ := obn hF
                          refine cgi S hX hM ev76 ck_7_7_11 q1498 (fun _ h => h) dX13_one_174 ?_
                          refine lv_iconst (v := 1) hx hb dX13_one_177 rfl ?_
                          refine lv_isub hx hb dX13_one_178 ?_
                          obtain ⟨σ77, eσ77, hF⟩ := obn hF
                          refine cpi S hX hM eσ77 ck_7_7_11 cw_7_7_11 rfl rfl q1498 (fun _ h => h) dX13_one_179 (fun H locs hM => ?_)
                          refine lv_aload hx hb dX13_one_182 (lv_at hl 0 rfl) ?_
                          have hz := (Option.some.inj hF)
                          subst hz
                          exact cra S hM hr (Or.inl ⟨_, rfl⟩) hlocks dX13_one_184
                        · have hF := thr_q hF eb75
                          have hz := (Option.some.inj hF)
                          subst hz
                          exact cxout hM (fun x hx => (hnt x hx).elim) hlocks
                      · have hF := ifn hF c74
                        refine lv_aload_n hx hb dX13_one_157 rfl (lv_at hl 0 rfl) ?_
                        obtain ⟨z78, hF⟩ := gTe hF
                        obtain ⟨r78, er78, hF⟩ := obn hF
                        refine cctr (rest := []) S hX hM (metX13_trod l F D r71 x0 r78 er78) (ci_V (C := "RugReader$SentenceReader") (As := []) (rest := []) S q1569 q1571 qs42 q1572 hyX13_trod (HI.cell (ci := 6) hX hM (by decide) (by omega)) hlX13_trod rfl dX13_one_158) q1572 q136 (by omega) (by omega) hl.1 (Nat.le_of_ble_eq_true rfl) (fun w78 ew78 H locs cs ss hM => ?_) (fun b78 eb78 H locs cs ss hM => ?_)
                        · have hF := thr_r hF ew78
                          refine lv_goto (tgt := 170) hx hb dX13_one_161 (by decide) ?_
                          refine lv_astore (lv' := [(5, .ref w78), (0, .ref x0), (1, .int 0), (2, .int r6), (3, .int r7), (4, .int r8)]) hx hb dX13_one_170 hl (by decide) rfl (fun ls hl => ?_)
                          refine lv_aload_n hx hb dX13_one_172 rfl (lv_at hl 1 rfl) ?_
                          refine lv_dup hx hb dX13_one_173 rfl ?_
                          obtain ⟨v79, ev79, hF⟩ := obn hF
                          refine cgi S hX hM ev79 ck_7_7_11 q1498 (fun _ h => h) dX13_one_174 ?_
                          refine lv_iconst (v := 1) hx hb dX13_one_177 rfl ?_
                          refine lv_isub hx hb dX13_one_178 ?_
                          obtain ⟨σ80, eσ80, hF⟩ := obn hF
                          refine cpi S hX hM eσ80 ck_7_7_11 cw_7_7_11 rfl rfl q1498 (fun _ h => h) dX13_one_179 (fun H locs hM => ?_)
                          refine lv_aload hx hb dX13_one_182 (lv_at hl 0 rfl) ?_
                          have hz := (Option.some.inj hF)
                          subst hz
                          exact cra S hM hr (Or.inl ⟨_, rfl⟩) hlocks dX13_one_184
                        · have hF := thr_q hF eb78
                          have hz := (Option.some.inj hF)
                          subst hz
                          exact cxout hM (fun x hx => (hnt x hx).elim) hlocks
                    · have hF := ifn hF c73
                      obtain ⟨r81, er81, hF⟩ := obn hF
                      refine cno (ci := 10) S hX hM er81 (by decide) q1556 q1557 q138 dX13_one_139 (fun H cs ss hM => ?_)
                      refine lv_dup hx hb dX13_one_142 rfl ?_
                      refine lv_aload_n hx hb dX13_one_143 rfl (lv_at hl 0 rfl) ?_
                      obtain ⟨z82, hF⟩ := gTe hF
                      obtain ⟨r82, er82, hF⟩ := obn hF
                      refine cctr (rest := [.ref r81.1, .ref r81.1]) S hX hM (hrec r81.2 x0 r82 er82) (ci_V (C := "RugReader$SentenceReader") (As := []) (rest := [.ref r81.1, .ref r81.1]) S q1530 q1532 qs39 q1533 hyX13_one (HI.cell (ci := 6) hX hM (by decide) (by omega)) hlX13_one rfl dX13_one_144) q1533 q136 (by omega) (by omega) hl.1 (Nat.le_of_ble_eq_true rfl) (fun w82 ew82 H locs cs ss hM => ?_) (fun b82 eb82 H locs cs ss hM => ?_)
                      · have hF := thr_r hF ew82
                        obtain ⟨r83, er83, hF⟩ := obn hF
                        refine ccr (rest := [.ref r81.1]) (st1 := [.ref r81.1]) S hX hM (metX15_init l F D r82.2 r81.1 w82 r83 er83) (ci_I (As := [.ref w82]) (rest := [.ref r81.1]) S rfl q1558 q1559 q1560 hyX15_init hlX15_init rfl dX13_one_147) q1560 q138 (by omega) (by omega) hl.1 (Nat.le_of_ble_eq_true rfl) rfl (fun H locs cs ss hM => ?_)
                        refine lv_goto (tgt := 170) hx hb dX13_one_150 (by decide) ?_
                        refine lv_astore (lv' := [(5, .ref r81.1), (0, .ref x0), (1, .int 0), (2, .int r6), (3, .int r7), (4, .int r8)]) hx hb dX13_one_170 hl (by decide) rfl (fun ls hl => ?_)
                        refine lv_aload_n hx hb dX13_one_172 rfl (lv_at hl 1 rfl) ?_
                        refine lv_dup hx hb dX13_one_173 rfl ?_
                        obtain ⟨v84, ev84, hF⟩ := obn hF
                        refine cgi S hX hM ev84 ck_7_7_11 q1498 (fun _ h => h) dX13_one_174 ?_
                        refine lv_iconst (v := 1) hx hb dX13_one_177 rfl ?_
                        refine lv_isub hx hb dX13_one_178 ?_
                        obtain ⟨σ85, eσ85, hF⟩ := obn hF
                        refine cpi S hX hM eσ85 ck_7_7_11 cw_7_7_11 rfl rfl q1498 (fun _ h => h) dX13_one_179 (fun H locs hM => ?_)
                        refine lv_aload hx hb dX13_one_182 (lv_at hl 0 rfl) ?_
                        have hz := (Option.some.inj hF)
                        subst hz
                        exact cra S hM hr (Or.inl ⟨_, rfl⟩) hlocks dX13_one_184
                      · have hF := thr_q hF eb82
                        have hz := (Option.some.inj hF)
                        subst hz
                        exact cxout hM (fun x hx => (hnt x hx).elim) hlocks
                  · exact absurd c72 (by decide)
                · have hF := thr_q hF eb66
                  have hz := (Option.some.inj hF)
                  subst hz
                  exact cxout hM (fun x hx => (hnt x hx).elim) hlocks
              · intro hAq62
                refine cjnc (C := q62 = false) (I := HI D h0 r60.2 s.heap) (nJ := 6) (lvJ := [(0, .ref x0), (1, .int 0), (2, .int r6), (3, .int r7), (4, .int r8)]) (J := 91) (stJ := [.ref x0]) ?_ ?_
                · intro cq62 H locs cs ss ls hM hl
                  have hF := ifn hF (by rw [cq62]; decide)
                  refine lv_iconst (v := 1) hx hb dX13_one_91 rfl ?_
                  refine lv_goto (tgt := 96) hx hb dX13_one_92 (by decide) ?_
                  refine lv_iconst (v := 4) hx hb dX13_one_96 rfl ?_
                  obtain ⟨z86, hF⟩ := gTe hF
                  obtain ⟨r86, er86, hF⟩ := obn hF
                  refine cctv (rest := []) S hX hM (metX6_need l F D r60.2 x0 1 4 r86 er86) (ci_U (C := "RugReader$SentenceReader") (As := [.int 1, .int 4]) (rest := []) S q1549 q1550 rfl q739 q1551 q740 hyX6_need (HI.cell (ci := 6) hX hM (by decide) (by omega)) hlX6_need rfl dX13_one_97) q740 q112 (by omega) (by omega) hl.1 (Nat.le_of_ble_eq_true rfl) (fun w86 ew86 H locs cs ss hM => ?_) (fun b86 eb86 H locs cs ss hM => ?_)
                  · have hF := thr_r hF ew86
                    refine lv_aload_n hx hb dX13_one_100 rfl (lv_at hl 0 rfl) ?_
                    refine lv_dup hx hb dX13_one_101 rfl ?_
                    obtain ⟨v87, ev87, hF⟩ := obn hF
                    refine cgi S hX hM ev87 ck_7_7_10 q1496 (fun _ h => h) dX13_one_102 ?_
                    refine lv_iconst (v := 1) hx hb dX13_one_105 rfl ?_
                    refine lv_iadd hx hb dX13_one_106 ?_
                    obtain ⟨σ88, eσ88, hF⟩ := obn hF
                    refine cpi S hX hM eσ88 ck_7_7_10 cw_7_7_10 rfl rfl q1496 (fun _ h => h) dX13_one_107 (fun H locs hM => ?_)
                    refine lv_aload_n hx hb dX13_one_110 rfl (lv_at hl 0 rfl) ?_
                    refine lv_dup hx hb dX13_one_111 rfl ?_
                    obtain ⟨v89, ev89, hF⟩ := obn hF
                    refine cgi S hX hM ev89 ck_7_7_11 q1498 (fun _ h => h) dX13_one_112 ?_
                    refine lv_iconst (v := 1) hx hb dX13_one_115 rfl ?_
                    refine lv_iadd hx hb dX13_one_116 ?_
                    obtain ⟨σ90, eσ90, hF⟩ := obn hF
                    refine cpi S hX hM eσ90 ck_7_7_11 cw_7_7_11 rfl rfl q1498 (fun _ h => h) dX13_one_117 (fun H locs hM => ?_)
                    refine lv_aload_n hx hb dX13_one_120 rfl (lv_at hl 0 rfl) ?_
                    obtain ⟨z91, hF⟩ := gTe hF
                    obtain ⟨r91, er91, hF⟩ := obn hF
                    refine ccr (rest := []) (st1 := []) S hX hM (metX6_go l F D σ90 x0 r91 er91) (ci_U (C := "RugReader$SentenceReader") (As := []) (rest := []) S q1519 q1520 rfl q506 q1521 q507 hyX6_go (HI.cell (ci := 6) hX hM (by decide) (by omega)) hlX6_go rfl dX13_one_121) q507 q112 (by omega) (by omega) hl.1 (Nat.le_of_ble_eq_true rfl) rfl (fun H locs cs ss hM => ?_)
                    refine lv_iload_n hx hb dX13_one_124 rfl (lv_at hl 1 rfl) ?_
                    refine lv_if_eq (tgt := 135) hx hb dX13_one_125 (by decide) (fun c92 => ?_) (fun c92 => ?_)
                    · refine lv_iload_n hx hb dX13_one_135 rfl (lv_at hl 2 rfl) ?_
                      refine lv_if_eq (tgt := 153) hx hb dX13_one_136 (by decide) (fun c93 => ?_) (fun c93 => ?_)
                      · have hF := ifp hF c93
                        refine lv_iload_n hx hb dX13_one_153 rfl (lv_at hl 3 rfl) ?_
                        refine lv_if_eq (tgt := 164) hx hb dX13_one_154 (by decide) (fun c94 => ?_) (fun c94 => ?_)
                        · have hF := ifp hF c94
                          refine lv_aload_n hx hb dX13_one_164 rfl (lv_at hl 0 rfl) ?_
                          refine lv_iload hx hb dX13_one_165 (lv_at hl 4 rfl) ?_
                          obtain ⟨z95, hF⟩ := gTe hF
                          obtain ⟨r95, er95, hF⟩ := obn hF
                          refine cctr (rest := []) S hX hM (metX13_than l F D r91 x0 r8 r95 er95) (ci_V (C := "RugReader$SentenceReader") (As := [.int r8]) (rest := []) S q1586 q1588 qs43 q1589 hyX13_than (HI.cell (ci := 6) hX hM (by decide) (by omega)) hlX13_than rfl dX13_one_167) q1589 q136 (by omega) (by omega) hl.1 (Nat.le_of_ble_eq_true rfl) (fun w95 ew95 H locs cs ss hM => ?_) (fun b95 eb95 H locs cs ss hM => ?_)
                          · have hF := thr_r hF ew95
                            refine lv_astore (lv' := [(5, .ref w95), (0, .ref x0), (1, .int 0), (2, .int r6), (3, .int r7), (4, .int r8)]) hx hb dX13_one_170 hl (by decide) rfl (fun ls hl => ?_)
                            refine lv_aload_n hx hb dX13_one_172 rfl (lv_at hl 1 rfl) ?_
                            refine lv_dup hx hb dX13_one_173 rfl ?_
                            obtain ⟨v96, ev96, hF⟩ := obn hF
                            refine cgi S hX hM ev96 ck_7_7_11 q1498 (fun _ h => h) dX13_one_174 ?_
                            refine lv_iconst (v := 1) hx hb dX13_one_177 rfl ?_
                            refine lv_isub hx hb dX13_one_178 ?_
                            obtain ⟨σ97, eσ97, hF⟩ := obn hF
                            refine cpi S hX hM eσ97 ck_7_7_11 cw_7_7_11 rfl rfl q1498 (fun _ h => h) dX13_one_179 (fun H locs hM => ?_)
                            refine lv_aload hx hb dX13_one_182 (lv_at hl 0 rfl) ?_
                            have hz := (Option.some.inj hF)
                            subst hz
                            exact cra S hM hr (Or.inl ⟨_, rfl⟩) hlocks dX13_one_184
                          · have hF := thr_q hF eb95
                            have hz := (Option.some.inj hF)
                            subst hz
                            exact cxout hM (fun x hx => (hnt x hx).elim) hlocks
                        · have hF := ifn hF c94
                          refine lv_aload_n hx hb dX13_one_157 rfl (lv_at hl 0 rfl) ?_
                          obtain ⟨z98, hF⟩ := gTe hF
                          obtain ⟨r98, er98, hF⟩ := obn hF
                          refine cctr (rest := []) S hX hM (metX13_trod l F D r91 x0 r98 er98) (ci_V (C := "RugReader$SentenceReader") (As := []) (rest := []) S q1569 q1571 qs42 q1572 hyX13_trod (HI.cell (ci := 6) hX hM (by decide) (by omega)) hlX13_trod rfl dX13_one_158) q1572 q136 (by omega) (by omega) hl.1 (Nat.le_of_ble_eq_true rfl) (fun w98 ew98 H locs cs ss hM => ?_) (fun b98 eb98 H locs cs ss hM => ?_)
                          · have hF := thr_r hF ew98
                            refine lv_goto (tgt := 170) hx hb dX13_one_161 (by decide) ?_
                            refine lv_astore (lv' := [(5, .ref w98), (0, .ref x0), (1, .int 0), (2, .int r6), (3, .int r7), (4, .int r8)]) hx hb dX13_one_170 hl (by decide) rfl (fun ls hl => ?_)
                            refine lv_aload_n hx hb dX13_one_172 rfl (lv_at hl 1 rfl) ?_
                            refine lv_dup hx hb dX13_one_173 rfl ?_
                            obtain ⟨v99, ev99, hF⟩ := obn hF
                            refine cgi S hX hM ev99 ck_7_7_11 q1498 (fun _ h => h) dX13_one_174 ?_
                            refine lv_iconst (v := 1) hx hb dX13_one_177 rfl ?_
                            refine lv_isub hx hb dX13_one_178 ?_
                            obtain ⟨σ100, eσ100, hF⟩ := obn hF
                            refine cpi S hX hM eσ100 ck_7_7_11 cw_7_7_11 rfl rfl q1498 (fun _ h => h) dX13_one_179 (fun H locs hM => ?_)
                            refine lv_aload hx hb dX13_one_182 (lv_at hl 0 rfl) ?_
                            have hz := (Option.some.inj hF)
                            subst hz
                            exact cra S hM hr (Or.inl ⟨_, rfl⟩) hlocks dX13_one_184
                          · have hF := thr_q hF eb98
                            have hz := (Option.some.inj hF)
                            subst hz
                            exact cxout hM (fun x hx => (hnt x hx).elim) hlocks
                      · have hF := ifn hF c93
                        obtain ⟨r101, er101, hF⟩ := obn hF
                        refine cno (ci := 10) S hX hM er101 (by decide) q1556 q1557 q138 dX13_one_139 (fun H cs ss hM => ?_)
                        refine lv_dup hx hb dX13_one_142 rfl ?_
                        refine lv_aload_n hx hb dX13_one_143 rfl (lv_at hl 0 rfl) ?_
                        obtain ⟨z102, hF⟩ := gTe hF
                        obtain ⟨r102, er102, hF⟩ := obn hF
                        refine cctr (rest := [.ref r101.1, .ref r101.1]) S hX hM (hrec r101.2 x0 r102 er102) (ci_V (C := "RugReader$SentenceReader") (As := []) (rest := [.ref r101.1, .ref r101.1]) S q1530 q1532 qs39 q1533 hyX13_one (HI.cell (ci := 6) hX hM (by decide) (by omega)) hlX13_one rfl dX13_one_144) q1533 q136 (by omega) (by omega) hl.1 (Nat.le_of_ble_eq_true rfl) (fun w102 ew102 H locs cs ss hM => ?_) (fun b102 eb102 H locs cs ss hM => ?_)
                        · have hF := thr_r hF ew102
                          obtain ⟨r103, er103, hF⟩ := obn hF
                          refine ccr (rest := [.ref r101.1]) (st1 := [.ref r101.1]) S hX hM (metX15_init l F D r102.2 r101.1 w102 r103 er103) (ci_I (As := [.ref w102]) (rest := [.ref r101.1]) S rfl q1558 q1559 q1560 hyX15_init hlX15_init rfl dX13_one_147) q1560 q138 (by omega) (by omega) hl.1 (Nat.le_of_ble_eq_true rfl) rfl (fun H locs cs ss hM => ?_)
                          refine lv_goto (tgt := 170) hx hb dX13_one_150 (by decide) ?_
                          refine lv_astore (lv' := [(5, .ref r101.1), (0, .ref x0), (1, .int 0), (2, .int r6), (3, .int r7), (4, .int r8)]) hx hb dX13_one_170 hl (by decide) rfl (fun ls hl => ?_)
                          refine lv_aload_n hx hb dX13_one_172 rfl (lv_at hl 1 rfl) ?_
                          refine lv_dup hx hb dX13_one_173 rfl ?_
                          obtain ⟨v104, ev104, hF⟩ := obn hF
                          refine cgi S hX hM ev104 ck_7_7_11 q1498 (fun _ h => h) dX13_one_174 ?_
                          refine lv_iconst (v := 1) hx hb dX13_one_177 rfl ?_
                          refine lv_isub hx hb dX13_one_178 ?_
                          obtain ⟨σ105, eσ105, hF⟩ := obn hF
                          refine cpi S hX hM eσ105 ck_7_7_11 cw_7_7_11 rfl rfl q1498 (fun _ h => h) dX13_one_179 (fun H locs hM => ?_)
                          refine lv_aload hx hb dX13_one_182 (lv_at hl 0 rfl) ?_
                          have hz := (Option.some.inj hF)
                          subst hz
                          exact cra S hM hr (Or.inl ⟨_, rfl⟩) hlocks dX13_one_184
                        · have hF := thr_q hF eb102
                          have hz := (Option.some.inj hF)
                          subst hz
                          exact cxout hM (fun x hx => (hnt x hx).elim) hlocks
                    · exact absurd c92 (by decide)
                  · have hF := thr_q hF eb86
                    have hz := (Option.some.inj hF)
                    subst hz
                    exact cxout hM (fun x hx => (hnt x hx).elim) hlocks
                · intro hBq62
                  refine lv_icmp_ge (tgt := 95) hx hb dX13_one_79 (by decide) (fun c63 => ?_) (fun c63 => ?_)
                  · have hq62 := ifp hq62 c63
                    cases hq62
                    exact hAq62 rfl _ _ _ _ _ hM (lv_sub hl [0, 1, 2, 3, 4] rfl)
                  · have hq62 := ifn hq62 c63
                    refine lv_aload_n hx hb dX13_one_82 rfl (lv_at hl 0 rfl) ?_
                    obtain ⟨v64, ev64, hq62⟩ := obn hq62
                    refine cgi S hX hM ev64 ck_7_7_11 q1498 (fun _ h => h) dX13_one_83 ?_
                    refine lv_bipush (v := 8) hx hb dX13_one_86 rfl ?_
                    refine lv_icmp_ge (tgt := 95) hx hb dX13_one_88 (by decide) (fun c65 => ?_) (fun c65 => ?_)
                    · have hq62 := ifp hq62 c65
                      cases hq62
                      exact hAq62 rfl _ _ _ _ _ hM (lv_sub hl [0, 1, 2, 3, 4] rfl)
                    · have hq62 := ifn hq62 c65
                      cases hq62
                      exact hBq62 rfl _ _ _ _ _ hM (lv_sub hl [0, 1, 2, 3, 4] rfl)
            · have hF := thr_q hF eb60
              have hz := (Option.some.inj hF)
              subst hz
              exact cxout hM (fun x hx => (hnt x hx).elim) hlocks
          · have hF := ifn hF c59
            refine lv_iconst (v := 1) hx hb dX13_one_63 rfl ?_
            refine lv_goto (tgt := 68) hx hb dX13_one_64 (by decide) ?_
            refine lv_iconst (v := 1) hx hb dX13_one_68 rfl ?_
            obtain ⟨z106, hF⟩ := gTe hF
            obtain ⟨r106, er106, hF⟩ := obn hF
            refine cctv (rest := []) S hX hM (metX6_need l F D h0 x0 1 1 r106 er106) (ci_U (C := "RugReader$SentenceReader") (As := [.int 1, .int 1]) (rest := []) S q1549 q1550 rfl q739 q1551 q740 hyX6_need (HI.cell (ci := 6) hX hM (by decide) (by omega)) hlX6_need rfl dX13_one_69) q740 q112 (by omega) (by omega) hl.1 (Nat.le_of_ble_eq_true rfl) (fun w106 ew106 H locs cs ss hM => ?_) (fun b106 eb106 H locs cs ss hM => ?_)
            · have hF := thr_r hF ew106
              refine lv_aload_n hx hb dX13_one_72 rfl (lv_at hl 0 rfl) ?_
              refine lv_aload_n hx hb dX13_one_73 rfl (lv_at hl 0 rfl) ?_
              obtain ⟨v107, ev107, hF⟩ := obn hF
              refine cgi S hX hM ev107 ck_7_7_10 q1496 (fun _ h => h) dX13_one_74 ?_
              refine lv_bipush (v := 20) hx hb dX13_one_77 rfl ?_
              obtain ⟨q108, hq108, hF⟩ := obn hF
              refine cjnc (C := q108 = true) (I := HI D h0 r106.2 s.heap) (nJ := 6) (lvJ := [(0, .ref x0), (1, .int 0), (2, .int r6), (3, .int r7), (4, .int r8)]) (J := 95) (stJ := [.ref x0]) ?_ ?_
              · intro cq108 H locs cs ss ls hM hl
                have hF := ifp hF cq108
                refine lv_iconst (v := 0) hx hb dX13_one_95 rfl ?_
                refine lv_iconst (v := 4) hx hb dX13_one_96 rfl ?_
                obtain ⟨z112, hF⟩ := gTe hF
                obtain ⟨r112, er112, hF⟩ := obn hF
                refine cctv (rest := []) S hX hM (metX6_need l F D r106.2 x0 0 4 r112 er112) (ci_U (C := "RugReader$SentenceReader") (As := [.int 0, .int 4]) (rest := []) S q1549 q1550 rfl q739 q1551 q740 hyX6_need (HI.cell (ci := 6) hX hM (by decide) (by omega)) hlX6_need rfl dX13_one_97) q740 q112 (by omega) (by omega) hl.1 (Nat.le_of_ble_eq_true rfl) (fun w112 ew112 H locs cs ss hM => ?_) (fun b112 eb112 H locs cs ss hM => ?_)
                · have hF := thr_r hF ew112
                  refine lv_aload_n hx hb dX13_one_100 rfl (lv_at hl 0 rfl) ?_
                  refine lv_dup hx hb dX13_one_101 rfl ?_
                  obtain ⟨v113, ev113, hF⟩ := obn hF
                  refine cgi S hX hM ev113 ck_7_7_10 q1496 (fun _ h => h) dX13_one_102 ?_
                  refine lv_iconst (v := 1) hx hb dX13_one_105 rfl ?_
                  refine lv_iadd hx hb dX13_one_106 ?_
                  obtain ⟨σ114, eσ114, hF⟩ := obn hF
                  refine cpi S hX hM eσ114 ck_7_7_10 cw_7_7_10 rfl rfl q1496 (fun _ h => h) dX13_one_107 (fun H locs hM => ?_)
                  refine lv_aload_n hx hb dX13_one_110 rfl (lv_at hl 0 rfl) ?_
                  refine lv_dup hx hb dX13_one_111 rfl ?_
                  obtain ⟨v115, ev115, hF⟩ := obn hF
                  refine cgi S hX hM ev115 ck_7_7_11 q1498 (fun _ h => h) dX13_one_112 ?_
                  refine lv_iconst (v := 1) hx hb dX13_one_115 rfl ?_
                  refine lv_iadd hx hb dX13_one_116 ?_
                  obtain ⟨σ116, eσ116, hF⟩ := obn hF
                  refine cpi S hX hM eσ116 ck_7_7_11 cw_7_7_11 rfl rfl q1498 (fun _ h => h) dX13_one_117 (fun H locs hM => ?_)
                  refine lv_aload_n hx hb dX13_one_120 rfl (lv_at hl 0 rfl) ?_
                  obtain ⟨z117, hF⟩ := gTe hF
                  obtain ⟨r117, er117, hF⟩ := obn hF
                  refine ccr (rest := []) (st1 := []) S hX hM (metX6_go l F D σ116 x0 r117 er117) (ci_U (C := "RugReader$SentenceReader") (As := []) (rest := []) S q1519 q1520 rfl q506 q1521 q507 hyX6_go (HI.cell (ci := 6) hX hM (by decide) (by omega)) hlX6_go rfl dX13_one_121) q507 q112 (by omega) (by omega) hl.1 (Nat.le_of_ble_eq_true rfl) rfl (fun H locs cs ss hM => ?_)
                  refine lv_iload_n hx hb dX13_one_124 rfl (lv_at hl 1 rfl) ?_
                  refine lv_if_eq (tgt := 135) hx hb dX13_one_125 (by decide) (fun c118 => ?_) (fun c118 => ?_)
                  · refine lv_iload_n hx hb dX13_one_135 rfl (lv_at hl 2 rfl) ?_
                    refine lv_if_eq (tgt := 153) hx hb dX13_one_136 (by decide) (fun c119 => ?_) (fun c119 => ?_)
                    · have hF := ifp hF c119
                      refine lv_iload_n hx hb dX13_one_153 rfl (lv_at hl 3 rfl) ?_
                      refine lv_if_eq (tgt := 164) hx hb dX13_one_154 (by decide) (fun c120 => ?_) (fun c120 => ?_)
                      · have hF := ifp hF c120
                        refine lv_aload_n hx hb dX13_one_164 rfl (lv_at hl 0 rfl) ?_
                        refine lv_iload hx hb dX13_one_165 (lv_at hl 4 rfl) ?_
                        obtain ⟨z121, hF⟩ := gTe hF
                        obtain ⟨r121, er121, hF⟩ := obn hF
                        refine cctr (rest := []) S hX hM (metX13_than l F D r117 x0 r8 r121 er121) (ci_V (C := "RugReader$SentenceReader") (As := [.int r8]) (rest := []) S q1586 q1588 qs43 q1589 hyX13_than (HI.cell (ci := 6) hX hM (by decide) (by omega)) hlX13_than rfl dX13_one_167) q1589 q136 (by omega) (by omega) hl.1 (Nat.le_of_ble_eq_true rfl) (fun w121 ew121 H locs cs ss hM => ?_) (fun b121 eb121 H locs cs ss hM => ?_)
                        · have hF := thr_r hF ew121
                          refine lv_astore (lv' := [(5, .ref w121), (0, .ref x0), (1, .int 0), (2, .int r6), (3, .int r7), (4, .int r8)]) hx hb dX13_one_170 hl (by decide) rfl (fun ls hl => ?_)
                          refine lv_aload_n hx hb dX13_one_172 rfl (lv_at hl 1 rfl) ?_
                          refine lv_dup hx hb dX13_one_173 rfl ?_
                          obtain ⟨v122, ev122, hF⟩ := obn hF
                          refine cgi S hX hM ev122 ck_7_7_11 q1498 (fun _ h => h) dX13_one_174 ?_
                          refine lv_iconst (v := 1) hx hb dX13_one_177 rfl ?_
                          refine lv_isub hx hb dX13_one_178 ?_
                          obtain ⟨σ123, eσ123, hF⟩ := obn hF
                          refine cpi S hX hM eσ123 ck_7_7_11 cw_7_7_11 rfl rfl q1498 (fun _ h => h) dX13_one_179 (fun H locs hM => ?_)
                          refine lv_aload hx hb dX13_one_182 (lv_at hl 0 rfl) ?_
                          have hz := (Option.some.inj hF)
                          subst hz
                          exact cra S hM hr (Or.inl ⟨_, rfl⟩) hlocks dX13_one_184
                        · have hF := thr_q hF eb121
                          have hz := (Option.some.inj hF)
                          subst hz
                          exact cxout hM (fun x hx => (hnt x hx).elim) hlocks
                      · have hF := ifn hF c120
                        refine lv_aload_n hx hb dX13_one_157 rfl (lv_at hl 0 rfl) ?_
                        obtain ⟨z124, hF⟩ := gTe hF
                        obtain ⟨r124, er124, hF⟩ := obn hF
                        refine cctr (rest := []) S hX hM (metX13_trod l F D r117 x0 r124 er124) (ci_V (C := "RugReader$SentenceReader") (As := []) (rest := []) S q1569 q1571 qs42 q1572 hyX13_trod (HI.cell (ci := 6) hX hM (by decide) (by omega)) hlX13_trod rfl dX13_one_158) q1572 q136 (by omega) (by omega) hl.1 (Nat.le_of_ble_eq_true rfl) (fun w124 ew124 H locs cs ss hM => ?_) (fun b124 eb124 H locs cs ss hM => ?_)
                        · have hF := thr_r hF ew124
                          refine lv_goto (tgt := 170) hx hb dX13_one_161 (by decide) ?_
                          refine lv_astore (lv' := [(5, .ref w124), (0, .ref x0), (1, .int 0), (2, .int r6), (3, .int r7), (4, .int r8)]) hx hb dX13_one_170 hl (by decide) rfl (fun ls hl => ?_)
                          refine lv_aload_n hx hb dX13_one_172 rfl (lv_at hl 1 rfl) ?_
                          refine lv_dup hx hb dX13_one_173 rfl ?_
                          obtain ⟨v125, ev125, hF⟩ := obn hF
                          refine cgi S hX hM ev125 ck_7_7_11 q1498 (fun _ h => h) dX13_one_174 ?_
                          refine lv_iconst (v := 1) hx hb dX13_one_177 rfl ?_
                          refine lv_isub hx hb dX13_one_178 ?_
                          obtain ⟨σ126, eσ126, hF⟩ := obn hF
                          refine cpi S hX hM eσ126 ck_7_7_11 cw_7_7_11 rfl rfl q1498 (fun _ h => h) dX13_one_179 (fun H locs hM => ?_)
                          refine lv_aload hx hb dX13_one_182 (lv_at hl 0 rfl) ?_
                          have hz := (Option.some.inj hF)
                          subst hz
                          exact cra S hM hr (Or.inl ⟨_, rfl⟩) hlocks dX13_one_184
                        · have hF := thr_q hF eb124
                          have hz := (Option.some.inj hF)
                          subst hz
                          exact cxout hM (fun x hx => (hnt x hx).elim) hlocks
                    · have hF := ifn hF c119
                      obtain ⟨r127, er127, hF⟩ := obn hF
                      refine cno (ci := 10) S hX hM er127 (by decide) q1556 q1557 q138 dX13_one_139 (fun H cs ss hM => ?_)
                      refine lv_dup hx hb dX13_one_142 rfl ?_
                      refine lv_aload_n hx hb dX13_one_143 rfl (lv_at hl 0 rfl) ?_
                      obtain ⟨z128, hF⟩ := gTe hF
                      obtain ⟨r128, er128, hF⟩ := obn hF
                      refine cctr (rest := [.ref r127.1, .ref r127.1]) S hX hM (hrec r127.2 x0 r128 er128) (ci_V (C := "RugReader$SentenceReader") (As := []) (rest := [.ref r127.1, .ref r127.1]) S q1530 q1532 qs39 q1533 hyX13_one (HI.cell (ci := 6) hX hM (by decide) (by omega)) hlX13_one rfl dX13_one_144) q1533 q136 (by omega) (by omega) hl.1 (Nat.le_of_ble_eq_true rfl) (fun w128 ew128 H locs cs ss hM => ?_) (fun b128 eb128 H locs cs ss hM => ?_)
                      · have hF := thr_r hF ew128
                        obtain ⟨r129, er129, hF⟩ := obn hF
                        refine ccr (rest := [.ref r127.1]) (st1 := [.ref r127.1]) S hX hM (metX15_init l F D r128.2 r127.1 w128 r129 er129) (ci_I (As := [.ref w128]) (rest := [.ref r127.1]) S rfl q1558 q1559 q1560 hyX15_init hlX15_init rfl dX13_one_147) q1560 q138 (by omega) (by omega) hl.1 (Nat.le_of_ble_eq_true rfl) rfl (fun H locs cs ss hM => ?_)
                        refine lv_goto (tgt := 170) hx hb dX13_one_150 (by decide) ?_
                        refine lv_astore (lv' := [(5, .ref r127.1), (0, .ref x0), (1, .int 0), (2, .int r6), (3, .int r7), (4, .int r8)]) hx hb dX13_one_170 hl (by decide) rfl (fun ls hl => ?_)
                        refine lv_aload_n hx hb dX13_one_172 rfl (lv_at hl 1 rfl) ?_
                        refine lv_dup hx hb dX13_one_173 rfl ?_
                        obtain ⟨v130, ev130, hF⟩ := obn hF
                        refine cgi S hX hM ev130 ck_7_7_11 q1498 (fun _ h => h) dX13_one_174 ?_
                        refine lv_iconst (v := 1) hx hb dX13_one_177 rfl ?_
                        refine lv_isub hx hb dX13_one_178 ?_
                        obtain ⟨σ131, eσ131, hF⟩ := obn hF
                        refine cpi S hX hM eσ131 ck_7_7_11 cw_7_7_11 rfl rfl q1498 (fun _ h => h) dX13_one_179 (fun H locs hM => ?_)
                        refine lv_aload hx hb dX13_one_182 (lv_at hl 0 rfl) ?_
                        have hz := (Option.some.inj hF)
                        subst hz
                        exact cra S hM hr (Or.inl ⟨_, rfl⟩) hlocks dX13_one_184
                      · have hF := thr_q hF eb128
                        have hz := (Option.some.inj hF)
                        subst hz
                        exact cxout hM (fun x hx => (hnt x hx).elim) hlocks
                  · exact absurd c118 (by decide)
                · have hF := thr_q hF eb112
                  have hz := (Option.some.inj hF)
                  subst hz
                  exact cxout hM (fun x hx => (hnt x hx).elim) hlocks
              · intro hAq108
                refine cjnc (C := q108 = false) (I := HI D h0 r106.2 s.heap) (nJ := 6) (lvJ := [(0, .ref x0), (1, .int 0), (2, .int r6), (3, .int r7), (4, .int r8)]) (J := 91) (stJ := [.ref x0]) ?_ ?_
                · intro cq108 H locs cs ss ls hM hl
                  have hF := ifn hF (by rw [cq108]; decide)
                  refine lv_iconst (v := 1) hx hb dX13_one_91 rfl ?_
                  refine lv_goto (tgt := 96) hx hb dX13_one_92 (by decide) ?_
                  refine lv_iconst (v := 4) hx hb dX13_one_96 rfl ?_
                  obtain ⟨z132, hF⟩ := gTe hF
                  obtain ⟨r132, er132, hF⟩ := obn hF
                  refine cctv (rest := []) S hX hM (metX6_need l F D r106.2 x0 1 4 r132 er132) (ci_U (C := "RugReader$SentenceReader") (As := [.int 1, .int 4]) (rest := []) S q1549 q1550 rfl q739 q1551 q740 hyX6_need (HI.cell (ci := 6) hX hM (by decide) (by omega)) hlX6_need rfl dX13_one_97) q740 q112 (by omega) (by omega) hl.1 (Nat.le_of_ble_eq_true rfl) (fun w132 ew132 H locs cs ss hM => ?_) (fun b132 eb132 H locs cs ss hM => ?_)
                  · have hF := thr_r hF ew132
                    refine lv_aload_n hx hb dX13_one_100 rfl (lv_at hl 0 rfl) ?_
                    refine lv_dup hx hb dX13_one_101 rfl ?_
                    obtain ⟨v133, ev133, hF⟩ := obn hF
                    refine cgi S hX hM ev133 ck_7_7_10 q1496 (fun _ h => h) dX13_one_102 ?_
                    refine lv_iconst (v := 1) hx hb dX13_one_105 rfl ?_
                    refine lv_iadd hx hb dX13_one_106 ?_
                    obtain ⟨σ134, eσ134, hF⟩ := obn hF
                    refine cpi S hX hM eσ134 ck_7_7_10 cw_7_7_10 rfl rfl q1496 (fun _ h => h) dX13_one_107 (fun H locs hM => ?_)
                    refine lv_aload_n hx hb dX13_one_110 rfl (lv_at hl 0 rfl) ?_
                    refine lv_dup hx hb dX13_one_111 rfl ?_
                    obtain ⟨v135, ev135, hF⟩ := obn hF
                    refine cgi S hX hM ev135 ck_7_7_11 q1498 (fun _ h => h) dX13_one_112 ?_
                    refine lv_iconst (v := 1) hx hb dX13_one_115 rfl ?_
                    refine lv_iadd hx hb dX13_one_116 ?_
                    obtain ⟨σ136, eσ136, hF⟩ := obn hF
                    refine cpi S hX hM eσ136 ck_7_7_11 cw_7_7_11 rfl rfl q1498 (fun _ h => h) dX13_one_117 (fun H locs hM => ?_)
                    refine lv_aload_n hx hb dX13_one_120 rfl (lv_at hl 0 rfl) ?_
                    obtain ⟨z137, hF⟩ := gTe hF
                    obtain ⟨r137, er137, hF⟩ := obn hF
                    refine ccr (rest := []) (st1 := []) S hX hM (metX6_go l F D σ136 x0 r137 er137) (ci_U (C := "RugReader$SentenceReader") (As := []) (rest := []) S q1519 q1520 rfl q506 q1521 q507 hyX6_go (HI.cell (ci := 6) hX hM (by decide) (by omega)) hlX6_go rfl dX13_one_121) q507 q112 (by omega) (by omega) hl.1 (Nat.le_of_ble_eq_true rfl) rfl (fun H locs cs ss hM => ?_)
                    refine lv_iload_n hx hb dX13_one_124 rfl (lv_at hl 1 rfl) ?_
                    refine lv_if_eq (tgt := 135) hx hb dX13_one_125 (by decide) (fun c138 => ?_) (fun c138 => ?_)
                    · refine lv_iload_n hx hb dX13_one_135 rfl (lv_at hl 2 rfl) ?_
                      refine lv_if_eq (tgt := 153) hx hb dX13_one_136 (by decide) (fun c139 => ?_) (fun c139 => ?_)
                      · have hF := ifp hF c139
                        refine lv_iload_n hx hb dX13_one_153 rfl (lv_at hl 3 rfl) ?_
                        refine lv_if_eq (tgt := 164) hx hb dX13_one_154 (by decide) (fun c140 => ?_) (fun c140 => ?_)
                        · have hF := ifp hF c140
                          refine lv_aload_n hx hb dX13_one_164 rfl (lv_at hl 0 rfl) ?_
                          refine lv_iload hx hb dX13_one_165 (lv_at hl 4 rfl) ?_
                          obtain ⟨z141, hF⟩ := gTe hF
                          obtain ⟨r141, er141, hF⟩ := obn hF
                          refine cctr (rest := []) S hX hM (metX13_than l F D r137 x0 r8 r141 er141) (ci_V (C := "RugReader$SentenceReader") (As := [.int r8]) (rest := []) S q1586 q1588 qs43 q1589 hyX13_than (HI.cell (ci := 6) hX hM (by decide) (by omega)) hlX13_than rfl dX13_one_167) q1589 q136 (by omega) (by omega) hl.1 (Nat.le_of_ble_eq_true rfl) (fun w141 ew141 H locs cs ss hM => ?_) (fun b141 eb141 H locs cs ss hM => ?_)
                          · have hF := thr_r hF ew141
                            refine lv_astore (lv' := [(5, .ref w141), (0, .ref x0), (1, .int 0), (2, .int r6), (3, .int r7), (4, .int r8)]) hx hb dX13_one_170 hl (by decide) rfl (fun ls hl => ?_)
                            refine lv_aload_n hx hb dX13_one_172 rfl (lv_at hl 1 rfl) ?_
                            refine lv_dup hx hb dX13_one_173 rfl ?_
                            obtain ⟨v142, ev142, hF⟩ := obn hF
                            refine cgi S hX hM ev142 ck_7_7_11 q1498 (fun _ h => h) dX13_one_174 ?_
                            refine lv_iconst (v := 1) hx hb dX13_one_177 rfl ?_
                            refine lv_isub hx hb dX13_one_178 ?_
                            obtain ⟨σ143, eσ143, hF⟩ := obn hF
                            refine cpi S hX hM eσ143 ck_7_7_11 cw_7_7_11 rfl rfl q1498 (fun _ h => h) dX13_one_179 (fun H locs hM => ?_)
                            refine lv_aload hx hb dX13_one_182 (lv_at hl 0 rfl) ?_
                            have hz := (Option.some.inj hF)
                            subst hz
                            exact cra S hM hr (Or.inl ⟨_, rfl⟩) hlocks dX13_one_184
                          · have hF := thr_q hF eb141
                            have hz := (Option.some.inj hF)
                            subst hz
                            exact cxout hM (fun x hx => (hnt x hx).elim) hlocks
                        · have hF := ifn hF c140
                          refine lv_aload_n hx hb dX13_one_157 rfl (lv_at hl 0 rfl) ?_
                          obtain ⟨z144, hF⟩ := gTe hF
                          obtain ⟨r144, er144, hF⟩ := obn hF
                          refine cctr (rest := []) S hX hM (metX13_trod l F D r137 x0 r144 er144) (ci_V (C := "RugReader$SentenceReader") (As := []) (rest := []) S q1569 q1571 qs42 q1572 hyX13_trod (HI.cell (ci := 6) hX hM (by decide) (by omega)) hlX13_trod rfl dX13_one_158) q1572 q136 (by omega) (by omega) hl.1 (Nat.le_of_ble_eq_true rfl) (fun w144 ew144 H locs cs ss hM => ?_) (fun b144 eb144 H locs cs ss hM => ?_)
                          · have hF := thr_r hF ew144
                            refine lv_goto (tgt := 170) hx hb dX13_one_161 (by decide) ?_
                            refine lv_astore (lv' := [(5, .ref w144), (0, .ref x0), (1, .int 0), (2, .int r6), (3, .int r7), (4, .int r8)]) hx hb dX13_one_170 hl (by decide) rfl (fun ls hl => ?_)
                            refine lv_aload_n hx hb dX13_one_172 rfl (lv_at hl 1 rfl) ?_
                            refine lv_dup hx hb dX13_one_173 rfl ?_
                            obtain ⟨v145, ev145, hF⟩ := obn hF
                            refine cgi S hX hM ev145 ck_7_7_11 q1498 (fun _ h => h) dX13_one_174 ?_
                            refine lv_iconst (v := 1) hx hb dX13_one_177 rfl ?_
                            refine lv_isub hx hb dX13_one_178 ?_
                            obtain ⟨σ146, eσ146, hF⟩ := obn hF
                            refine cpi S hX hM eσ146 ck_7_7_11 cw_7_7_11 rfl rfl q1498 (fun _ h => h) dX13_one_179 (fun H locs hM => ?_)
                            refine lv_aload hx hb dX13_one_182 (lv_at hl 0 rfl) ?_
                            have hz := (Option.some.inj hF)
                            subst hz
                            exact cra S hM hr (Or.inl ⟨_, rfl⟩) hlocks dX13_one_184
                          · have hF := thr_q hF eb144
                            have hz := (Option.some.inj hF)
                            subst hz
                            exact cxout hM (fun x hx => (hnt x hx).elim) hlocks
                      · have hF := ifn hF c139
                        obtain ⟨r147, er147, hF⟩ := obn hF
                        refine cno (ci := 10) S hX hM er147 (by decide) q1556 q1557 q138 dX13_one_139 (fun H cs ss hM => ?_)
                        refine lv_dup hx hb dX13_one_142 rfl ?_
                        refine lv_aload_n hx hb dX13_one_143 rfl (lv_at hl 0 rfl) ?_
                        obtain ⟨z148, hF⟩ := gTe hF
                        obtain ⟨r148, er148, hF⟩ := obn hF
                        refine cctr (rest := [.ref r147.1, .ref r147.1]) S hX hM (hrec r147.2 x0 r148 er148) (ci_V (C := "RugReader$SentenceReader") (As := []) (rest := [.ref r147.1, .ref r147.1]) S q1530 q1532 qs39 q1533 hyX13_one (HI.cell (ci := 6) hX hM (by decide) (by omega)) hlX13_one rfl dX13_one_144) q1533 q136 (by omega) (by omega) hl.1 (Nat.le_of_ble_eq_true rfl) (fun w148 ew148 H locs cs ss hM => ?_) (fun b148 eb148 H locs cs ss hM => ?_)
                        · have hF := thr_r hF ew148
                          obtain ⟨r149, er149, hF⟩ := obn hF
                          refine ccr (rest := [.ref r147.1]) (st1 := [.ref r147.1]) S hX hM (metX15_init l F D r148.2 r147.1 w148 r149 er149) (ci_I (As := [.ref w148]) (rest := [.ref r147.1]) S rfl q1558 q1559 q1560 hyX15_init hlX15_init rfl dX13_one_147) q1560 q138 (by omega) (by omega) hl.1 (Nat.le_of_ble_eq_true rfl) rfl (fun H locs cs ss hM => ?_)
                          refine lv_goto (tgt := 170) hx hb dX13_one_150 (by decide) ?_
                          refine lv_astore (lv' := [(5, .ref r147.1), (0, .ref x0), (1, .int 0), (2, .int r6), (3, .int r7), (4, .int r8)]) hx hb dX13_one_170 hl (by decide) rfl (fun ls hl => ?_)
                          refine lv_aload_n hx hb dX13_one_172 rfl (lv_at hl 1 rfl) ?_
                          refine lv_dup hx hb dX13_one_173 rfl ?_
                          obtain ⟨v150, ev150, hF⟩ := obn hF
                          refine cgi S hX hM ev150 ck_7_7_11 q1498 (fun _ h => h) dX13_one_174 ?_
                          refine lv_iconst (v := 1) hx hb dX13_one_177 rfl ?_
                          refine lv_isub hx hb dX13_one_178 ?_
                          obtain ⟨σ151, eσ151, hF⟩ := obn hF
                          refine cpi S hX hM eσ151 ck_7_7_11 cw_7_7_11 rfl rfl q1498 (fun _ h => h) dX13_one_179 (fun H locs hM => ?_)
                          refine lv_aload hx hb dX13_one_182 (lv_at hl 0 rfl) ?_
                          have hz := (Option.some.inj hF)
                          subst hz
                          exact cra S hM hr (Or.inl ⟨_, rfl⟩) hlocks dX13_one_184
                        · have hF := thr_q hF eb148
                          have hz := (Option.some.inj hF)
                          subst hz
                          exact cxout hM (fun x hx => (hnt x hx).elim) hlocks
                    · exact absurd c138 (by decide)
                  · have hF := thr_q hF eb132
                    have hz := (Option.some.inj hF)
                    subst hz
                    exact cxout hM (fun x hx => (hnt x hx).elim) hlocks
                · intro hBq108
                  refine lv_icmp_ge (tgt := 95) hx hb dX13_one_79 (by decide) (fun c109 => ?_) (fun c109 => ?_)
                  · have hq108 := ifp hq108 c109
                    cases hq108
                    exact hAq108 rfl _ _ _ _ _ hM (lv_sub hl [0, 1, 2, 3, 4] rfl)
                  · have hq108 := ifn hq108 c109
                    refine lv_aload_n hx hb dX13_one_82 rfl (lv_at hl 0 rfl) ?_
                    obtain ⟨v110, ev110, hq108⟩ := obn hq108
                    refine cgi S hX hM ev110 ck_7_7_11 q1498 (fun _ h => h) dX13_one_83 ?_
                    refine lv_bipush (v := 8) hx hb dX13_one_86 rfl ?_
                    refine lv_icmp_ge (tgt := 95) hx hb dX13_one_88 (by decide) (fun c111 => ?_) (fun c111 => ?_)
                    · have hq108 := ifp hq108 c111
                      cases hq108
                      exact hAq108 rfl _ _ _ _ _ hM (lv_sub hl [0, 1, 2, 3, 4] rfl)
                    · have hq108 := ifn hq108 c111
                      cases hq108
                      exact hBq108 rfl _ _ _ _ _ hM (lv_sub hl [0, 1, 2, 3, 4] rfl)
            · have hF := thr_q hF eb106
              have hz := (Option.some.inj hF)
              subst hz
              exact cxout hM (fun x hx => (hnt x hx).elim) hlocks
        · intro hBq10
          refine lv_if_ne (tgt := 63) hx hb dX13_one_50 (by decide) (fun c11 => ?_) (fun c11 => ?_)
          · have hq10 := ifn hq10 c11
            subst hq10
            exact hAq10 rfl _ _ _ _ _ hM (lv_sub hl [4, 3, 2, 1, 0] rfl)
          · have hq10 := ifp hq10 c11
            refine lv_iload_n hx hb dX13_one_53 rfl (lv_at hl 1 rfl) ?_
            refine lv_if_ne (tgt := 63) hx hb dX13_one_54 (by decide) (fun c12 => ?_) (fun c12 => ?_)
            · have hq10 := ifn hq10 c12
              subst hq10
              exact hAq10 rfl _ _ _ _ _ hM (lv_sub hl [4, 3, 2, 1, 0] rfl)
            · have hq10 := ifp hq10 c12
              subst hq10
              exact hBq10 rfl _ _ _ _ _ hM (lv_sub hl [4, 3, 2, 1, 0] rfl)
  · intro hAq2
    refine cjnc (C := q2 = false) (I := HI D h0 h0 s.heap) (nJ := 6) (lvJ := [(0, .ref x0)]) (J := 18) (stJ := []) ?_ ?_
    · intro cq2 H locs cs ss ls hM hl
      have hF := ifn hF (by rw [cq2]; decide)
      refine lv_iconst (v := 1) hx hb dX13_one_18 rfl ?_
      refine lv_goto (tgt := 23) hx hb dX13_one_19 (by decide) ?_
      refine lv_istore_n (lv' := [(1, .int 1), (0, .ref x0)]) hx hb dX13_one_23 rfl hl (by decide) rfl (fun ls hl => ?_)
      refine lv_aload_n hx hb dX13_one_24 rfl (lv_at hl 1 rfl) ?_
      refine cldc S hM (uq1534 hX) dX13_one_25 ?_
      obtain ⟨z152, hF⟩ := gTe hF
      obtain ⟨r152, er152, hF⟩ := obn hF
      refine ccr (rest := []) (st1 := [.int r152]) S hX hM (metX6_is l F D h0 x0 (kG h0 20) r152 er152) (ci_U (C := "RugReader$SentenceReader") (As := [.ref (kG h0 20)]) (rest := []) S q1535 q1536 rfl q714 q1537 q715 hyX6_is (HI.cell (ci := 6) hX hM (by decide) (by omega)) hlX6_is rfl dX13_one_27) q715 q112 (by omega) (by omega) hl.1 (Nat.le_of_ble_eq_true rfl) rfl (fun H locs cs ss hM => ?_)
      refine lv_istore_n (lv' := [(2, .int r152), (1, .int 1), (0, .ref x0)]) hx hb dX13_one_30 rfl hl (by decide) rfl (fun ls hl => ?_)
      refine lv_aload_n hx hb dX13_one_31 rfl (lv_at hl 2 rfl) ?_
      refine cldc S hM (uq1538 hX) dX13_one_32 ?_
      obtain ⟨z153, hF⟩ := gTe hF
      obtain ⟨r153, er153, hF⟩ := obn hF
      refine ccr (rest := []) (st1 := [.int r153]) S hX hM (metX6_is l F D h0 x0 (kG h0 21) r153 er153) (ci_U (C := "RugReader$SentenceReader") (As := [.ref (kG h0 21)]) (rest := []) S q1535 q1536 rfl q714 q1537 q715 hyX6_is (HI.cell (ci := 6) hX hM (by decide) (by omega)) hlX6_is rfl dX13_one_34) q715 q112 (by omega) (by omega) hl.1 (Nat.le_of_ble_eq_true rfl) rfl (fun H locs cs ss hM => ?_)
      refine lv_istore_n (lv' := [(3, .int r153), (2, .int r152), (1, .int 1), (0, .ref x0)]) hx hb dX13_one_37 rfl hl (by decide) rfl (fun ls hl => ?_)
      refine lv_aload_n hx hb dX13_one_38 rfl (lv_at hl 3 rfl) ?_
      obtain ⟨z154, hF⟩ := gTe hF
      obtain ⟨r154, er154, hF⟩ := obn hF
      refine ccr (rest := []) (st1 := [.int r154]) S hX hM (metX13_numbered l F D h0 x0 r154 er154) (ci_V (C := "RugReader$SentenceReader") (As := []) (rest := []) S q1539 q1541 qs40 q1542 hyX13_numbered (HI.cell (ci := 6) hX hM (by decide) (by omega)) hlX13_numbered rfl dX13_one_39) q1542 q136 (by omega) (by omega) hl.1 (Nat.le_of_ble_eq_true rfl) rfl (fun H locs cs ss hM => ?_)
      refine lv_istore (lv' := [(4, .int r154), (3, .int r153), (2, .int r152), (1, .int 1), (0, .ref x0)]) hx hb dX13_one_42 hl (by decide) rfl (fun ls hl => ?_)
      refine lv_aload_n hx hb dX13_one_44 rfl (lv_at hl 4 rfl) ?_
      refine lv_iload_n hx hb dX13_one_45 rfl (lv_at hl 3 rfl) ?_
      refine lv_if_ne (tgt := 63) hx hb dX13_one_46 (by decide) (fun c155 => ?_) (fun c155 => ?_)
      · refine lv_iconst (v := 1) hx hb dX13_one_63 rfl ?_
        refine lv_goto (tgt := 68) hx hb dX13_one_64 (by decide) ?_
        refine lv_iconst (v := 1) hx hb dX13_one_68 rfl ?_
        obtain ⟨z156, hF⟩ := gTe hF
        obtain ⟨r156, er156, hF⟩ := obn hF
        refine cctv (rest := []) S hX hM (metX6_need l F D h0 x0 1 1 r156 er156) (ci_U (C := "RugReader$SentenceReader") (As := [.int 1, .int 1]) (rest := []) S q1549 q1550 rfl q739 q1551 q740 hyX6_need (HI.cell (ci := 6) hX hM (by decide) (by omega)) hlX6_need rfl dX13_one_69) q740 q112 (by omega) (by omega) hl.1 (Nat.le_of_ble_eq_true rfl) (fun w156 ew156 H locs cs ss hM => ?_) (fun b156 eb156 H locs cs ss hM => ?_)
        · have hF := thr_r hF ew156
          refine lv_aload_n hx hb dX13_one_72 rfl (lv_at hl 4 rfl) ?_
          refine lv_aload_n hx hb dX13_one_73 rfl (lv_at hl 4 rfl) ?_
          obtain ⟨v157, ev157, hF⟩ := obn hF
          refine cgi S hX hM ev157 ck_7_7_10 q1496 (fun _ h => h) dX13_one_74 ?_
          refine lv_bipush (v := 20) hx hb dX13_one_77 rfl ?_
          obtain ⟨q158, hq158, hF⟩ := obn hF
          refine cjnc (C := q158 = true) (I := HI D h0 r156.2 s.heap) (nJ := 6) (lvJ := [(0, .ref x0), (1, .int 1), (2, .int r152), (3, .int r153), (4, .int r154)]) (J := 95) (stJ := [.ref x0]) ?_ ?_
          · intro cq158 H locs cs ss ls hM hl
            have hF := ifp hF cq158
            refine lv_iconst (v := 0) hx hb dX13_one_95 rfl ?_
            refine lv_iconst (v := 4) hx hb dX13_one_96 rfl ?_
            obtain ⟨z162, hF⟩ := gTe hF
            obtain ⟨r162, er162, hF⟩ := obn hF
            refine cctv (rest := []) S hX hM (metX6_need l F D r156.2 x0 0 4 r162 er162) (ci_U (C := "RugReader$SentenceReader") (As := [.int 0, .int 4]) (rest := []) S q1549 q1550 rfl q739 q1551 q740 hyX6_need (HI.cell (ci := 6) hX hM (by decide) (by omega)) hlX6_need rfl dX13_one_97) q740 q112 (by omega) (by omega) hl.1 (Nat.le_of_ble_eq_true rfl) (fun w162 ew162 H locs cs ss hM => ?_) (fun b162 eb162 H locs cs ss hM => ?_)
            · have hF := thr_r hF ew162
              refine lv_aload_n hx hb dX13_one_100 rfl (lv_at hl 0 rfl) ?_
              refine lv_dup hx hb dX13_one_101 rfl ?_
              obtain ⟨v163, ev163, hF⟩ := obn hF
              refine cgi S hX hM ev163 ck_7_7_10 q1496 (fun _ h => h) dX13_one_102 ?_
              refine lv_iconst (v := 1) hx hb dX13_one_105 rfl ?_
              refine lv_iadd hx hb dX13_one_106 ?_
              obtain ⟨σ164, eσ164, hF⟩ := obn hF
              refine cpi S hX hM eσ164 ck_7_7_10 cw_7_7_10 rfl rfl q1496 (fun _ h => h) dX13_one_107 (fun H locs hM => ?_)
              refine lv_aload_n hx hb dX13_one_110 rfl (lv_at hl 0 rfl) ?_
              refine lv_dup hx hb dX13_one_111 rfl ?_
              obtain ⟨v165, ev165, hF⟩ := obn hF
              refine cgi S hX hM ev165 ck_7_7_11 q1498 (fun _ h => h) dX13_one_112 ?_
              refine lv_iconst (v := 1) hx hb dX13_one_115 rfl ?_
              refine lv_iadd hx hb dX13_one_116 ?_
              obtain ⟨σ166, eσ166, hF⟩ := obn hF
              refine cpi S hX hM eσ166 ck_7_7_11 cw_7_7_11 rfl rfl q1498 (fun _ h => h) dX13_one_117 (fun H locs hM => ?_)
              refine lv_aload_n hx hb dX13_one_120 rfl (lv_at hl 0 rfl) ?_
              obtain ⟨z167, hF⟩ := gTe hF
              obtain ⟨r167, er167, hF⟩ := obn hF
              refine ccr (rest := []) (st1 := []) S hX hM (metX6_go l F D σ166 x0 r167 er167) (ci_U (C := "RugReader$SentenceReader") (As := []) (rest := []) S q1519 q1520 rfl q506 q1521 q507 hyX6_go (HI.cell (ci := 6) hX hM (by decide) (by omega)) hlX6_go rfl dX13_one_121) q507 q112 (by omega) (by omega) hl.1 (Nat.le_of_ble_eq_true rfl) rfl (fun H locs cs ss hM => ?_)
              refine lv_iload_n hx hb dX13_one_124 rfl (lv_at hl 1 rfl) ?_
              refine lv_if_eq (tgt := 135) hx hb dX13_one_125 (by decide) (fun c168 => ?_) (fun c168 => ?_)
              · exact absurd c168 (by decide)
              · refine lv_aload_n hx hb dX13_one_128 rfl (lv_at hl 0 rfl) ?_
                obtain ⟨z169, hF⟩ := gTe hF
                obtain ⟨r169, er169, hF⟩ := obn hF
                refine cctr (rest := []) S hX hM (metX13_bracket l F D RF RL rec hrec r167 x0 r169 er169) (ci_V (C := "RugReader$SentenceReader") (As := []) (rest := []) S q1552 q1554 qs41 q1555 hyX13_bracket (HI.cell (ci := 6) hX hM (by decide) (by omega)) hlX13_bracket rfl dX13_one_129) q1555 q136 (by omega) (by omega) hl.1 (Nat.le_of_ble_eq_true rfl) (fun w169 ew169 H locs cs ss hM => ?_) (fun b169 eb169 H locs cs ss hM => ?_)
                · have hF := thr_r hF ew169
                  refine lv_goto (tgt := 170) hx hb dX13_one_132 (by decide) ?_
                  refine lv_astore (lv' := [(5, .ref w169), (0, .ref x0), (1, .int 1), (2, .int r152), (3, .int r153), (4, .int r154)]) hx hb dX13_one_170 hl (by decide) rfl (fun ls hl => ?_)
                  refine lv_aload_n hx hb dX13_one_172 rfl (lv_at hl 1 rfl) ?_
                  refine lv_dup hx hb dX13_one_173 rfl ?_
                  obtain ⟨v170, ev170, hF⟩ := obn hF
                  refine cgi S hX hM ev170 ck_7_7_11 q1498 (fun _ h => h) dX13_one_174 ?_
                  refine lv_iconst (v := 1) hx hb dX13_one_177 rfl ?_
                  refine lv_isub hx hb dX13_one_178 ?_
                  obtain ⟨σ171, eσ171, hF⟩ := obn hF
                  refine cpi S hX hM eσ171 ck_7_7_11 cw_7_7_11 rfl rfl q1498 (fun _ h => h) dX13_one_179 (fun H locs hM => ?_)
                  refine lv_aload hx hb dX13_one_182 (lv_at hl 0 rfl) ?_
                  have hz := (Option.some.inj hF)
                  subst hz
                  exact cra S hM hr (Or.inl ⟨_, rfl⟩) hlocks dX13_one_184
                · have hF := thr_q hF eb169
                  have hz := (Option.some.inj hF)
                  subst hz
                  exact cxout hM (fun x hx => (hnt x hx).elim) hlocks
            · have hF := thr_q hF eb162
              have hz := (Option.some.inj hF)
              subst hz
              exact cxout hM (fun x hx => (hnt x hx).elim) hlocks
          · intro hAq158
            refine cjnc (C := q158 = false) (I := HI D h0 r156.2 s.heap) (nJ := 6) (lvJ := [(0, .ref x0), (1, .int 1), (2, .int r152), (3, .int r153), (4, .int r154)]) (J := 91) (stJ := [.ref x0]) ?_ ?_
            · intro cq158 H locs cs ss ls hM hl
              have hF := ifn hF (by rw [cq158]; decide)
              refine lv_iconst (v := 1) hx hb dX13_one_91 rfl ?_
              refine lv_goto (tgt := 96) hx hb dX13_one_92 (by decide) ?_
              refine lv_iconst (v := 4) hx hb dX13_one_96 rfl ?_
              obtain ⟨z172, hF⟩ := gTe hF
              obtain ⟨r172, er172, hF⟩ := obn hF
              refine cctv (rest := []) S hX hM (metX6_need l F D r156.2 x0 1 4 r172 er172) (ci_U (C := "RugReader$SentenceReader") (As := [.int 1, .int 4]) (rest := []) S q1549 q1550 rfl q739 q1551 q740 hyX6_need (HI.cell (ci := 6) hX hM (by decide) (by omega)) hlX6_need rfl dX13_one_97) q740 q112 (by omega) (by omega) hl.1 (Nat.le_of_ble_eq_true rfl) (fun w172 ew172 H locs cs ss hM => ?_) (fun b172 eb172 H locs cs ss hM => ?_)
              · have hF := thr_r hF ew172
                refine lv_aload_n hx hb dX13_one_100 rfl (lv_at hl 0 rfl) ?_
                refine lv_dup hx hb dX13_one_101 rfl ?_
                obtain ⟨v173, ev173, hF⟩ := obn hF
                refine cgi S hX hM ev173 ck_7_7_10 q1496 (fun _ h => h) dX13_one_102 ?_
                refine lv_iconst (v := 1) hx hb dX13_one_105 rfl ?_
                refine lv_iadd hx hb dX13_one_106 ?_
                obtain ⟨σ174, eσ174, hF⟩ := obn hF
                refine cpi S hX hM eσ174 ck_7_7_10 cw_7_7_10 rfl rfl q1496 (fun _ h => h) dX13_one_107 (fun H locs hM => ?_)
                refine lv_aload_n hx hb dX13_one_110 rfl (lv_at hl 0 rfl) ?_
                refine lv_dup hx hb dX13_one_111 rfl ?_
                obtain ⟨v175, ev175, hF⟩ := obn hF
                refine cgi S hX hM ev175 ck_7_7_11 q1498 (fun _ h => h) dX13_one_112 ?_
                refine lv_iconst (v := 1) hx hb dX13_one_115 rfl ?_
                refine lv_iadd hx hb dX13_one_116 ?_
                obtain ⟨σ176, eσ176, hF⟩ := obn hF
                refine cpi S hX hM eσ176 ck_7_7_11 cw_7_7_11 rfl rfl q1498 (fun _ h => h) dX13_one_117 (fun H locs hM => ?_)
                refine lv_aload_n hx hb dX13_one_120 rfl (lv_at hl 0 rfl) ?_
                obtain ⟨z177, hF⟩ := gTe hF
                obtain ⟨r177, er177, hF⟩ := obn hF
                refine ccr (rest := []) (st1 := []) S hX hM (metX6_go l F D σ176 x0 r177 er177) (ci_U (C := "RugReader$SentenceReader") (As := []) (rest := []) S q1519 q1520 rfl q506 q1521 q507 hyX6_go (HI.cell (ci := 6) hX hM (by decide) (by omega)) hlX6_go rfl dX13_one_121) q507 q112 (by omega) (by omega) hl.1 (Nat.le_of_ble_eq_true rfl) rfl (fun H locs cs ss hM => ?_)
                refine lv_iload_n hx hb dX13_one_124 rfl (lv_at hl 1 rfl) ?_
                refine lv_if_eq (tgt := 135) hx hb dX13_one_125 (by decide) (fun c178 => ?_) (fun c178 => ?_)
                · exact absurd c178 (by decide)
                · refine lv_aload_n hx hb dX13_one_128 rfl (lv_at hl 0 rfl) ?_
                  obtain ⟨z179, hF⟩ := gTe hF
                  obtain ⟨r179, er179, hF⟩ := obn hF
                  refine cctr (rest := []) S hX hM (metX13_bracket l F D RF RL rec hrec r177 x0 r179 er179) (ci_V (C := "RugReader$SentenceReader") (As := []) (rest := []) S q1552 q1554 qs41 q1555 hyX13_bracket (HI.cell (ci := 6) hX hM (by decide) (by omega)) hlX13_bracket rfl dX13_one_129) q1555 q136 (by omega) (by omega) hl.1 (Nat.le_of_ble_eq_true rfl) (fun w179 ew179 H locs cs ss hM => ?_) (fun b179 eb179 H locs cs ss hM => ?_)
                  · have hF := thr_r hF ew179
                    refine lv_goto (tgt := 170) hx hb dX13_one_132 (by decide) ?_
                    refine lv_astore (lv' := [(5, .ref w179), (0, .ref x0), (1, .int 1), (2, .int r152), (3, .int r153), (4, .int r154)]) hx hb dX13_one_170 hl (by decide) rfl (fun ls hl => ?_)
                    refine lv_aload_n hx hb dX13_one_172 rfl (lv_at hl 1 rfl) ?_
                    refine lv_dup hx hb dX13_one_173 rfl ?_
                    obtain ⟨v180, ev180, hF⟩ := obn hF
                    refine cgi S hX hM ev180 ck_7_7_11 q1498 (fun _ h => h) dX13_one_174 ?_
                    refine lv_iconst (v := 1) hx hb dX13_one_177 rfl ?_
                    refine lv_isub hx hb dX13_one_178 ?_
                    obtain ⟨σ181, eσ181, hF⟩ := obn hF
                    refine cpi S hX hM eσ181 ck_7_7_11 cw_7_7_11 rfl rfl q1498 (fun _ h => h) dX13_one_179 (fun H locs hM => ?_)
                    refine lv_aload hx hb dX13_one_182 (lv_at hl 0 rfl) ?_
                    have hz := (Option.some.inj hF)
                    subst hz
                    exact cra S hM hr (Or.inl ⟨_, rfl⟩) hlocks dX13_one_184
                  · have hF := thr_q hF eb179
                    have hz := (Option.some.inj hF)
                    subst hz
                    exact cxout hM (fun x hx => (hnt x hx).elim) hlocks
              · have hF := thr_q hF eb172
                have hz := (Option.some.inj hF)
                subst hz
                exact cxout hM (fun x hx => (hnt x hx).elim) hlocks
            · intro hBq158
              refine lv_icmp_ge (tgt := 95) hx hb dX13_one_79 (by decide) (fun c159 => ?_) (fun c159 => ?_)
              · have hq158 := ifp hq158 c159
                cases hq158
                exact hAq158 rfl _ _ _ _ _ hM (lv_sub hl [4, 3, 2, 1, 0] rfl)
              · have hq158 := ifn hq158 c159
                refine lv_aload_n hx hb dX13_one_82 rfl (lv_at hl 4 rfl) ?_
                obtain ⟨v160, ev160, hq158⟩ := obn hq158
                refine cgi S hX hM ev160 ck_7_7_11 q1498 (fun _ h => h) dX13_one_83 ?_
                refine lv_bipush (v := 8) hx hb dX13_one_86 rfl ?_
                refine lv_icmp_ge (tgt := 95) hx hb dX13_one_88 (by decide) (fun c161 => ?_) (fun c161 => ?_)
                · have hq158 := ifp hq158 c161
                  cases hq158
                  exact hAq158 rfl _ _ _ _ _ hM (lv_sub hl [4, 3, 2, 1, 0] rfl)
                · have hq158 := ifn hq158 c161
                  cases hq158
                  exact hBq158 rfl _ _ _ _ _ hM (lv_sub hl [4, 3, 2, 1, 0] rfl)
        · have hF := thr_q hF eb156
          have hz := (Option.some.inj hF)
          subst hz
          exact cxout hM (fun x hx => (hnt x hx).elim) hlocks
      · exact absurd c155 (by decide)
    · intro hBq2
      refine lv_icmp_ne (tgt := 22) hx hb dX13_one_6 (by decide) (fun c3 => ?_) (fun c3 => ?_)
      · have hq2 := ifn hq2 c3
        cases hq2
        exact hAq2 rfl _ _ _ _ _ hM (lv_sub hl [0] rfl)
      · have hq2 := ifp hq2 c3
        refine lv_aload_n hx hb dX13_one_9 rfl (lv_at hl 0 rfl) ?_
        obtain ⟨v4, ev4, hq2⟩ := obn hq2
        refine cgi S hX hM ev4 ck_7_7_7 q470 (u_same (hts _ q471)) dX13_one_10 ?_
        refine lv_bipush (v := 40) hx hb dX13_one_13 rfl ?_
        refine lv_icmp_ne (tgt := 22) hx hb dX13_one_15 (by decide) (fun c5 => ?_) (fun c5 => ?_)
        · have hq2 := ifn hq2 c5
          cases hq2
          exact hAq2 rfl _ _ _ _ _ hM (lv_sub hl [0] rfl)
        · have hq2 := ifp hq2 c5
          cases hq2
          exact hBq2 rfl _ _ _ _ _ hM (lv_sub hl [0] rfl)
def fX15_holds (F : Nat) (rec : HS → Nat → Nat → Int32 → Option Int32) (h0 : HS) (x0 : Nat) (x1 : Nat) (x2 : Int32) : Option (Int32) := ((fR h0 x0 11 11 0).bind fun a1 => ((rec h0 a1 x1 x2).bind fun r2 => (if r2 = 0 then (some 1) else (some 0))))
theorem hyX15_holds : yX15_holds.cls ≠ "java/lang/invoke/MethodHandle" ∧ yX15_holds.cls ≠ "java/lang/invoke/VarHandle" := by decide +kernel
theorem hlX15_holds : (parseMethodDescriptor yX15_holds.desc).map (fun d => d.parameters.length) = some 2 := by decide +kernel
set_option maxHeartbeats 4000000 in
set_option maxRecDepth 100000 in
theorem metX15_holds (l : Launch) [NoTr l] (F : Nat) (D : va_G) (RF RL : Nat) (rec : HS → Nat → Nat → Int32 → Option Int32) (hrec : RecHolds l D RF RL rec) (h0 : HS) (x0 : Nat) (x1 : Nat) (x2 : Int32) (r : Int32) (hF : fX15_holds F rec h0 x0 x1 x2 = some r) : CMet l yX15_holds (ws_ yX15_holds cX15_holds 3 (some .boolean)) (RF + 4) (RL + 87) D [.ref x0, .ref x1, .int x2] h0 h0 (.inr (some (.int r))) := by
  refine CMet.ofW (by decide) ?_
  intro p e s m below meth c s₁ B S hX hM hr hlocks hnt hin
  obtain ⟨hx, hb, hml, hown, hts⟩ := id S
  have hl := lv_entry ([.ref x0, .ref x1, .int x2]) (n := 3) (Nat.le_of_ble_eq_true rfl)
  rw [lg_entry_eq]
  generalize (lg_sl ([.ref x0, .ref x1, .int x2]) ++ List.replicate (3 - (lg_sl ([.ref x0, .ref x1, .int x2])).length) Slot.unset).toArray = ls at hl ⊢
  have hl : lv_has ls 3 [(0, .ref x0), (1, .ref x1), (2, .int x2)] := hl
  unfold fX15_holds at hF
  refine lv_aload_n hx hb dX15_holds_0 rfl (lv_at hl 0 rfl) ?_
  obtain ⟨a1, ea1, hF⟩ := obn hF
  refine cgn S hX hM ea1 ck_11_11_0 q1565 (fun _ h => h) dX15_holds_1 ?_
  refine lv_aload_n hx hb dX15_holds_4 rfl (lv_at hl 1 rfl) ?_
  refine lv_iload_n hx hb dX15_holds_5 rfl (lv_at hl 2 rfl) ?_
  obtain ⟨r2, er2, hF⟩ := obn hF
  refine cdisp (rest := []) S hX hM hrec er2 q1637 hl.1 (Nat.le_of_ble_eq_true rfl) (by omega) (by omega) dX15_holds_6 (fun H locs cs ss hM => ?_)
  refine lv_if_ne (tgt := 16) hx hb dX15_holds_9 (by decide) (fun c3 => ?_) (fun c3 => ?_)
  · have hF := ifn hF c3
    refine lv_iconst (v := 0) hx hb dX15_holds_16 rfl ?_
    have hz := (Option.some.inj hF)
    subst hz
    exact crz S hM hr hlocks (gBn gB0) dX15_holds_17
  · have hF := ifp hF c3
    refine lv_iconst (v := 1) hx hb dX15_holds_12 rfl ?_
    refine lv_goto (tgt := 17) hx hb dX15_holds_13 (by decide) ?_
    have hz := (Option.some.inj hF)
    subst hz
    exact crz S hM hr hlocks (gBn gB1) dX15_holds_17
def lX3_trod_2 (F : Nat) (σ : HS) : Nat → Nat → Int32 → Nat → Int32 → Option ((Unit) ⊕ (Int32))
  | 0, _, _, _, _ => none
  | n + 1, y0, y1, y2, y3 => ((oI σ y2 10 10 3).bind fun v1 => (if v1 < y3 then (some (.inl ())) else ((fR σ y2 10 10 1).bind fun a3 => ((aI σ a3 31 y3).bind fun v4 => gT σ y0 3 3 (((fX3_treadsOn F σ y0 v4 y1).bind fun r5 => (if r5 ≤ 0 then (lX3_trod_2 F σ n y0 y1 y2 (y3 + 1)) else (some (.inr 1)))))))))
def fX3_trod (F : Nat) (h0 : HS) (x0 : Nat) (x1 : Int32) (x2 : Nat) : Option (Int32) := (osm (lX3_trod_2 F h0 F x0 x1 x2 0) id fun q7 => some 0)
theorem hyX3_trod : yX3_trod.cls ≠ "java/lang/invoke/MethodHandle" ∧ yX3_trod.cls ≠ "java/lang/invoke/VarHandle" := by decide +kernel
theorem hlX3_trod : (parseMethodDescriptor yX3_trod.desc).map (fun d => d.parameters.length) = some 2 := by decide +kernel
set_option maxHeartbeats 4000000 in
set_option maxRecDepth 100000 in
theorem wlX3_trod_2 {p : Program} {l : Launch} [NoTr l] {e : Env} {s : State} {m : MethodId} {args : Array Value} {below : List Frame} {meth : Method} {c : Code} {D : va_G} {h0 : HS} (S : CallFix p m c cX3_trod 4 s args lw_all RX3) (hX : CX D (kG h0) s) (σ : HS) (hr : meth.sig.returnType = (some .boolean)) (hlocks : meth.locks = false) (hnt : ∀ x ∈ c.exceptionTable.toList, False) (F : Nat) (res : Int32) : ∀ (n : Nat) (y0 : Nat) (y1 : Int32) (y2 : Nat) (y3 : Int32) (out : (Unit) ⊕ (Int32)), lX3_trod_2 F σ n y0 y1 y2 y3 = some out → (∀ v, out = .inr v → v = res) → (∀ o, out = .inl o → ∀ (H : Heap) (locs : List Loc) (cs ss : Nat) (ls : Array Slot), HI D h0 σ s.heap H locs cs ss → lv_has ls 4 [] → W p l e (cR 1 25 h0) s m args below meth c H locs cs ss (cMQ below D h0 σ (.inr (some (.int res))) args s) (F0 m 32 ls [])) → ∀ (H : Heap) (locs : List Loc) (cs ss : Nat) (ls : Array Slot), HI D h0 σ s.heap H locs cs ss → lv_has ls 4 [(0, .ref y0), (1, .int y1), (2, .ref y2), (3, .int y3)] → W p l e (cR 1 25 h0) s m args below meth c H locs cs ss (cMQ below D h0 σ (.inr (some (.int res))) args s) (F0 m 2 ls []) := by
  intro n
  induction n with
  | zero =>
    intro y0 y1 y2 y3 out hF
    cases (show (none : Option _) = some out from hF)
  | succ n ih =>
    intro y0 y1 y2 y3 out hF hv hk H locs cs ss ls hM hl
    rw [lX3_trod_2] at hF
    obtain ⟨hx, hb, hml, hown, hts⟩ := id S
    refine lv_iload_n hx hb dX3_trod_2 rfl (lv_at hl 3 rfl) ?_
    refine lv_aload_n hx hb dX3_trod_3 rfl (lv_at hl 2 rfl) ?_
    obtain ⟨v1, ev1, hF⟩ := obn hF
    refine cgiN S hX hM ev1 ck_10_10_3 (uq1075 hX) dX3_trod_4 ?_
    refine lv_icmp_gt (tgt := 32) hx hb dX3_trod_7 (by decide) (fun c2 => ?_) (fun c2 => ?_)
    · have hF := ifp hF c2
      cases hF
      exact hk _ rfl _ _ _ _ _ hM (lv_sub hl [] rfl)
    · have hF := ifn hF c2
      refine lv_aload_n hx hb dX3_trod_10 rfl (lv_at hl 0 rfl) ?_
      refine lv_aload_n hx hb dX3_trod_11 rfl (lv_at hl 2 rfl) ?_
      obtain ⟨a3, ea3, hF⟩ := obn hF
      refine cgnN S hX hM ea3 ck_10_10_1 (uq1070 hX) dX3_trod_12 ?_
      refine lv_iload_n hx hb dX3_trod_15 rfl (lv_at hl 3 rfl) ?_
      obtain ⟨v4, ev4, hF⟩ := obn hF
      refine cai S hX hM ev4 dX3_trod_16 ?_
      refine lv_iload_n hx hb dX3_trod_17 rfl (lv_at hl 1 rfl) ?_
      obtain ⟨z5, hF⟩ := gTe hF
      obtain ⟨r5, er5, hF⟩ := obn hF
      refine ccr (rest := []) (st1 := [.int r5]) S hX hM (metX3_treadsOn l F D σ y0 v4 y1 r5 er5) (ci_V (C := "RugReader$Rug") (As := [.int v4, .int y1]) (rest := []) S q1650 q1651 q1652 q1653 hyX3_treadsOn (HI.cell (ci := 2) hX hM (by decide) (by omega)) hlX3_treadsOn rfl dX3_trod_18) q1653 q108 (Nat.le_of_ble_eq_true rfl) (Nat.le_of_ble_eq_true rfl) hl.1 (Nat.le_of_ble_eq_true rfl) rfl (fun H locs cs ss hM => ?_)
      refine lv_if_le (tgt := 26) hx hb dX3_trod_21 (by decide) (fun c6 => ?_) (fun c6 => ?_)
      · have hF := ifp hF c6
        refine lv_iinc (v := y3 + 1) (lv' := [(3, .int (y3 + 1)), (0, .ref y0), (1, .int y1), (2, .ref y2)]) hx hb dX3_trod_26 hl (k := 3) rfl rfl (by decide) rfl (fun ls hl => ?_)
        refine lv_goto (tgt := 2) hx hb dX3_trod_29 (by decide) ?_
        exact ih _ _ _ _ out hF hv hk _ _ _ _ _ hM (lv_sub hl [1, 2, 3, 0] rfl)
      · have hF := ifn hF c6
        refine lv_iconst (v := 1) hx hb dX3_trod_24 rfl ?_
        have hz := (hv _ ((Option.some.inj hF)).symm)
        subst hz
        exact crz S hM hr hlocks (gBn gB1) dX3_trod_25
set_option maxHeartbeats 4000000 in
set_option maxRecDepth 100000 in
theorem metX3_trod (l : Launch) [NoTr l] (F : Nat) (D : va_G) (h0 : HS) (x0 : Nat) (x1 : Int32) (x2 : Nat) (r : Int32) (hF : fX3_trod F h0 x0 x1 x2 = some r) : CMet l yX3_trod (ws_ yX3_trod cX3_trod 4 (some .boolean)) 1 25 D [.ref x0, .int x1, .ref x2] h0 h0 (.inr (some (.int r))) := by
  refine CMet.ofW (by decide) ?_
  intro p e s m below meth c s₁ B S hX hM hr hlocks hnt hin
  obtain ⟨hx, hb, hml, hown, hts⟩ := id S
  have hl := lv_entry ([.ref x0, .int x1, .ref x2]) (n := 4) (Nat.le_of_ble_eq_true rfl)
  rw [lg_entry_eq]
  generalize (lg_sl ([.ref x0, .int x1, .ref x2]) ++ List.replicate (4 - (lg_sl ([.ref x0, .int x1, .ref x2])).length) Slot.unset).toArray = ls at hl ⊢
  have hl : lv_has ls 4 [(0, .ref x0), (1, .int x1), (2, .ref x2)] := hl
  unfold fX3_trod at hF
  refine lv_iconst (v := 0) hx hb dX3_trod_0 rfl ?_
  refine lv_istore_n (lv' := [(3, .int 0), (0, .ref x0), (1, .int x1), (2, .ref x2)]) hx hb dX3_trod_1 rfl hl (by decide) rfl (fun ls hl => ?_)
  obtain ⟨oq7, hq7, h1q7, h2q7⟩ := osx hF
  refine wlX3_trod_2 S hX _ hr hlocks hnt F _  F _ _ _ _ oq7 hq7 (fun v e => (h2q7 v e)) (fun q7 eq7 H locs cs ss ls hM hl => ?_) _ _ _ _ _ hM (lv_sub hl [1, 2, 3, 0] rfl)
  have hF := h1q7 _ eq7
  refine lv_iconst (v := 0) hx hb dX3_trod_32 rfl ?_
  have hz := (Option.some.inj hF)
  subst hz
  exact crz S hM hr hlocks (gBn gB0) dX3_trod_33
def fX16_holds (F : Nat) (h0 : HS) (x0 : Nat) (x1 : Nat) (x2 : Int32) : Option (Int32) := ((fR h0 x1 3 3 0).bind fun a1 => ((fR h0 a1 2 2 6).bind fun a2 => ((oI h0 x0 12 12 0).bind fun v3 => gT h0 a2 15 15 (((fJ2_get F h0 a2 v3).bind fun r4 => gT h0 r4 10 10 (gT h0 x1 3 3 (((fX3_trod F h0 x1 x2 r4).bind fun r6 => gB r6 (some r6)))))))))
theorem hyX16_holds : yX16_holds.cls ≠ "java/lang/invoke/MethodHandle" ∧ yX16_holds.cls ≠ "java/lang/invoke/VarHandle" := by decide +kernel
theorem hlX16_holds : (parseMethodDescriptor yX16_holds.desc).map (fun d => d.parameters.length) = some 2 := by decide +kernel
set_option maxHeartbeats 4000000 in
set_option maxRecDepth 100000 in
theorem metX16_holds (l : Launch) [NoTr l] (F : Nat) (D : va_G) (RF RL : Nat) (h0 : HS) (x0 : Nat) (x1 : Nat) (x2 : Int32) (r : Int32) (hF : fX16_holds F h0 x0 x1 x2 = some r) : CMet l yX16_holds (ws_ yX16_holds cX16_holds 3 (some .boolean)) (RF + 4) (RL + 87) D [.ref x0, .ref x1, .int x2] h0 h0 (.inr (some (.int r))) := by
  refine CMet.ofW (by decide) ?_
  intro p e s m below meth c s₁ B S hX hM hr hlocks hnt hin
  obtain ⟨hx, hb, hml, hown, hts⟩ := id S
  have hl := lv_entry ([.ref x0, .ref x1, .int x2]) (n := 3) (Nat.le_of_ble_eq_true rfl)
  rw [lg_entry_eq]
  generalize (lg_sl ([.ref x0, .ref x1, .int x2]) ++ List.replicate (3 - (lg_sl ([.ref x0, .ref x1, .int x2])).length) Slot.unset).toArray = ls at hl ⊢
  have hl : lv_has ls 3 [(0, .ref x0), (1, .ref x1), (2, .int x2)] := hl
  unfold fX16_holds at hF
  refine lv_aload_n hx hb dX16_holds_0 rfl (lv_at hl 1 rfl) ?_
  refine lv_iload_n hx hb dX16_holds_1 rfl (lv_at hl 2 rfl) ?_
  refine lv_aload_n hx hb dX16_holds_2 rfl (lv_at hl 1 rfl) ?_
  obtain ⟨a1, ea1, hF⟩ := obn hF
  refine cgnN S hX hM ea1 ck_3_3_0 (uq254 hX) dX16_holds_3 ?_
  obtain ⟨a2, ea2, hF⟩ := obn hF
  refine cgnN S hX hM ea2 ck_2_2_6 (uq206 hX) dX16_holds_6 ?_
  refine lv_aload_n hx hb dX16_holds_9 rfl (lv_at hl 0 rfl) ?_
  obtain ⟨v3, ev3, hF⟩ := obn hF
  refine cgi S hX hM ev3 ck_12_12_0 q1582 (fun _ h => h) dX16_holds_10 ?_
  obtain ⟨z4, hF⟩ := gTe hF
  obtain ⟨r4, er4, hF⟩ := obn hF
  refine ccr (rest := [.int x2, .ref x1]) (st1 := [.ref r4, .int x2, .ref x1]) S hX hM (metJ2_get l F D h0 a2 v3 r4 er4) (ci_V (C := "java/util/ArrayList") (As := [.int v3]) (rest := [.int x2, .ref x1]) S q1660 q925 q926 q927 hyJ2_get (HI.cell (ci := 14) hX hM (by decide) (by omega)) hlJ2_get rfl dX16_holds_13) q927 q107 (by omega) (by omega) hl.1 (Nat.le_of_ble_eq_true rfl) rfl (fun H locs cs ss hM => ?_)
  obtain ⟨z5, hF⟩ := gTe hF
  refine ccs (ci := 9) S hX hM (by decide) (by omega) q1661 dX16_holds_16 ?_
  obtain ⟨z6, hF⟩ := gTe hF
  obtain ⟨r6, er6, hF⟩ := obn hF
  refine ccr (rest := []) (st1 := [.int r6]) S hX hM (metX3_trod l F D h0 x1 x2 r4 r6 er6) (ci_V (C := "RugReader$Rug") (As := [.int x2, .ref r4]) (rest := []) S q1662 q1663 q1664 q1665 hyX3_trod (HI.cell (ci := 2) hX hM (by decide) (by omega)) hlX3_trod rfl dX16_holds_19) q1665 q108 (by omega) (by omega) hl.1 (Nat.le_of_ble_eq_true rfl) rfl (fun H locs cs ss hM => ?_)
  obtain ⟨z7, hF⟩ := gBe hF
  have hz := (Option.some.inj hF)
  subst hz
  exact crz S hM hr hlocks (gBn z7) dX16_holds_22
def fX17_value (F : Nat) (h0 : HS) (x0 : Nat) (x1 : Nat) (x2 : Int32) : Option (Int32) := ((fR h0 x1 3 3 0).bind fun a1 => ((fR h0 a1 2 2 5).bind fun a2 => gT h0 a2 15 15 (((fJ2_get F h0 a2 x2).bind fun r3 => gT h0 r3 9 9 (((oI h0 x0 13 13 0).bind fun v5 => (if v5 = 0 then ((oI h0 r3 9 9 1).bind fun v6 => some v6) else (if v5 = 1 then ((oI h0 r3 9 9 2).bind fun v8 => some v8) else (if v5 = 2 then ((oI h0 r3 9 9 3).bind fun v10 => some v10) else (if v5 = 3 then (gT h0 x1 3 3 (((fX3_treadsOf F h0 x1 x2).bind fun r12 => some r12))) else (if v5 = 4 then (gT h0 x1 3 3 (((fX3_tuftsOf F h0 x1 x2).bind fun r14 => some r14))) else (some x2))))))))))))
theorem hyX17_value : yX17_value.cls ≠ "java/lang/invoke/MethodHandle" ∧ yX17_value.cls ≠ "java/lang/invoke/VarHandle" := by decide +kernel
theorem hlX17_value : (parseMethodDescriptor yX17_value.desc).map (fun d => d.parameters.length) = some 2 := by decide +kernel
set_option maxHeartbeats 4000000 in
set_option maxRecDepth 100000 in
theorem metX17_value (l : Launch) [NoTr l] (F : Nat) (D : va_G) (h0 : HS) (x0 : Nat) (x1 : Nat) (x2 : Int32) (r : Int32) (hF : fX17_value F h0 x0 x1 x2 = some r) : CMet l yX17_value (ws_ yX17_value cX17_value 4 (some .int)) 3 64 D [.ref x0, .ref x1, .int x2] h0 h0 (.inr (some (.int r))) := by
  refine CMet.ofW (by decide) ?_
  intro p e s m below meth c s₁ B S hX hM hr hlocks hnt hin
  obtain ⟨hx, hb, hml, hown, hts⟩ := id S
  have hl := lv_entry ([.ref x0, .ref x1, .int x2]) (n := 4) (Nat.le_of_ble_eq_true rfl)
  rw [lg_entry_eq]
  generalize (lg_sl ([.ref x0, .ref x1, .int x2]) ++ List.replicate (4 - (lg_sl ([.ref x0, .ref x1, .int x2])).length) Slot.unset).toArray = ls at hl ⊢
  have hl : lv_has ls 4 [(0, .ref x0), (1, .ref x1), (2, .int x2)] := hl
  unfold fX17_value at hF
  refine lv_aload_n hx hb dX17_value_0 rfl (lv_at hl 1 rfl) ?_
  obtain ⟨a1, ea1, hF⟩ := obn hF
  refine cgnN S hX hM ea1 ck_3_3_0 (uq252 hX) dX17_value_1 ?_
  obtain ⟨a2, ea2, hF⟩ := obn hF
  refine cgnN S hX hM ea2 ck_2_2_5 (uq200 hX) dX17_value_4 ?_
  refine lv_iload_n hx hb dX17_value_7 rfl (lv_at hl 2 rfl) ?_
  obtain ⟨z3, hF⟩ := gTe hF
  obtain ⟨r3, er3, hF⟩ := obn hF
  refine ccr (rest := []) (st1 := [.ref r3]) S hX hM (metJ2_get l F D h0 a2 x2 r3 er3) (ci_V (C := "java/util/ArrayList") (As := [.int x2]) (rest := []) S q1644 q925 q926 q927 hyJ2_get (HI.cell (ci := 14) hX hM (by decide) (by omega)) hlJ2_get rfl dX17_value_8) q927 q107 (Nat.le_of_ble_eq_true rfl) (Nat.le_of_ble_eq_true rfl) hl.1 (Nat.le_of_ble_eq_true rfl) rfl (fun H locs cs ss hM => ?_)
  obtain ⟨z4, hF⟩ := gTe hF
  refine ccs (ci := 8) S hX hM (by decide) (by omega) q1645 dX17_value_11 ?_
  refine lv_astore_n (lv' := [(3, .ref r3), (0, .ref x0), (1, .ref x1), (2, .int x2)]) hx hb dX17_value_14 rfl hl (by decide) rfl (fun ls hl => ?_)
  refine lv_aload_n hx hb dX17_value_15 rfl (lv_at hl 1 rfl) ?_
  obtain ⟨v5, ev5, hF⟩ := obn hF
  refine cgi S hX hM ev5 ck_13_13_0 q1599 (fun _ h => h) dX17_value_16 ?_
  by_cases c7 : v5 = 0
  · have hF := ifp hF c7
    refine lv_tableIn (off := 33) (tgt := 52) hx hb dX17_value_19 (by rw [c7]; decide) (by rw [c7]; decide) (by rw [c7]; rfl) (by decide) ?_
    refine lv_aload_n hx hb dX17_value_52 rfl (lv_at hl 0 rfl) ?_
    obtain ⟨v6, ev6, hF⟩ := obn hF
    refine cgiN S hX hM ev6 ck_9_9_1 (uq947 hX) dX17_value_53 ?_
    have hz := (Option.some.inj hF)
    subst hz
    exact cri S hM hr hlocks dX17_value_56
  · have hF := ifn hF c7
    by_cases c9 : v5 = 1
    · have hF := ifp hF c9
      refine lv_tableIn (off := 38) (tgt := 57) hx hb dX17_value_19 (by rw [c9]; decide) (by rw [c9]; decide) (by rw [c9]; rfl) (by decide) ?_
      refine lv_aload_n hx hb dX17_value_57 rfl (lv_at hl 0 rfl) ?_
      obtain ⟨v8, ev8, hF⟩ := obn hF
      refine cgiN S hX hM ev8 ck_9_9_2 (uq951 hX) dX17_value_58 ?_
      have hz := (Option.some.inj hF)
      subst hz
      exact cri S hM hr hlocks dX17_value_61
    · have hF := ifn hF c9
      by_cases c11 : v5 = 2
      · have hF := ifp hF c11
        refine lv_tableIn (off := 43) (tgt := 62) hx hb dX17_value_19 (by rw [c11]; decide) (by rw [c11]; decide) (by rw [c11]; rfl) (by decide) ?_
        refine lv_aload_n hx hb dX17_value_62 rfl (lv_at hl 0 rfl) ?_
        obtain ⟨v10, ev10, hF⟩ := obn hF
        refine cgiN S hX hM ev10 ck_9_9_3 (uq955 hX) dX17_value_63 ?_
        have hz := (Option.some.inj hF)
        subst hz
        exact cri S hM hr hlocks dX17_value_66
      · have hF := ifn hF c11
        by_cases c13 : v5 = 3
        · have hF := ifp hF c13
          refine lv_tableIn (off := 48) (tgt := 67) hx hb dX17_value_19 (by rw [c13]; decide) (by rw [c13]; decide) (by rw [c13]; rfl) (by decide) ?_
          refine lv_aload_n hx hb dX17_value_67 rfl (lv_at hl 2 rfl) ?_
          refine lv_iload_n hx hb dX17_value_68 rfl (lv_at hl 3 rfl) ?_
          obtain ⟨z12, hF⟩ := gTe hF
          obtain ⟨r12, er12, hF⟩ := obn hF
          refine ccr (rest := []) (st1 := [.int r12]) S hX hM (metX3_treadsOf l F D h0 x1 x2 r12 er12) (ci_V (C := "RugReader$Rug") (As := [.int x2]) (rest := []) S q1646 q1647 q1648 q1649 hyX3_treadsOf (HI.cell (ci := 2) hX hM (by decide) (by omega)) hlX3_treadsOf rfl dX17_value_69) q1649 q108 (Nat.le_of_ble_eq_true rfl) (Nat.le_of_ble_eq_true rfl) hl.1 (Nat.le_of_ble_eq_true rfl) rfl (fun H locs cs ss hM => ?_)
          have hz := (Option.some.inj hF)
          subst hz
          exact cri S hM hr hlocks dX17_value_72
        · have hF := ifn hF c13
          by_cases c15 : v5 = 4
          · have hF := ifp hF c15
            refine lv_tableIn (off := 54) (tgt := 73) hx hb dX17_value_19 (by rw [c15]; decide) (by rw [c15]; decide) (by rw [c15]; rfl) (by decide) ?_
            refine lv_aload_n hx hb dX17_value_73 rfl (lv_at hl 2 rfl) ?_
            refine lv_iload_n hx hb dX17_value_74 rfl (lv_at hl 3 rfl) ?_
            obtain ⟨z14, hF⟩ := gTe hF
            obtain ⟨r14, er14, hF⟩ := obn hF
            refine ccr (rest := []) (st1 := [.int r14]) S hX hM (metX3_tuftsOf l F D h0 x1 x2 r14 er14) (ci_V (C := "RugReader$Rug") (As := [.int x2]) (rest := []) S q1654 q1655 q1656 q1657 hyX3_tuftsOf (HI.cell (ci := 2) hX hM (by decide) (by omega)) hlX3_tuftsOf rfl dX17_value_75) q1657 q108 (Nat.le_of_ble_eq_true rfl) (Nat.le_of_ble_eq_true rfl) hl.1 (Nat.le_of_ble_eq_true rfl) rfl (fun H locs cs ss hM => ?_)
            have hz := (Option.some.inj hF)
            subst hz
            exact cri S hM hr hlocks dX17_value_78
          · have hF := ifn hF c15
            refine lv_tableOut (tgt := 79) hx hb dX17_value_19 (by first | omega | (have := lv_neT (a := 0) c7 rfl; have := lv_neT (a := 1) c9 rfl; have := lv_neT (a := 2) c11 rfl; have := lv_neT (a := 3) c13 rfl; have := lv_neT (a := 4) c15 rfl; omega)) (by decide) ?_
            refine lv_iload_n hx hb dX17_value_79 rfl (lv_at hl 3 rfl) ?_
            have hz := (Option.some.inj hF)
            subst hz
            exact cri S hM hr hlocks dX17_value_80
def fX17_holds (F : Nat) (h0 : HS) (x0 : Nat) (x1 : Nat) (x2 : Int32) : Option (Int32) := gT h0 x0 13 13 (((fX17_value F h0 x0 x1 x2).bind fun r1 => ((oI h0 x0 13 13 1).bind fun v2 => (if v2 = 60 then ((oI h0 x0 13 13 2).bind fun v10 => (if v10 ≤ r1 then (some 0) else (some 1))) else ((oI h0 x0 13 13 1).bind fun v4 => (if v4 = 61 then ((oI h0 x0 13 13 2).bind fun v8 => (if r1 = v8 then (some 1) else (some 0))) else ((oI h0 x0 13 13 2).bind fun v6 => (if r1 ≤ v6 then (some 0) else (some 1)))))))))
theorem hyX17_holds : yX17_holds.cls ≠ "java/lang/invoke/MethodHandle" ∧ yX17_holds.cls ≠ "java/lang/invoke/VarHandle" := by decide +kernel
theorem hlX17_holds : (parseMethodDescriptor yX17_holds.desc).map (fun d => d.parameters.length) = some 2 := by decide +kernel
set_option maxHeartbeats 4000000 in
set_option maxRecDepth 100000 in
theorem metX17_holds (l : Launch) [NoTr l] (F : Nat) (D : va_G) (RF RL : Nat) (h0 : HS) (x0 : Nat) (x1 : Nat) (x2 : Int32) (r : Int32) (hF : fX17_holds F h0 x0 x1 x2 = some r) : CMet l yX17_holds (ws_ yX17_holds cX17_holds 4 (some .boolean)) (RF + 4) (RL + 87) D [.ref x0, .ref x1, .int x2] h0 h0 (.inr (some (.int r))) := by
  refine CMet.ofW (by decide) ?_
  intro p e s m below meth c s₁ B S hX hM hr hlocks hnt hin
  obtain ⟨hx, hb, hml, hown, hts⟩ := id S
  have hl := lv_entry ([.ref x0, .ref x1, .int x2]) (n := 4) (Nat.le_of_ble_eq_true rfl)
  rw [lg_entry_eq]
  generalize (lg_sl ([.ref x0, .ref x1, .int x2]) ++ List.replicate (4 - (lg_sl ([.ref x0, .ref x1, .int x2])).length) Slot.unset).toArray = ls at hl ⊢
  have hl : lv_has ls 4 [(0, .ref x0), (1, .ref x1), (2, .int x2)] := hl
  unfold fX17_holds at hF
  refine lv_aload_n hx hb dX17_holds_0 rfl (lv_at hl 0 rfl) ?_
  refine lv_aload_n hx hb dX17_holds_1 rfl (lv_at hl 1 rfl) ?_
  refine lv_iload_n hx hb dX17_holds_2 rfl (lv_at hl 2 rfl) ?_
  obtain ⟨z1, hF⟩ := gTe hF
  obtain ⟨r1, er1, hF⟩ := obn hF
  refine ccr (rest := []) (st1 := [.int r1]) S hX hM (metX17_value l F D h0 x0 x1 x2 r1 er1) (ci_V (C := "RugReader$Than") (As := [.ref x1, .int x2]) (rest := []) S q1640 q1642 qs44 q1643 hyX17_value (HI.cell (ci := 12) hX hM (by decide) (by omega)) hlX17_value rfl dX17_holds_3) q1643 q140 (by omega) (by omega) hl.1 (Nat.le_of_ble_eq_true rfl) rfl (fun H locs cs ss hM => ?_)
  refine lv_istore_n (lv' := [(3, .int r1), (0, .ref x0), (1, .ref x1), (2, .int x2)]) hx hb dX17_holds_6 rfl hl (by decide) rfl (fun ls hl => ?_)
  refine lv_aload_n hx hb dX17_holds_7 rfl (lv_at hl 1 rfl) ?_
  obtain ⟨v2, ev2, hF⟩ := obn hF
  refine cgi S hX hM ev2 ck_13_13_1 q1600 (fun _ h => h) dX17_holds_8 ?_
  refine lv_bipush (v := 60) hx hb dX17_holds_11 rfl ?_
  refine lv_icmp_ne (tgt := 32) hx hb dX17_holds_13 (by decide) (fun c3 => ?_) (fun c3 => ?_)
  · have hF := ifn hF c3
    refine lv_aload_n hx hb dX17_holds_32 rfl (lv_at hl 1 rfl) ?_
    obtain ⟨v4, ev4, hF⟩ := obn hF
    refine cgi S hX hM ev4 ck_13_13_1 q1600 (fun _ h => h) dX17_holds_33 ?_
    refine lv_bipush (v := 61) hx hb dX17_holds_36 rfl ?_
    refine lv_icmp_ne (tgt := 57) hx hb dX17_holds_38 (by decide) (fun c5 => ?_) (fun c5 => ?_)
    · have hF := ifn hF c5
      refine lv_iload_n hx hb dX17_holds_57 rfl (lv_at hl 0 rfl) ?_
      refine lv_aload_n hx hb dX17_holds_58 rfl (lv_at hl 1 rfl) ?_
      obtain ⟨v6, ev6, hF⟩ := obn hF
      refine cgi S hX hM ev6 ck_13_13_2 q1601 (fun _ h => h) dX17_holds_59 ?_
      refine lv_icmp_le (tgt := 69) hx hb dX17_holds_62 (by decide) (fun c7 => ?_) (fun c7 => ?_)
      · have hF := ifp hF c7
        refine lv_iconst (v := 0) hx hb dX17_holds_69 rfl ?_
        have hz := (Option.some.inj hF)
        subst hz
        exact crz S hM hr hlocks (gBn gB0) dX17_holds_70
      · have hF := ifn hF c7
        refine lv_iconst (v := 1) hx hb dX17_holds_65 rfl ?_
        refine lv_goto (tgt := 70) hx hb dX17_holds_66 (by decide) ?_
        have hz := (Option.some.inj hF)
        subst hz
        exact crz S hM hr hlocks (gBn gB1) dX17_holds_70
    · have hF := ifp hF c5
      refine lv_iload_n hx hb dX17_holds_41 rfl (lv_at hl 0 rfl) ?_
      refine lv_aload_n hx hb dX17_holds_42 rfl (lv_at hl 1 rfl) ?_
      obtain ⟨v8, ev8, hF⟩ := obn hF
      refine cgi S hX hM ev8 ck_13_13_2 q1601 (fun _ h => h) dX17_holds_43 ?_
      refine lv_icmp_ne (tgt := 53) hx hb dX17_holds_46 (by decide) (fun c9 => ?_) (fun c9 => ?_)
      · have hF := ifn hF c9
        refine lv_iconst (v := 0) hx hb dX17_holds_53 rfl ?_
        refine lv_goto (tgt := 70) hx hb dX17_holds_54 (by decide) ?_
        have hz := (Option.some.inj hF)
        subst hz
        exact crz S hM hr hlocks (gBn gB0) dX17_holds_70
      · have hF := ifp hF c9
        refine lv_iconst (v := 1) hx hb dX17_holds_49 rfl ?_
        refine lv_goto (tgt := 70) hx hb dX17_holds_50 (by decide) ?_
        have hz := (Option.some.inj hF)
        subst hz
        exact crz S hM hr hlocks (gBn gB1) dX17_holds_70
  · have hF := ifp hF c3
    refine lv_iload_n hx hb dX17_holds_16 rfl (lv_at hl 0 rfl) ?_
    refine lv_aload_n hx hb dX17_holds_17 rfl (lv_at hl 1 rfl) ?_
    obtain ⟨v10, ev10, hF⟩ := obn hF
    refine cgi S hX hM ev10 ck_13_13_2 q1601 (fun _ h => h) dX17_holds_18 ?_
    refine lv_icmp_ge (tgt := 28) hx hb dX17_holds_21 (by decide) (fun c11 => ?_) (fun c11 => ?_)
    · have hF := ifp hF c11
      refine lv_iconst (v := 0) hx hb dX17_holds_28 rfl ?_
      refine lv_goto (tgt := 70) hx hb dX17_holds_29 (by decide) ?_
      have hz := (Option.some.inj hF)
      subst hz
      exact crz S hM hr hlocks (gBn gB0) dX17_holds_70
    · have hF := ifn hF c11
      refine lv_iconst (v := 1) hx hb dX17_holds_24 rfl ?_
      refine lv_goto (tgt := 70) hx hb dX17_holds_25 (by decide) ?_
      have hz := (Option.some.inj hF)
      subst hz
      exact crz S hM hr hlocks (gBn gB1) dX17_holds_70
def fX18_holds (F : Nat) (rec : HS → Nat → Nat → Int32 → Option Int32) (h0 : HS) (x0 : Nat) (x1 : Nat) (x2 : Int32) : Option (Int32) := ((oI h0 x0 14 14 2).bind fun v1 => (if v1 = 0 then ((fR h0 x0 14 14 0).bind fun a3 => ((rec h0 a3 x1 x2).bind fun r4 => (if r4 = 0 then ((fR h0 x0 14 14 1).bind fun a6 => ((rec h0 a6 x1 x2).bind fun r7 => (if r7 = 0 then (some 0) else (some 1)))) else (some 1)))) else ((fR h0 x0 14 14 0).bind fun a9 => ((rec h0 a9 x1 x2).bind fun r10 => (if r10 = 0 then (some 0) else ((fR h0 x0 14 14 1).bind fun a12 => ((rec h0 a12 x1 x2).bind fun r13 => (if r13 = 0 then (some 0) else (some 1)))))))))
theorem hyX18_holds : yX18_holds.cls ≠ "java/lang/invoke/MethodHandle" ∧ yX18_holds.cls ≠ "java/lang/invoke/VarHandle" := by decide +kernel
theorem hlX18_holds : (parseMethodDescriptor yX18_holds.desc).map (fun d => d.parameters.length) = some 2 := by decide +kernel
set_option maxHeartbeats 4000000 in
set_option maxRecDepth 100000 in
theorem metX18_holds (l : Launch) [NoTr l] (F : Nat) (D : va_G) (RF RL : Nat) (rec : HS → Nat → Nat → Int32 → Option Int32) (hrec : RecHolds l D RF RL rec) (h0 : HS) (x0 : Nat) (x1 : Nat) (x2 : Int32) (r : Int32) (hF : fX18_holds F rec h0 x0 x1 x2 = some r) : CMet l yX18_holds (ws_ yX18_holds cX18_holds 3 (some .boolean)) (RF + 4) (RL + 87) D [.ref x0, .ref x1, .int x2] h0 h0 (.inr (some (.int r))) := by
  refine CMet.ofW (by decide) ?_
  intro p e s m below meth c s₁ B S hX hM hr hlocks hnt hin
  obtain ⟨hx, hb, hml, hown, hts⟩ := id S
  have hl := lv_entry ([.ref x0, .ref x1, .int x2]) (n := 3) (Nat.le_of_ble_eq_true rfl)
  rw [lg_entry_eq]
  generalize (lg_sl ([.ref x0, .ref x1, .int x2]) ++ List.replicate (3 - (lg_sl ([.ref x0, .ref x1, .int x2])).length) Slot.unset).toArray = ls at hl ⊢
  have hl : lv_has ls 3 [(0, .ref x0), (1, .ref x1), (2, .int x2)] := hl
  unfold fX18_holds at hF
  refine lv_aload_n hx hb dX18_holds_0 rfl (lv_at hl 0 rfl) ?_
  obtain ⟨v1, ev1, hF⟩ := obn hF
  refine cgi S hX hM ev1 ck_14_14_2 q1618 (fun _ h => h) dX18_holds_1 ?_
  refine lv_if_eq (tgt := 39) hx hb dX18_holds_4 (by decide) (fun c2 => ?_) (fun c2 => ?_)
  · have hF := ifp hF c2
    refine lv_aload_n hx hb dX18_holds_39 rfl (lv_at hl 0 rfl) ?_
    obtain ⟨a3, ea3, hF⟩ := obn hF
    refine cgn S hX hM ea3 ck_14_14_0 q1616 (fun _ h => h) dX18_holds_40 ?_
    refine lv_aload_n hx hb dX18_holds_43 rfl (lv_at hl 1 rfl) ?_
    refine lv_iload_n hx hb dX18_holds_44 rfl (lv_at hl 2 rfl) ?_
    obtain ⟨r4, er4, hF⟩ := obn hF
    refine cdisp (rest := []) S hX hM hrec er4 q1668 hl.1 (Nat.le_of_ble_eq_true rfl) (by omega) (by omega) dX18_holds_45 (fun H locs cs ss hM => ?_)
    refine lv_if_ne (tgt := 63) hx hb dX18_holds_48 (by decide) (fun c5 => ?_) (fun c5 => ?_)
    · have hF := ifn hF c5
      refine lv_iconst (v := 1) hx hb dX18_holds_63 rfl ?_
      refine lv_goto (tgt := 68) hx hb dX18_holds_64 (by decide) ?_
      have hz := (Option.some.inj hF)
      subst hz
      exact crz S hM hr hlocks (gBn gB1) dX18_holds_68
    · have hF := ifp hF c5
      refine lv_aload_n hx hb dX18_holds_51 rfl (lv_at hl 0 rfl) ?_
      obtain ⟨a6, ea6, hF⟩ := obn hF
      refine cgn S hX hM ea6 ck_14_14_1 q1617 (fun _ h => h) dX18_holds_52 ?_
      refine lv_aload_n hx hb dX18_holds_55 rfl (lv_at hl 1 rfl) ?_
      refine lv_iload_n hx hb dX18_holds_56 rfl (lv_at hl 2 rfl) ?_
      obtain ⟨r7, er7, hF⟩ := obn hF
      refine cdisp (rest := []) S hX hM hrec er7 q1668 hl.1 (Nat.le_of_ble_eq_true rfl) (by omega) (by omega) dX18_holds_57 (fun H locs cs ss hM => ?_)
      refine lv_if_eq (tgt := 67) hx hb dX18_holds_60 (by decide) (fun c8 => ?_) (fun c8 => ?_)
      · have hF := ifp hF c8
        refine lv_iconst (v := 0) hx hb dX18_holds_67 rfl ?_
        have hz := (Option.some.inj hF)
        subst hz
        exact crz S hM hr hlocks (gBn gB0) dX18_holds_68
      · have hF := ifn hF c8
        refine lv_iconst (v := 1) hx hb dX18_holds_63 rfl ?_
        refine lv_goto (tgt := 68) hx hb dX18_holds_64 (by decide) ?_
        have hz := (Option.some.inj hF)
        subst hz
        exact crz S hM hr hlocks (gBn gB1) dX18_holds_68
  · have hF := ifn hF c2
    refine lv_aload_n hx hb dX18_holds_7 rfl (lv_at hl 0 rfl) ?_
    obtain ⟨a9, ea9, hF⟩ := obn hF
    refine cgn S hX hM ea9 ck_14_14_0 q1616 (fun _ h => h) dX18_holds_8 ?_
    refine lv_aload_n hx hb dX18_holds_11 rfl (lv_at hl 1 rfl) ?_
    refine lv_iload_n hx hb dX18_holds_12 rfl (lv_at hl 2 rfl) ?_
    obtain ⟨r10, er10, hF⟩ := obn hF
    refine cdisp (rest := []) S hX hM hrec er10 q1668 hl.1 (Nat.le_of_ble_eq_true rfl) (by omega) (by omega) dX18_holds_13 (fun H locs cs ss hM => ?_)
    refine lv_if_eq (tgt := 35) hx hb dX18_holds_16 (by decide) (fun c11 => ?_) (fun c11 => ?_)
    · have hF := ifp hF c11
      refine lv_iconst (v := 0) hx hb dX18_holds_35 rfl ?_
      refine lv_goto (tgt := 68) hx hb dX18_holds_36 (by decide) ?_
      have hz := (Option.some.inj hF)
      subst hz
      exact crz S hM hr hlocks (gBn gB0) dX18_holds_68
    · have hF := ifn hF c11
      refine lv_aload_n hx hb dX18_holds_19 rfl (lv_at hl 0 rfl) ?_
      obtain ⟨a12, ea12, hF⟩ := obn hF
      refine cgn S hX hM ea12 ck_14_14_1 q1617 (fun _ h => h) dX18_holds_20 ?_
      refine lv_aload_n hx hb dX18_holds_23 rfl (lv_at hl 1 rfl) ?_
      refine lv_iload_n hx hb dX18_holds_24 rfl (lv_at hl 2 rfl) ?_
      obtain ⟨r13, er13, hF⟩ := obn hF
      refine cdisp (rest := []) S hX hM hrec er13 q1668 hl.1 (Nat.le_of_ble_eq_true rfl) (by omega) (by omega) dX18_holds_25 (fun H locs cs ss hM => ?_)
      refine lv_if_eq (tgt := 35) hx hb dX18_holds_28 (by decide) (fun c14 => ?_) (fun c14 => ?_)
      · have hF := ifp hF c14
        refine lv_iconst (v := 0) hx hb dX18_holds_35 rfl ?_
        refine lv_goto (tgt := 68) hx hb dX18_holds_36 (by decide) ?_
        have hz := (Option.some.inj hF)
        subst hz
        exact crz S hM hr hlocks (gBn gB0) dX18_holds_68
      · have hF := ifn hF c14
        refine lv_iconst (v := 1) hx hb dX18_holds_31 rfl ?_
        refine lv_goto (tgt := 68) hx hb dX18_holds_32 (by decide) ?_
        have hz := (Option.some.inj hF)
        subst hz
        exact crz S hM hr hlocks (gBn gB1) dX18_holds_68
def fX0_person (F : Nat) (h0 : HS) (x0 : Nat) (x1 : Int32) (x2 : Int32) (x3 : Nat) : Option (Int32 × HS) := gT h0 x0 1 1 (((fX1_person F h0 x0 x1 x2).bind fun r1 => thr r1.1 (fun b1 => gT r1.2 b1 19 19 (some (1, r1.2))) fun w1 => ((wI r1.2 x3 41 0 w1).bind fun σ2 => some (0, σ2))))
theorem hyX0_person : yX0_person.cls ≠ "java/lang/invoke/MethodHandle" ∧ yX0_person.cls ≠ "java/lang/invoke/VarHandle" := by decide +kernel
theorem hlX0_person : (parseMethodDescriptor yX0_person.desc).map (fun d => d.parameters.length) = some 4 := by decide +kernel
set_option maxHeartbeats 4000000 in
set_option maxRecDepth 100000 in
theorem metX0_person (l : Launch) [NoTr l] (F : Nat) (D : va_G) (h0 : HS) (x0 : Nat) (x1 : Int32) (x2 : Int32) (x3 : Nat) (r : Int32 × HS) (hF : fX0_person F h0 x0 x1 x2 x3 = some r) : CMet l yX0_person (wsW_ yX0_person cX0_person 5 (some .int) [(0, 10, 13, 13)]) 11 263 D [.ref x0, .int x1, .int x2, .ref x3] h0 r.2 (.inr (some (.int r.1))) := by
  refine CMet.ofWH (by decide) ?_
  intro p e s m below meth c s₁ B S hX hM hr hlocks hnt hin
  obtain ⟨hx, hb, hml, hown, hts⟩ := id S
  have hl := lv_entry ([.ref x0, .int x1, .int x2, .ref x3]) (n := 5) (Nat.le_of_ble_eq_true rfl)
  rw [lg_entry_eq]
  generalize (lg_sl ([.ref x0, .int x1, .int x2, .ref x3]) ++ List.replicate (5 - (lg_sl ([.ref x0, .int x1, .int x2, .ref x3])).length) Slot.unset).toArray = ls at hl ⊢
  have hl : lv_has ls 5 [(0, .ref x0), (1, .int x1), (2, .int x2), (3, .ref x3)] := hl
  unfold fX0_person at hF
  refine lv_aload_n hx hb dX0_person_0 rfl (lv_at hl 3 rfl) ?_
  refine lv_iconst (v := 0) hx hb dX0_person_1 rfl ?_
  refine lv_aload_n hx hb dX0_person_2 rfl (lv_at hl 0 rfl) ?_
  refine lv_iload_n hx hb dX0_person_3 rfl (lv_at hl 1 rfl) ?_
  refine lv_iload_n hx hb dX0_person_4 rfl (lv_at hl 2 rfl) ?_
  obtain ⟨z1, hF⟩ := gTe hF
  obtain ⟨r1, er1, hF⟩ := obn hF
  refine ccti (rest := [.int 0, .ref x3]) S hX hM (metX1_person l F D h0 x0 x1 x2 r1 er1) (ci_V (C := "RugReader") (As := [.int x1, .int x2]) (rest := [.int 0, .ref x3]) S q1688 q1689 q1690 q1691 hyX1_person (HI.cell (ci := 0) hX hM (by decide) (by omega)) hlX1_person rfl dX0_person_5) q1691 q103 (Nat.le_of_ble_eq_true rfl) (Nat.le_of_ble_eq_true rfl) hl.1 (Nat.le_of_ble_eq_true rfl) (fun w1 ew1 H locs cs ss hM => ?_) (fun b1 eb1 H locs cs ss hM => ?_)
  · have hF := thr_r hF ew1
    refine lv_i2l hx hb dX0_person_8 rfl ?_
    obtain ⟨σ2, eσ2, hF⟩ := obn hF
    refine cwl (x := w1) S hX hM eσ2 dX0_person_9 (fun H locs hM => ?_)
    refine lv_goto (tgt := 17) hx hb dX0_person_10 (by decide) ?_
    refine lv_iconst (v := 0) hx hb dX0_person_17 rfl ?_
    have hz := (Option.some.inj hF)
    subst hz
    exact cri S hM hr hlocks dX0_person_18
  · have hF := thr_q hF eb1
    obtain ⟨zb1, hF⟩ := gTe hF
    refine cxcatch (ci := 18) (nm := "") S hX hM (by decide) (by omega) hnt (by decide) (by decide) q1687 ?_
    refine lv_astore (lv' := [(4, .ref b1), (0, .ref x0), (1, .int x1), (2, .int x2), (3, .ref x3)]) hx hb dX0_person_13 hl (by decide) rfl (fun ls hl => ?_)
    refine lv_iconst (v := 1) hx hb dX0_person_15 rfl ?_
    have hz := (Option.some.inj hF)
    subst hz
    exact cri S hM hr hlocks dX0_person_16
def fX0_tuft (F : Nat) (h0 : HS) (x0 : Nat) (x1 : Int32) (x2 : Int32) (x3 : Nat) : Option (Int32 × HS) := gT h0 x0 1 1 (((fX1_tuft F h0 x0 x1 x2).bind fun r1 => thr r1.1 (fun b1 => gT r1.2 b1 19 19 (some (1, r1.2))) fun w1 => ((wI r1.2 x3 41 0 w1).bind fun σ2 => some (0, σ2))))
theorem hyX0_tuft : yX0_tuft.cls ≠ "java/lang/invoke/MethodHandle" ∧ yX0_tuft.cls ≠ "java/lang/invoke/VarHandle" := by decide +kernel
theorem hlX0_tuft : (parseMethodDescriptor yX0_tuft.desc).map (fun d => d.parameters.length) = some 4 := by decide +kernel
set_option maxHeartbeats 4000000 in
set_option maxRecDepth 100000 in
theorem metX0_tuft (l : Launch) [NoTr l] (F : Nat) (D : va_G) (h0 : HS) (x0 : Nat) (x1 : Int32) (x2 : Int32) (x3 : Nat) (r : Int32 × HS) (hF : fX0_tuft F h0 x0 x1 x2 x3 = some r) : CMet l yX0_tuft (wsW_ yX0_tuft cX0_tuft 5 (some .int) [(0, 10, 13, 13)]) 11 262 D [.ref x0, .int x1, .int x2, .ref x3] h0 r.2 (.inr (some (.int r.1))) := by
  refine CMet.ofWH (by decide) ?_
  intro p e s m below meth c s₁ B S hX hM hr hlocks hnt hin
  obtain ⟨hx, hb, hml, hown, hts⟩ := id S
  have hl := lv_entry ([.ref x0, .int x1, .int x2, .ref x3]) (n := 5) (Nat.le_of_ble_eq_true rfl)
  rw [lg_entry_eq]
  generalize (lg_sl ([.ref x0, .int x1, .int x2, .ref x3]) ++ List.replicate (5 - (lg_sl ([.ref x0, .int x1, .int x2, .ref x3])).length) Slot.unset).toArray = ls at hl ⊢
  have hl : lv_has ls 5 [(0, .ref x0), (1, .int x1), (2, .int x2), (3, .ref x3)] := hl
  unfold fX0_tuft at hF
  refine lv_aload_n hx hb dX0_tuft_0 rfl (lv_at hl 3 rfl) ?_
  refine lv_iconst (v := 0) hx hb dX0_tuft_1 rfl ?_
  refine lv_aload_n hx hb dX0_tuft_2 rfl (lv_at hl 0 rfl) ?_
  refine lv_iload_n hx hb dX0_tuft_3 rfl (lv_at hl 1 rfl) ?_
  refine lv_iload_n hx hb dX0_tuft_4 rfl (lv_at hl 2 rfl) ?_
  obtain ⟨z1, hF⟩ := gTe hF
  obtain ⟨r1, er1, hF⟩ := obn hF
  refine ccti (rest := [.int 0, .ref x3]) S hX hM (metX1_tuft l F D h0 x0 x1 x2 r1 er1) (ci_V (C := "RugReader") (As := [.int x1, .int x2]) (rest := [.int 0, .ref x3]) S q1720 q1721 q1722 q1723 hyX1_tuft (HI.cell (ci := 0) hX hM (by decide) (by omega)) hlX1_tuft rfl dX0_tuft_5) q1723 q103 (Nat.le_of_ble_eq_true rfl) (Nat.le_of_ble_eq_true rfl) hl.1 (Nat.le_of_ble_eq_true rfl) (fun w1 ew1 H locs cs ss hM => ?_) (fun b1 eb1 H locs cs ss hM => ?_)
  · have hF := thr_r hF ew1
    refine lv_i2l hx hb dX0_tuft_8 rfl ?_
    obtain ⟨σ2, eσ2, hF⟩ := obn hF
    refine cwl (x := w1) S hX hM eσ2 dX0_tuft_9 (fun H locs hM => ?_)
    refine lv_goto (tgt := 17) hx hb dX0_tuft_10 (by decide) ?_
    refine lv_iconst (v := 0) hx hb dX0_tuft_17 rfl ?_
    have hz := (Option.some.inj hF)
    subst hz
    exact cri S hM hr hlocks dX0_tuft_18
  · have hF := thr_q hF eb1
    obtain ⟨zb1, hF⟩ := gTe hF
    refine cxcatch (ci := 18) (nm := "") S hX hM (by decide) (by omega) hnt (by decide) (by decide) q1687 ?_
    refine lv_astore (lv' := [(4, .ref b1), (0, .ref x0), (1, .int x1), (2, .int x2), (3, .ref x3)]) hx hb dX0_tuft_13 hl (by decide) rfl (fun ls hl => ?_)
    refine lv_iconst (v := 1) hx hb dX0_tuft_15 rfl ?_
    have hz := (Option.some.inj hF)
    subst hz
    exact cri S hM hr hlocks dX0_tuft_16
