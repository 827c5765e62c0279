def fX1_missing (F : Nat) (h0 : HS) (x0 : Nat) (x1 : Int32) : Option (Int32) := ((fR h0 x0 1 1 3).bind fun a1 => gT h0 a1 2 2 (((fX2_isTuft F h0 a1 x1).bind fun r2 => (if r2 = 0 then (some (-1)) else ((fR h0 x0 1 1 4).bind fun a4 => gT h0 a4 3 3 (((fX3_missing F h0 a4 x1).bind fun r5 => some r5)))))))
theorem hyX1_missing : yX1_missing.cls ≠ "java/lang/invoke/MethodHandle" ∧ yX1_missing.cls ≠ "java/lang/invoke/VarHandle" := by decide +kernel
theorem hlX1_missing : (parseMethodDescriptor yX1_missing.desc).map (fun d => d.parameters.length) = some 1 := by decide +kernel
set_option maxHeartbeats 4000000 in
set_option maxRecDepth 100000 in
theorem metX1_missing (l : Launch) [NoTr l] (F : Nat) (D : va_G) (h0 : HS) (x0 : Nat) (x1 : Int32) (r : Int32) (hF : fX1_missing F h0 x0 x1 = some r) : CMet l yX1_missing (ws_ yX1_missing cX1_missing 2 (some .int)) 6 130 D [.ref x0, .int x1] h0 h0 (.inr (some (.int r))) := by
  refine CMet.ofW (by decide) ?_
  intro p e s m below meth c s₁ B S hX hM hr hlocks hnt hin
  obtain ⟨hx, hb, hml, hown, hts⟩ := id S
  have hl := lv_entry ([.ref x0, .int x1]) (n := 2) (Nat.le_of_ble_eq_true rfl)
  rw [lg_entry_eq]
  generalize (lg_sl ([.ref x0, .int x1]) ++ List.replicate (2 - (lg_sl ([.ref x0, .int x1])).length) Slot.unset).toArray = ls at hl ⊢
  have hl : lv_has ls 2 [(0, .ref x0), (1, .int x1)] := hl
  unfold fX1_missing at hF
  refine lv_aload_n hx hb dX1_missing_0 rfl (lv_at hl 0 rfl) ?_
  obtain ⟨a1, ea1, hF⟩ := obn hF
  refine cgn S hX hM ea1 ck_1_1_3 q327 (fun _ h => h) dX1_missing_1 ?_
  refine lv_iload_n hx hb dX1_missing_4 rfl (lv_at hl 1 rfl) ?_
  obtain ⟨z2, hF⟩ := gTe hF
  obtain ⟨r2, er2, hF⟩ := obn hF
  refine ccr (rest := []) (st1 := [.int r2]) S hX hM (metX2_isTuft l F D h0 a1 x1 r2 er2) (ci_V (C := "RugReader$House") (As := [.int x1]) (rest := []) S q1200 q1201 q1202 q1203 hyX2_isTuft (HI.cell (ci := 1) hX hM (by decide) (by omega)) hlX2_isTuft rfl dX1_missing_5) q1203 q104 (Nat.le_of_ble_eq_true rfl) (Nat.le_of_ble_eq_true rfl) hl.1 (Nat.le_of_ble_eq_true rfl) rfl (fun H locs cs ss hM => ?_)
  refine lv_if_eq (tgt := 22) hx hb dX1_missing_8 (by decide) (fun c3 => ?_) (fun c3 => ?_)
  · have hF := ifp hF c3
    refine lv_iconst (v := (-1)) hx hb dX1_missing_22 rfl ?_
    have hz := (Option.some.inj hF)
    subst hz
    exact cri S hM hr hlocks dX1_missing_23
  · have hF := ifn hF c3
    refine lv_aload_n hx hb dX1_missing_11 rfl (lv_at hl 0 rfl) ?_
    obtain ⟨a4, ea4, hF⟩ := obn hF
    refine cgn S hX hM ea4 ck_1_1_4 q328 (fun _ h => h) dX1_missing_12 ?_
    refine lv_iload_n hx hb dX1_missing_15 rfl (lv_at hl 1 rfl) ?_
    obtain ⟨z5, hF⟩ := gTe hF
    obtain ⟨r5, er5, hF⟩ := obn hF
    refine ccr (rest := []) (st1 := [.int r5]) S hX hM (metX3_missing l F D h0 a4 x1 r5 er5) (ci_V (C := "RugReader$Rug") (As := [.int x1]) (rest := []) S q1215 q1216 q1217 q1218 hyX3_missing (HI.cell (ci := 2) hX hM (by decide) (by omega)) hlX3_missing rfl dX1_missing_16) q1218 q108 (Nat.le_of_ble_eq_true rfl) (Nat.le_of_ble_eq_true rfl) hl.1 (Nat.le_of_ble_eq_true rfl) rfl (fun H locs cs ss hM => ?_)
    refine lv_goto (tgt := 23) hx hb dX1_missing_19 (by decide) ?_
    have hz := (Option.some.inj hF)
    subst hz
    exact cri S hM hr hlocks dX1_missing_23
def lX1_soles_4 (F : Nat) (σ : HS) : Nat → Nat → Int32 → Int32 → Int32 → Option (Int32)
  | 0, _, _, _, _ => none
  | n + 1, y0, y1, y2, y3 => (if 144 ≤ y3 then (some y2) else ((fR σ y0 1 1 4).bind fun a2 => ((fR σ a2 3 3 7).bind fun a3 => ((aI σ a3 31 y3).bind fun v4 => (if v4 = (-1) then (lX1_soles_4 F σ n y0 y1 y2 (y3 + 1)) else ((fR σ y0 1 1 4).bind fun a6 => ((fR σ a6 3 3 5).bind fun a7 => ((aI σ a7 31 y3).bind fun v8 => (if v8 = y1 then (lX1_soles_4 F σ n y0 y1 (y2 + 1) (y3 + 1)) else (lX1_soles_4 F σ n y0 y1 y2 (y3 + 1)))))))))))
def fX1_soles (F : Nat) (h0 : HS) (x0 : Nat) (x1 : Int32) : Option (Int32) := ((lX1_soles_4 F h0 F x0 x1 0 0).bind fun q10 => some q10)
theorem hyX1_soles : yX1_soles.cls ≠ "java/lang/invoke/MethodHandle" ∧ yX1_soles.cls ≠ "java/lang/invoke/VarHandle" := by decide +kernel
theorem hlX1_soles : (parseMethodDescriptor yX1_soles.desc).map (fun d => d.parameters.length) = some 1 := by decide +kernel
set_option maxHeartbeats 4000000 in
set_option maxRecDepth 100000 in
theorem wlX1_soles_4 {p : Program} {l : Launch} [NoTr l] {e : Env} {s : State} {m : MethodId} {args : Array Value} {below : List Frame} {meth : Method} {c : Code} {D : va_G} {h0 : HS} (S : CallFix p m c cX1_soles 4 s args lw_all RX1) (hX : CX D (kG h0) s) (σ : HS) (F : Nat) {Q : State → Prop} : ∀ (n : Nat) (y0 : Nat) (y1 : Int32) (y2 : Int32) (y3 : Int32) (out : Int32), lX1_soles_4 F σ n y0 y1 y2 y3 = some out → (∀ (H : Heap) (locs : List Loc) (cs ss : Nat) (ls : Array Slot), HI D h0 σ s.heap H locs cs ss → lv_has ls 4 [(2, .int out)] → W p l e (cR 0 0 h0) s m args below meth c H locs cs ss Q (F0 m 46 ls [])) → ∀ (H : Heap) (locs : List Loc) (cs ss : Nat) (ls : Array Slot), HI D h0 σ s.heap H locs cs ss → lv_has ls 4 [(0, .ref y0), (1, .int y1), (2, .int y2), (3, .int y3)] → W p l e (cR 0 0 h0) s m args below meth c H locs cs ss Q (F0 m 4 ls []) := by
  intro n
  induction n with
  | zero =>
    intro y0 y1 y2 y3 out hF
    cases (show (none : Option _) = some out from hF)
  | succ n ih =>
    intro y0 y1 y2 y3 out hF hk H locs cs ss ls hM hl
    rw [lX1_soles_4] at hF
    obtain ⟨hx, hb, hml, hown, hts⟩ := id S
    refine lv_iload_n hx hb dX1_soles_4 rfl (lv_at hl 3 rfl) ?_
    refine lv_sipush (v := 144) hx hb dX1_soles_5 rfl ?_
    refine lv_icmp_ge (tgt := 46) hx hb dX1_soles_8 (by decide) (fun c1 => ?_) (fun c1 => ?_)
    · have hF := ifp hF c1
      cases hF
      exact hk _ _ _ _ _ hM (lv_sub hl [2] rfl)
    · have hF := ifn hF c1
      refine lv_aload_n hx hb dX1_soles_11 rfl (lv_at hl 0 rfl) ?_
      obtain ⟨a2, ea2, hF⟩ := obn hF
      refine cgn S hX hM ea2 ck_1_1_4 q328 (fun _ h => h) dX1_soles_12 ?_
      obtain ⟨a3, ea3, hF⟩ := obn hF
      refine cgnN S hX hM ea3 ck_3_3_7 (uq266 hX) dX1_soles_15 ?_
      refine lv_iload_n hx hb dX1_soles_18 rfl (lv_at hl 3 rfl) ?_
      obtain ⟨v4, ev4, hF⟩ := obn hF
      refine cai S hX hM ev4 dX1_soles_19 ?_
      refine lv_iconst (v := (-1)) hx hb dX1_soles_20 rfl ?_
      refine lv_icmp_eq (tgt := 40) hx hb dX1_soles_21 (by decide) (fun c5 => ?_) (fun c5 => ?_)
      · have hF := ifp hF c5
        refine lv_iinc (v := y3 + 1) (lv' := [(3, .int (y3 + 1)), (0, .ref y0), (1, .int y1), (2, .int y2)]) hx hb dX1_soles_40 hl (k := 3) rfl rfl (by decide) rfl (fun ls hl => ?_)
        refine lv_goto (tgt := 4) hx hb dX1_soles_43 (by decide) ?_
        exact ih _ _ _ _ out hF hk _ _ _ _ _ hM (lv_sub hl [1, 2, 3, 0] rfl)
      · have hF := ifn hF c5
        refine lv_aload_n hx hb dX1_soles_24 rfl (lv_at hl 0 rfl) ?_
        obtain ⟨a6, ea6, hF⟩ := obn hF
        refine cgn S hX hM ea6 ck_1_1_4 q328 (fun _ h => h) dX1_soles_25 ?_
        obtain ⟨a7, ea7, hF⟩ := obn hF
        refine cgnN S hX hM ea7 ck_3_3_5 (uq262 hX) dX1_soles_28 ?_
        refine lv_iload_n hx hb dX1_soles_31 rfl (lv_at hl 3 rfl) ?_
        obtain ⟨v8, ev8, hF⟩ := obn hF
        refine cai S hX hM ev8 dX1_soles_32 ?_
        refine lv_iload_n hx hb dX1_soles_33 rfl (lv_at hl 1 rfl) ?_
        refine lv_icmp_ne (tgt := 40) hx hb dX1_soles_34 (by decide) (fun c9 => ?_) (fun c9 => ?_)
        · have hF := ifn hF c9
          refine lv_iinc (v := y3 + 1) (lv' := [(3, .int (y3 + 1)), (0, .ref y0), (1, .int y1), (2, .int y2)]) hx hb dX1_soles_40 hl (k := 3) rfl rfl (by decide) rfl (fun ls hl => ?_)
          refine lv_goto (tgt := 4) hx hb dX1_soles_43 (by decide) ?_
          exact ih _ _ _ _ out hF hk _ _ _ _ _ hM (lv_sub hl [1, 2, 3, 0] rfl)
        · have hF := ifp hF c9
          refine lv_iinc (v := y2 + 1) (lv' := [(2, .int (y2 + 1)), (0, .ref y0), (1, .int y1), (3, .int y3)]) hx hb dX1_soles_37 hl (k := 2) rfl rfl (by decide) rfl (fun ls hl => ?_)
          refine lv_iinc (v := y3 + 1) (lv' := [(3, .int (y3 + 1)), (2, .int (y2 + 1)), (0, .ref y0), (1, .int y1)]) hx hb dX1_soles_40 hl (k := 3) rfl rfl (by decide) rfl (fun ls hl => ?_)
          refine lv_goto (tgt := 4) hx hb dX1_soles_43 (by decide) ?_
          exact ih _ _ _ _ out hF hk _ _ _ _ _ hM (lv_sub hl [2, 3, 1, 0] rfl)
set_option maxHeartbeats 4000000 in
set_option maxRecDepth 100000 in
theorem metX1_soles (l : Launch) [NoTr l] (F : Nat) (D : va_G) (h0 : HS) (x0 : Nat) (x1 : Int32) (r : Int32) (hF : fX1_soles F h0 x0 x1 = some r) : CMet l yX1_soles (ws_ yX1_soles cX1_soles 4 (some .int)) 0 0 D [.ref x0, .int x1] h0 h0 (.inr (some (.int r))) := by
  refine CMet.ofW (by decide) ?_
  intro p e s m below meth c s₁ B S hX hM hr hlocks hnt hin
  obtain ⟨hx, hb, hml, hown, hts⟩ := id S
  have hl := lv_entry ([.ref x0, .int x1]) (n := 4) (Nat.le_of_ble_eq_true rfl)
  rw [lg_entry_eq]
  generalize (lg_sl ([.ref x0, .int x1]) ++ List.replicate (4 - (lg_sl ([.ref x0, .int x1])).length) Slot.unset).toArray = ls at hl ⊢
  have hl : lv_has ls 4 [(0, .ref x0), (1, .int x1)] := hl
  unfold fX1_soles at hF
  refine lv_iconst (v := 0) hx hb dX1_soles_0 rfl ?_
  refine lv_istore_n (lv' := [(2, .int 0), (0, .ref x0), (1, .int x1)]) hx hb dX1_soles_1 rfl hl (by decide) rfl (fun ls hl => ?_)
  refine lv_iconst (v := 0) hx hb dX1_soles_2 rfl ?_
  refine lv_istore_n (lv' := [(3, .int 0), (2, .int 0), (0, .ref x0), (1, .int x1)]) hx hb dX1_soles_3 rfl hl (by decide) rfl (fun ls hl => ?_)
  obtain ⟨q10, hq10, hF⟩ := obn hF
  refine wlX1_soles_4 S hX _ F  F _ _ _ _ q10 hq10 (fun H locs cs ss ls hM hl => ?_) _ _ _ _ _ hM (lv_sub hl [2, 3, 1, 0] rfl)
  refine lv_iload_n hx hb dX1_soles_46 rfl (lv_at hl 0 rfl) ?_
  have hz := (Option.some.inj hF)
  subst hz
  exact cri S hM hr hlocks dX1_soles_47
def lX1_deepest_4 (F : Nat) (σ : HS) : Nat → Nat → Int32 → Int32 → Option (Int32)
  | 0, _, _, _ => none
  | n + 1, y0, y1, y2 => (if 144 ≤ y2 then (some y1) else ((fR σ y0 1 1 4).bind fun a2 => gT σ a2 3 3 (((fX3_depth F σ a2 y2).bind fun r3 => (if r3 ≤ 0 then (lX1_deepest_4 F σ n y0 y1 (y2 + 1)) else (if y1 = (-1) then (lX1_deepest_4 F σ n y0 y2 (y2 + 1)) else ((fR σ y0 1 1 4).bind fun a6 => gT σ a6 3 3 (((fX3_depth F σ a6 y2).bind fun r7 => ((fR σ y0 1 1 4).bind fun a8 => gT σ a8 3 3 (((fX3_depth F σ a8 y1).bind fun r9 => (if r7 ≤ r9 then (lX1_deepest_4 F σ n y0 y1 (y2 + 1)) else (lX1_deepest_4 F σ n y0 y2 (y2 + 1)))))))))))))))
def fX1_deepest (F : Nat) (h0 : HS) (x0 : Nat) : Option (Int32) := ((lX1_deepest_4 F h0 F x0 (-1) 0).bind fun q11 => some q11)
theorem hyX1_deepest : yX1_deepest.cls ≠ "java/lang/invoke/MethodHandle" ∧ yX1_deepest.cls ≠ "java/lang/invoke/VarHandle" := by decide +kernel
theorem hlX1_deepest : (parseMethodDescriptor yX1_deepest.desc).map (fun d => d.parameters.length) = some 0 := by decide +kernel
set_option maxHeartbeats 4000000 in
set_option maxRecDepth 100000 in
theorem wlX1_deepest_4 {p : Program} {l : Launch} [NoTr l] {e : Env} {s : State} {m : MethodId} {args : Array Value} {below : List Frame} {meth : Method} {c : Code} {D : va_G} {h0 : HS} (S : CallFix p m c cX1_deepest 3 s args lw_all RX1) (hX : CX D (kG h0) s) (σ : HS) (F : Nat) {Q : State → Prop} : ∀ (n : Nat) (y0 : Nat) (y1 : Int32) (y2 : Int32) (out : Int32), lX1_deepest_4 F σ n y0 y1 y2 = some out → (∀ (H : Heap) (locs : List Loc) (cs ss : Nat) (ls : Array Slot), HI D h0 σ s.heap H locs cs ss → lv_has ls 3 [(1, .int out)] → W p l e (cR 5 109 h0) s m args below meth c H locs cs ss Q (F0 m 54 ls [])) → ∀ (H : Heap) (locs : List Loc) (cs ss : Nat) (ls : Array Slot), HI D h0 σ s.heap H locs cs ss → lv_has ls 3 [(0, .ref y0), (1, .int y1), (2, .int y2)] → W p l e (cR 5 109 h0) s m args below meth c H locs cs ss Q (F0 m 4 ls []) := by
  intro n
  induction n with
  | zero =>
    intro y0 y1 y2 out hF
    cases (show (none : Option _) = some out from hF)
  | succ n ih =>
    intro y0 y1 y2 out hF hk H locs cs ss ls hM hl
    rw [lX1_deepest_4] at hF
    obtain ⟨hx, hb, hml, hown, hts⟩ := id S
    refine lv_iload_n hx hb dX1_deepest_4 rfl (lv_at hl 2 rfl) ?_
    refine lv_sipush (v := 144) hx hb dX1_deepest_5 rfl ?_
    refine lv_icmp_ge (tgt := 54) hx hb dX1_deepest_8 (by decide) (fun c1 => ?_) (fun c1 => ?_)
    · have hF := ifp hF c1
      cases hF
      exact hk _ _ _ _ _ hM (lv_sub hl [1] rfl)
    · have hF := ifn hF c1
      refine lv_aload_n hx hb dX1_deepest_11 rfl (lv_at hl 0 rfl) ?_
      obtain ⟨a2, ea2, hF⟩ := obn hF
      refine cgn S hX hM ea2 ck_1_1_4 q328 (fun _ h => h) dX1_deepest_12 ?_
      refine lv_iload_n hx hb dX1_deepest_15 rfl (lv_at hl 2 rfl) ?_
      obtain ⟨z3, hF⟩ := gTe hF
      obtain ⟨r3, er3, hF⟩ := obn hF
      refine ccr (rest := []) (st1 := [.int r3]) S hX hM (metX3_depth l F D σ a2 y2 r3 er3) (ci_V (C := "RugReader$Rug") (As := [.int y2]) (rest := []) S q1240 q1225 q1226 q1227 hyX3_depth (HI.cell (ci := 2) hX hM (by decide) (by omega)) hlX3_depth rfl dX1_deepest_16) q1227 q108 (Nat.le_of_ble_eq_true rfl) (Nat.le_of_ble_eq_true rfl) hl.1 (Nat.le_of_ble_eq_true rfl) rfl (fun H locs cs ss hM => ?_)
      refine lv_if_le (tgt := 48) hx hb dX1_deepest_19 (by decide) (fun c4 => ?_) (fun c4 => ?_)
      · have hF := ifp hF c4
        refine lv_iinc (v := y2 + 1) (lv' := [(2, .int (y2 + 1)), (0, .ref y0), (1, .int y1)]) hx hb dX1_deepest_48 hl (k := 2) rfl rfl (by decide) rfl (fun ls hl => ?_)
        refine lv_goto (tgt := 4) hx hb dX1_deepest_51 (by decide) ?_
        exact ih _ _ _ out hF hk _ _ _ _ _ hM (lv_sub hl [1, 2, 0] rfl)
      · have hF := ifn hF c4
        refine lv_iload_n hx hb dX1_deepest_22 rfl (lv_at hl 1 rfl) ?_
        refine lv_iconst (v := (-1)) hx hb dX1_deepest_23 rfl ?_
        refine lv_icmp_eq (tgt := 46) hx hb dX1_deepest_24 (by decide) (fun c5 => ?_) (fun c5 => ?_)
        · have hF := ifp hF c5
          refine lv_iload_n hx hb dX1_deepest_46 rfl (lv_at hl 2 rfl) ?_
          refine lv_istore_n (lv' := [(1, .int y2), (0, .ref y0), (2, .int y2)]) hx hb dX1_deepest_47 rfl hl (by decide) rfl (fun ls hl => ?_)
          refine lv_iinc (v := y2 + 1) (lv' := [(2, .int (y2 + 1)), (1, .int y2), (0, .ref y0)]) hx hb dX1_deepest_48 hl (k := 2) rfl rfl (by decide) rfl (fun ls hl => ?_)
          refine lv_goto (tgt := 4) hx hb dX1_deepest_51 (by decide) ?_
          exact ih _ _ _ out hF hk _ _ _ _ _ hM (lv_sub hl [2, 1, 0] rfl)
        · have hF := ifn hF c5
          refine lv_aload_n hx hb dX1_deepest_27 rfl (lv_at hl 0 rfl) ?_
          obtain ⟨a6, ea6, hF⟩ := obn hF
          refine cgn S hX hM ea6 ck_1_1_4 q328 (fun _ h => h) dX1_deepest_28 ?_
          refine lv_iload_n hx hb dX1_deepest_31 rfl (lv_at hl 2 rfl) ?_
          obtain ⟨z7, hF⟩ := gTe hF
          obtain ⟨r7, er7, hF⟩ := obn hF
          refine ccr (rest := []) (st1 := [.int r7]) S hX hM (metX3_depth l F D σ a6 y2 r7 er7) (ci_V (C := "RugReader$Rug") (As := [.int y2]) (rest := []) S q1240 q1225 q1226 q1227 hyX3_depth (HI.cell (ci := 2) hX hM (by decide) (by omega)) hlX3_depth rfl dX1_deepest_32) q1227 q108 (Nat.le_of_ble_eq_true rfl) (Nat.le_of_ble_eq_true rfl) hl.1 (Nat.le_of_ble_eq_true rfl) rfl (fun H locs cs ss hM => ?_)
          refine lv_aload_n hx hb dX1_deepest_35 rfl (lv_at hl 0 rfl) ?_
          obtain ⟨a8, ea8, hF⟩ := obn hF
          refine cgn S hX hM ea8 ck_1_1_4 q328 (fun _ h => h) dX1_deepest_36 ?_
          refine lv_iload_n hx hb dX1_deepest_39 rfl (lv_at hl 1 rfl) ?_
          obtain ⟨z9, hF⟩ := gTe hF
          obtain ⟨r9, er9, hF⟩ := obn hF
          refine ccr (rest := [.int r7]) (st1 := [.int r9, .int r7]) S hX hM (metX3_depth l F D σ a8 y1 r9 er9) (ci_V (C := "RugReader$Rug") (As := [.int y1]) (rest := [.int r7]) S q1240 q1225 q1226 q1227 hyX3_depth (HI.cell (ci := 2) hX hM (by decide) (by omega)) hlX3_depth rfl dX1_deepest_40) q1227 q108 (Nat.le_of_ble_eq_true rfl) (Nat.le_of_ble_eq_true rfl) hl.1 (Nat.le_of_ble_eq_true rfl) rfl (fun H locs cs ss hM => ?_)
          refine lv_icmp_le (tgt := 48) hx hb dX1_deepest_43 (by decide) (fun c10 => ?_) (fun c10 => ?_)
          · have hF := ifp hF c10
            refine lv_iinc (v := y2 + 1) (lv' := [(2, .int (y2 + 1)), (0, .ref y0), (1, .int y1)]) hx hb dX1_deepest_48 hl (k := 2) rfl rfl (by decide) rfl (fun ls hl => ?_)
            refine lv_goto (tgt := 4) hx hb dX1_deepest_51 (by decide) ?_
            exact ih _ _ _ out hF hk _ _ _ _ _ hM (lv_sub hl [1, 2, 0] rfl)
          · have hF := ifn hF c10
            refine lv_iload_n hx hb dX1_deepest_46 rfl (lv_at hl 2 rfl) ?_
            refine lv_istore_n (lv' := [(1, .int y2), (0, .ref y0), (2, .int y2)]) hx hb dX1_deepest_47 rfl hl (by decide) rfl (fun ls hl => ?_)
            refine lv_iinc (v := y2 + 1) (lv' := [(2, .int (y2 + 1)), (1, .int y2), (0, .ref y0)]) hx hb dX1_deepest_48 hl (k := 2) rfl rfl (by decide) rfl (fun ls hl => ?_)
            refine lv_goto (tgt := 4) hx hb dX1_deepest_51 (by decide) ?_
            exact ih _ _ _ out hF hk _ _ _ _ _ hM (lv_sub hl [2, 1, 0] rfl)
set_option maxHeartbeats 4000000 in
set_option maxRecDepth 100000 in
theorem metX1_deepest (l : Launch) [NoTr l] (F : Nat) (D : va_G) (h0 : HS) (x0 : Nat) (r : Int32) (hF : fX1_deepest F h0 x0 = some r) : CMet l yX1_deepest (ws_ yX1_deepest cX1_deepest 3 (some .int)) 5 109 D [.ref x0] h0 h0 (.inr (some (.int r))) := by
  refine CMet.ofW (by decide) ?_
  intro p e s m below meth c s₁ B S hX hM hr hlocks hnt hin
  obtain ⟨hx, hb, hml, hown, hts⟩ := id S
  have hl := lv_entry ([.ref x0]) (n := 3) (Nat.le_of_ble_eq_true rfl)
  rw [lg_entry_eq]
  generalize (lg_sl ([.ref x0]) ++ List.replicate (3 - (lg_sl ([.ref x0])).length) Slot.unset).toArray = ls at hl ⊢
  have hl : lv_has ls 3 [(0, .ref x0)] := hl
  unfold fX1_deepest at hF
  refine lv_iconst (v := (-1)) hx hb dX1_deepest_0 rfl ?_
  refine lv_istore_n (lv' := [(1, .int (-1)), (0, .ref x0)]) hx hb dX1_deepest_1 rfl hl (by decide) rfl (fun ls hl => ?_)
  refine lv_iconst (v := 0) hx hb dX1_deepest_2 rfl ?_
  refine lv_istore_n (lv' := [(2, .int 0), (1, .int (-1)), (0, .ref x0)]) hx hb dX1_deepest_3 rfl hl (by decide) rfl (fun ls hl => ?_)
  obtain ⟨q11, hq11, hF⟩ := obn hF
  refine wlX1_deepest_4 S hX _ F  F _ _ _ q11 hq11 (fun H locs cs ss ls hM hl => ?_) _ _ _ _ _ hM (lv_sub hl [2, 1, 0] rfl)
  refine lv_iload_n hx hb dX1_deepest_54 rfl (lv_at hl 0 rfl) ?_
  have hz := (Option.some.inj hF)
  subst hz
  exact cri S hM hr hlocks dX1_deepest_55
def fX1_ageOf (F : Nat) (h0 : HS) (x0 : Nat) (x1 : Int32) (x2 : Int32) : Option (Int32) := ((fR h0 x0 1 1 3).bind fun a1 => ((fR h0 a1 2 2 5).bind fun a2 => gT h0 a2 15 15 (((fJ2_get F h0 a2 x1).bind fun r3 => gT h0 r3 9 9 (((oI h0 r3 9 9 1).bind fun v5 => (if x2 ≤ 0 then (some (-1)) else (gZ v5 ((if (irm x2 v5) = 0 then (gZ v5 (((fR h0 x0 1 1 3).bind fun a8 => ((oI h0 a8 2 2 2).bind fun v9 => (if v9 < (x2 / v5) then (some (-1)) else ((fR h0 x0 1 1 3).bind fun a11 => ((oI h0 a11 2 2 2).bind fun v12 => gZ v5 (some (v12 - (x2 / v5)))))))))) else (some (-1))))))))))))
theorem hyX1_ageOf : yX1_ageOf.cls ≠ "java/lang/invoke/MethodHandle" ∧ yX1_ageOf.cls ≠ "java/lang/invoke/VarHandle" := by decide +kernel
theorem hlX1_ageOf : (parseMethodDescriptor yX1_ageOf.desc).map (fun d => d.parameters.length) = some 2 := by decide +kernel
set_option maxHeartbeats 4000000 in
set_option maxRecDepth 100000 in
theorem metX1_ageOf (l : Launch) [NoTr l] (F : Nat) (D : va_G) (h0 : HS) (x0 : Nat) (x1 : Int32) (x2 : Int32) (r : Int32) (hF : fX1_ageOf F h0 x0 x1 x2 = some r) : CMet l yX1_ageOf (ws_ yX1_ageOf cX1_ageOf 4 (some .int)) 3 64 D [.ref x0, .int x1, .int x2] h0 h0 (.inr (some (.int r))) := by
  refine CMet.ofW (by decide) ?_
  intro p e s m below meth c s₁ B S hX hM hr hlocks hnt hin
  obtain ⟨hx, hb, hml, hown, hts⟩ := id S
  have hl := lv_entry ([.ref x0, .int x1, .int x2]) (n := 4) (Nat.le_of_ble_eq_true rfl)
  rw [lg_entry_eq]
  generalize (lg_sl ([.ref x0, .int x1, .int x2]) ++ List.replicate (4 - (lg_sl ([.ref x0, .int x1, .int x2])).length) Slot.unset).toArray = ls at hl ⊢
  have hl : lv_has ls 4 [(0, .ref x0), (1, .int x1), (2, .int x2)] := hl
  unfold fX1_ageOf at hF
  refine lv_aload_n hx hb dX1_ageOf_0 rfl (lv_at hl 0 rfl) ?_
  obtain ⟨a1, ea1, hF⟩ := obn hF
  refine cgn S hX hM ea1 ck_1_1_3 q327 (fun _ h => h) dX1_ageOf_1 ?_
  obtain ⟨a2, ea2, hF⟩ := obn hF
  refine cgnN S hX hM ea2 ck_2_2_5 (uq204 hX) dX1_ageOf_4 ?_
  refine lv_iload_n hx hb dX1_ageOf_7 rfl (lv_at hl 1 rfl) ?_
  obtain ⟨z3, hF⟩ := gTe hF
  obtain ⟨r3, er3, hF⟩ := obn hF
  refine ccr (rest := []) (st1 := [.ref r3]) S hX hM (metJ2_get l F D h0 a2 x1 r3 er3) (ci_V (C := "java/util/ArrayList") (As := [.int x1]) (rest := []) S q1151 q925 q926 q927 hyJ2_get (HI.cell (ci := 14) hX hM (by decide) (by omega)) hlJ2_get rfl dX1_ageOf_8) q927 q107 (Nat.le_of_ble_eq_true rfl) (Nat.le_of_ble_eq_true rfl) hl.1 (Nat.le_of_ble_eq_true rfl) rfl (fun H locs cs ss hM => ?_)
  obtain ⟨z4, hF⟩ := gTe hF
  refine ccs (ci := 8) S hX hM (by decide) (by omega) q1249 dX1_ageOf_11 ?_
  obtain ⟨v5, ev5, hF⟩ := obn hF
  refine cgiN S hX hM ev5 ck_9_9_1 (uq949 hX) dX1_ageOf_14 ?_
  refine lv_istore_n (lv' := [(3, .int v5), (0, .ref x0), (1, .int x1), (2, .int x2)]) hx hb dX1_ageOf_17 rfl hl (by decide) rfl (fun ls hl => ?_)
  refine lv_iload_n hx hb dX1_ageOf_18 rfl (lv_at hl 3 rfl) ?_
  refine lv_if_le (tgt := 55) hx hb dX1_ageOf_19 (by decide) (fun c6 => ?_) (fun c6 => ?_)
  · have hF := ifp hF c6
    refine lv_iconst (v := (-1)) hx hb dX1_ageOf_55 rfl ?_
    have hz := (Option.some.inj hF)
    subst hz
    exact cri S hM hr hlocks dX1_ageOf_56
  · have hF := ifn hF c6
    refine lv_iload_n hx hb dX1_ageOf_22 rfl (lv_at hl 3 rfl) ?_
    refine lv_iload_n hx hb dX1_ageOf_23 rfl (lv_at hl 0 rfl) ?_
    obtain ⟨z15, hF⟩ := gZe hF
    refine lv_irem hx hb dX1_ageOf_24 z15 ?_
    refine lv_if_ne (tgt := 55) hx hb dX1_ageOf_25 (by decide) (fun c7 => ?_) (fun c7 => ?_)
    · have hF := ifn hF c7
      refine lv_iconst (v := (-1)) hx hb dX1_ageOf_55 rfl ?_
      have hz := (Option.some.inj hF)
      subst hz
      exact cri S hM hr hlocks dX1_ageOf_56
    · have hF := ifp hF c7
      refine lv_iload_n hx hb dX1_ageOf_28 rfl (lv_at hl 3 rfl) ?_
      refine lv_iload_n hx hb dX1_ageOf_29 rfl (lv_at hl 0 rfl) ?_
      obtain ⟨z14, hF⟩ := gZe hF
      refine lv_idiv hx hb dX1_ageOf_30 z14 ?_
      refine lv_aload_n hx hb dX1_ageOf_31 rfl (lv_at hl 1 rfl) ?_
      obtain ⟨a8, ea8, hF⟩ := obn hF
      refine cgn S hX hM ea8 ck_1_1_3 q327 (fun _ h => h) dX1_ageOf_32 ?_
      obtain ⟨v9, ev9, hF⟩ := obn hF
      refine cgiN S hX hM ev9 ck_2_2_2 (uq194 hX) dX1_ageOf_35 ?_
      refine lv_icmp_gt (tgt := 55) hx hb dX1_ageOf_38 (by decide) (fun c10 => ?_) (fun c10 => ?_)
      · have hF := ifp hF c10
        refine lv_iconst (v := (-1)) hx hb dX1_ageOf_55 rfl ?_
        have hz := (Option.some.inj hF)
        subst hz
        exact cri S hM hr hlocks dX1_ageOf_56
      · have hF := ifn hF c10
        refine lv_aload_n hx hb dX1_ageOf_41 rfl (lv_at hl 1 rfl) ?_
        obtain ⟨a11, ea11, hF⟩ := obn hF
        refine cgn S hX hM ea11 ck_1_1_3 q327 (fun _ h => h) dX1_ageOf_42 ?_
        obtain ⟨v12, ev12, hF⟩ := obn hF
        refine cgiN S hX hM ev12 ck_2_2_2 (uq194 hX) dX1_ageOf_45 ?_
        refine lv_iload_n hx hb dX1_ageOf_48 rfl (lv_at hl 3 rfl) ?_
        refine lv_iload_n hx hb dX1_ageOf_49 rfl (lv_at hl 0 rfl) ?_
        obtain ⟨z13, hF⟩ := gZe hF
        refine lv_idiv hx hb dX1_ageOf_50 z13 ?_
        refine lv_isub hx hb dX1_ageOf_51 ?_
        refine lv_goto (tgt := 56) hx hb dX1_ageOf_52 (by decide) ?_
        have hz := (Option.some.inj hF)
        subst hz
        exact cri S hM hr hlocks dX1_ageOf_56
def lX1_who_4 (F : Nat) (σ : HS) : Nat → Nat → Int32 → Int32 → Int32 → Option (Int32)
  | 0, _, _, _, _ => none
  | n + 1, y0, y1, y2, y3 => ((fR σ y0 1 1 3).bind fun a1 => ((fR σ a1 2 2 5).bind fun a2 => gT σ a2 15 15 (((fJ2_size F σ a2).bind fun r3 => (if r3 ≤ y3 then (some y2) else (gT σ y0 1 1 (((fX1_ageOf F σ y0 y3 y1).bind fun r5 => (if r5 = (-1) then (lX1_who_4 F σ n y0 y1 y2 (y3 + 1)) else (lt_ (y2 ||| (1 <<< (y3 &&& 31))) fun u7 => lX1_who_4 F σ n y0 y1 u7 (y3 + 1)))))))))))
def fX1_who (F : Nat) (h0 : HS) (x0 : Nat) (x1 : Int32) : Option (Int32) := ((lX1_who_4 F h0 F x0 x1 0 0).bind fun q8 => (if q8 = 0 then (some (-1)) else (some q8)))
theorem hyX1_who : yX1_who.cls ≠ "java/lang/invoke/MethodHandle" ∧ yX1_who.cls ≠ "java/lang/invoke/VarHandle" := by decide +kernel
theorem hlX1_who : (parseMethodDescriptor yX1_who.desc).map (fun d => d.parameters.length) = some 1 := by decide +kernel
set_option maxHeartbeats 4000000 in
set_option maxRecDepth 100000 in
theorem wlX1_who_4 {p : Program} {l : Launch} [NoTr l] {e : Env} {s : State} {m : MethodId} {args : Array Value} {below : List Frame} {meth : Method} {c : Code} {D : va_G} {h0 : HS} (S : CallFix p m c cX1_who 4 s args lw_all RX1) (hX : CX D (kG h0) s) (σ : HS) (F : Nat) {Q : State → Prop} : ∀ (n : Nat) (y0 : Nat) (y1 : Int32) (y2 : Int32) (y3 : Int32) (out : Int32), lX1_who_4 F σ n y0 y1 y2 y3 = some out → (∀ (H : Heap) (locs : List Loc) (cs ss : Nat) (ls : Array Slot), HI D h0 σ s.heap H locs cs ss → lv_has ls 4 [(2, .int out)] → W p l e (cR 4 87 h0) s m args below meth c H locs cs ss Q (F0 m 40 ls [])) → ∀ (H : Heap) (locs : List Loc) (cs ss : Nat) (ls : Array Slot), HI D h0 σ s.heap H locs cs ss → lv_has ls 4 [(0, .ref y0), (1, .int y1), (2, .int y2), (3, .int y3)] → W p l e (cR 4 87 h0) s m args below meth c H locs cs ss Q (F0 m 4 ls []) := by
  intro n
  induction n with
  | zero =>
    intro y0 y1 y2 y3 out hF
    cases (show (none : Option _) = some out from hF)
  | succ n ih =>
    intro y0 y1 y2 y3 out hF hk H locs cs ss ls hM hl
    rw [lX1_who_4] at hF
    obtain ⟨hx, hb, hml, hown, hts⟩ := id S
    refine lv_iload_n hx hb dX1_who_4 rfl (lv_at hl 3 rfl) ?_
    refine lv_aload_n hx hb dX1_who_5 rfl (lv_at hl 0 rfl) ?_
    obtain ⟨a1, ea1, hF⟩ := obn hF
    refine cgn S hX hM ea1 ck_1_1_3 q327 (fun _ h => h) dX1_who_6 ?_
    obtain ⟨a2, ea2, hF⟩ := obn hF
    refine cgnN S hX hM ea2 ck_2_2_5 (uq204 hX) dX1_who_9 ?_
    obtain ⟨z3, hF⟩ := gTe hF
    obtain ⟨r3, er3, hF⟩ := obn hF
    refine ccr (rest := [.int y3]) (st1 := [.int r3, .int y3]) S hX hM (metJ2_size l F D σ a2 r3 er3) (ci_V (C := "java/util/ArrayList") (As := []) (rest := [.int y3]) S q1149 q830 q831 q832 hyJ2_size (HI.cell (ci := 14) hX hM (by decide) (by omega)) hlJ2_size rfl dX1_who_12) q832 q107 (Nat.le_of_ble_eq_true rfl) (Nat.le_of_ble_eq_true rfl) hl.1 (Nat.le_of_ble_eq_true rfl) rfl (fun H locs cs ss hM => ?_)
    refine lv_icmp_ge (tgt := 40) hx hb dX1_who_15 (by decide) (fun c4 => ?_) (fun c4 => ?_)
    · have hF := ifp hF c4
      cases hF
      exact hk _ _ _ _ _ hM (lv_sub hl [2] rfl)
    · have hF := ifn hF c4
      refine lv_aload_n hx hb dX1_who_18 rfl (lv_at hl 0 rfl) ?_
      refine lv_iload_n hx hb dX1_who_19 rfl (lv_at hl 3 rfl) ?_
      refine lv_iload_n hx hb dX1_who_20 rfl (lv_at hl 1 rfl) ?_
      obtain ⟨z5, hF⟩ := gTe hF
      obtain ⟨r5, er5, hF⟩ := obn hF
      refine ccr (rest := []) (st1 := [.int r5]) S hX hM (metX1_ageOf l F D σ y0 y3 y1 r5 er5) (ci_V (C := "RugReader") (As := [.int y3, .int y1]) (rest := []) S q1245 q1247 qs20 q1248 hyX1_ageOf (HI.cell (ci := 0) hX hM (by decide) (by omega)) hlX1_ageOf rfl dX1_who_21) q1248 q103 (Nat.le_of_ble_eq_true rfl) (Nat.le_of_ble_eq_true rfl) hl.1 (Nat.le_of_ble_eq_true rfl) rfl (fun H locs cs ss hM => ?_)
      refine lv_iconst (v := (-1)) hx hb dX1_who_24 rfl ?_
      refine lv_icmp_eq (tgt := 34) hx hb dX1_who_25 (by decide) (fun c6 => ?_) (fun c6 => ?_)
      · have hF := ifp hF c6
        refine lv_iinc (v := y3 + 1) (lv' := [(3, .int (y3 + 1)), (0, .ref y0), (1, .int y1), (2, .int y2)]) hx hb dX1_who_34 hl (k := 3) rfl rfl (by decide) rfl (fun ls hl => ?_)
        refine lv_goto (tgt := 4) hx hb dX1_who_37 (by decide) ?_
        exact ih _ _ _ _ out hF hk _ _ _ _ _ hM (lv_sub hl [1, 2, 3, 0] rfl)
      · have hF := ifn hF c6
        refine lv_iload_n hx hb dX1_who_28 rfl (lv_at hl 2 rfl) ?_
        refine lv_iconst (v := 1) hx hb dX1_who_29 rfl ?_
        refine lv_iload_n hx hb dX1_who_30 rfl (lv_at hl 3 rfl) ?_
        refine lv_ishl hx hb dX1_who_31 ?_
        refine lv_ior hx hb dX1_who_32 ?_
        obtain ⟨u7, eu7, hF⟩ := lte hF
        refine mr_top eu7 ?_
        refine lv_istore_n (lv' := [(2, .int u7), (0, .ref y0), (1, .int y1), (3, .int y3)]) hx hb dX1_who_33 rfl hl (by decide) rfl (fun ls hl => ?_)
        refine lv_iinc (v := y3 + 1) (lv' := [(3, .int (y3 + 1)), (2, .int u7), (0, .ref y0), (1, .int y1)]) hx hb dX1_who_34 hl (k := 3) rfl rfl (by decide) rfl (fun ls hl => ?_)
        refine lv_goto (tgt := 4) hx hb dX1_who_37 (by decide) ?_
        exact ih _ _ _ _ out hF hk _ _ _ _ _ hM (lv_sub hl [2, 3, 1, 0] rfl)
set_option maxHeartbeats 4000000 in
set_option maxRecDepth 100000 in
theorem metX1_who (l : Launch) [NoTr l] (F : Nat) (D : va_G) (h0 : HS) (x0 : Nat) (x1 : Int32) (r : Int32) (hF : fX1_who F h0 x0 x1 = some r) : CMet l yX1_who (ws_ yX1_who cX1_who 4 (some .int)) 4 87 D [.ref x0, .int x1] h0 h0 (.inr (some (.int r))) := by
  refine CMet.ofW (by decide) ?_
  intro p e s m below meth c s₁ B S hX hM hr hlocks hnt hin
  obtain ⟨hx, hb, hml, hown, hts⟩ := id S
  have hl := lv_entry ([.ref x0, .int x1]) (n := 4) (Nat.le_of_ble_eq_true rfl)
  rw [lg_entry_eq]
  generalize (lg_sl ([.ref x0, .int x1]) ++ List.replicate (4 - (lg_sl ([.ref x0, .int x1])).length) Slot.unset).toArray = ls at hl ⊢
  have hl : lv_has ls 4 [(0, .ref x0), (1, .int x1)] := hl
  unfold fX1_who at hF
  refine lv_iconst (v := 0) hx hb dX1_who_0 rfl ?_
  refine lv_istore_n (lv' := [(2, .int 0), (0, .ref x0), (1, .int x1)]) hx hb dX1_who_1 rfl hl (by decide) rfl (fun ls hl => ?_)
  refine lv_iconst (v := 0) hx hb dX1_who_2 rfl ?_
  refine lv_istore_n (lv' := [(3, .int 0), (2, .int 0), (0, .ref x0), (1, .int x1)]) hx hb dX1_who_3 rfl hl (by decide) rfl (fun ls hl => ?_)
  obtain ⟨q8, hq8, hF⟩ := obn hF
  refine wlX1_who_4 S hX _ F  F _ _ _ _ q8 hq8 (fun H locs cs ss ls hM hl => ?_) _ _ _ _ _ hM (lv_sub hl [2, 3, 1, 0] rfl)
  refine lv_iload_n hx hb dX1_who_40 rfl (lv_at hl 0 rfl) ?_
  refine lv_if_ne (tgt := 48) hx hb dX1_who_41 (by decide) (fun c9 => ?_) (fun c9 => ?_)
  · have hF := ifn hF c9
    refine lv_iload_n hx hb dX1_who_48 rfl (lv_at hl 0 rfl) ?_
    have hz := (Option.some.inj hF)
    subst hz
    exact cri S hM hr hlocks dX1_who_49
  · have hF := ifp hF c9
    refine lv_iconst (v := (-1)) hx hb dX1_who_44 rfl ?_
    refine lv_goto (tgt := 49) hx hb dX1_who_45 (by decide) ?_
    have hz := (Option.some.inj hF)
    subst hz
    exact cri S hM hr hlocks dX1_who_49
def fX1_age (F : Nat) (h0 : HS) (x0 : Nat) (x1 : Int32) (x2 : Int32) : Option (Int32) := gT h0 x0 1 1 (((fX1_isPerson F h0 x0 x1).bind fun r1 => (if r1 = 0 then (some (-1)) else (gT h0 x0 1 1 (((fX1_ageOf F h0 x0 x1 x2).bind fun r3 => some r3))))))
theorem hyX1_age : yX1_age.cls ≠ "java/lang/invoke/MethodHandle" ∧ yX1_age.cls ≠ "java/lang/invoke/VarHandle" := by decide +kernel
theorem hlX1_age : (parseMethodDescriptor yX1_age.desc).map (fun d => d.parameters.length) = some 2 := by decide +kernel
set_option maxHeartbeats 4000000 in
set_option maxRecDepth 100000 in
theorem metX1_age (l : Launch) [NoTr l] (F : Nat) (D : va_G) (h0 : HS) (x0 : Nat) (x1 : Int32) (x2 : Int32) (r : Int32) (hF : fX1_age F h0 x0 x1 x2 = some r) : CMet l yX1_age (ws_ yX1_age cX1_age 3 (some .int)) 4 87 D [.ref x0, .int x1, .int x2] h0 h0 (.inr (some (.int r))) := by
  refine CMet.ofW (by decide) ?_
  intro p e s m below meth c s₁ B S hX hM hr hlocks hnt hin
  obtain ⟨hx, hb, hml, hown, hts⟩ := id S
  have hl := lv_entry ([.ref x0, .int x1, .int x2]) (n := 3) (Nat.le_of_ble_eq_true rfl)
  rw [lg_entry_eq]
  generalize (lg_sl ([.ref x0, .int x1, .int x2]) ++ List.replicate (3 - (lg_sl ([.ref x0, .int x1, .int x2])).length) Slot.unset).toArray = ls at hl ⊢
  have hl : lv_has ls 3 [(0, .ref x0), (1, .int x1), (2, .int x2)] := hl
  unfold fX1_age at hF
  refine lv_aload_n hx hb dX1_age_0 rfl (lv_at hl 0 rfl) ?_
  refine lv_iload_n hx hb dX1_age_1 rfl (lv_at hl 1 rfl) ?_
  obtain ⟨z1, hF⟩ := gTe hF
  obtain ⟨r1, er1, hF⟩ := obn hF
  refine ccr (rest := []) (st1 := [.int r1]) S hX hM (metX1_isPerson l F D h0 x0 x1 r1 er1) (ci_V (C := "RugReader") (As := [.int x1]) (rest := []) S q1157 q1159 qs16 q1160 hyX1_isPerson (HI.cell (ci := 0) hX hM (by decide) (by omega)) hlX1_isPerson rfl dX1_age_2) q1160 q103 (Nat.le_of_ble_eq_true rfl) (Nat.le_of_ble_eq_true rfl) hl.1 (Nat.le_of_ble_eq_true rfl) rfl (fun H locs cs ss hM => ?_)
  refine lv_if_eq (tgt := 17) hx hb dX1_age_5 (by decide) (fun c2 => ?_) (fun c2 => ?_)
  · have hF := ifp hF c2
    refine lv_iconst (v := (-1)) hx hb dX1_age_17 rfl ?_
    have hz := (Option.some.inj hF)
    subst hz
    exact cri S hM hr hlocks dX1_age_18
  · have hF := ifn hF c2
    refine lv_aload_n hx hb dX1_age_8 rfl (lv_at hl 0 rfl) ?_
    refine lv_iload_n hx hb dX1_age_9 rfl (lv_at hl 1 rfl) ?_
    refine lv_iload_n hx hb dX1_age_10 rfl (lv_at hl 2 rfl) ?_
    obtain ⟨z3, hF⟩ := gTe hF
    obtain ⟨r3, er3, hF⟩ := obn hF
    refine ccr (rest := []) (st1 := [.int r3]) S hX hM (metX1_ageOf l F D h0 x0 x1 x2 r3 er3) (ci_V (C := "RugReader") (As := [.int x1, .int x2]) (rest := []) S q1245 q1247 qs20 q1248 hyX1_ageOf (HI.cell (ci := 0) hX hM (by decide) (by omega)) hlX1_ageOf rfl dX1_age_11) q1248 q103 (Nat.le_of_ble_eq_true rfl) (Nat.le_of_ble_eq_true rfl) hl.1 (Nat.le_of_ble_eq_true rfl) rfl (fun H locs cs ss hM => ?_)
    refine lv_goto (tgt := 18) hx hb dX1_age_14 (by decide) ?_
    have hz := (Option.some.inj hF)
    subst hz
    exact cri S hM hr hlocks dX1_age_18
def fX1_onTape (F : Nat) (h0 : HS) (x0 : Nat) (x1 : Int32) : Option (Int32) := ((fR h0 x0 1 1 0).bind fun a1 => ((aI h0 a1 32 x1).bind fun v2 => some (v2 &&& 255)))
theorem hyX1_onTape : yX1_onTape.cls ≠ "java/lang/invoke/MethodHandle" ∧ yX1_onTape.cls ≠ "java/lang/invoke/VarHandle" := by decide +kernel
theorem hlX1_onTape : (parseMethodDescriptor yX1_onTape.desc).map (fun d => d.parameters.length) = some 1 := by decide +kernel
set_option maxHeartbeats 4000000 in
set_option maxRecDepth 100000 in
theorem metX1_onTape (l : Launch) [NoTr l] (F : Nat) (D : va_G) (h0 : HS) (x0 : Nat) (x1 : Int32) (r : Int32) (hF : fX1_onTape F h0 x0 x1 = some r) : CMet l yX1_onTape (ws_ yX1_onTape cX1_onTape 2 (some .int)) 0 0 D [.ref x0, .int x1] h0 h0 (.inr (some (.int r))) := by
  refine CMet.ofW (by decide) ?_
  intro p e s m below meth c s₁ B S hX hM hr hlocks hnt hin
  obtain ⟨hx, hb, hml, hown, hts⟩ := id S
  have hl := lv_entry ([.ref x0, .int x1]) (n := 2) (Nat.le_of_ble_eq_true rfl)
  rw [lg_entry_eq]
  generalize (lg_sl ([.ref x0, .int x1]) ++ List.replicate (2 - (lg_sl ([.ref x0, .int x1])).length) Slot.unset).toArray = ls at hl ⊢
  have hl : lv_has ls 2 [(0, .ref x0), (1, .int x1)] := hl
  unfold fX1_onTape at hF
  refine lv_aload_n hx hb dX1_onTape_0 rfl (lv_at hl 0 rfl) ?_
  obtain ⟨a1, ea1, hF⟩ := obn hF
  refine cgn S hX hM ea1 ck_1_1_0 q324 (fun _ h => h) dX1_onTape_1 ?_
  refine lv_iload_n hx hb dX1_onTape_4 rfl (lv_at hl 1 rfl) ?_
  obtain ⟨v2, ev2, hF⟩ := obn hF
  refine cab S hX hM ev2 dX1_onTape_5 ?_
  refine lv_sipush (v := 255) hx hb dX1_onTape_6 rfl ?_
  refine lv_iand hx hb dX1_onTape_9 ?_
  have hz := (Option.some.inj hF)
  subst hz
  exact cri S hM hr hlocks dX1_onTape_10
def lX1_takeTold_27 (F : Nat) (σ : HS) : Nat → Nat → Int32 → Int32 → Option ((Unit) ⊕ (Int32 × HS))
  | 0, _, _, _ => none
  | n + 1, y0, y1, y2 => (if y1 ≤ y2 then (some (.inl ())) else ((fR σ y0 1 1 3).bind fun a6 => gT σ y0 1 1 (((fX1_onTape F σ y0 y2).bind fun r7 => gT σ y0 1 1 (((fX1_onTape F σ y0 (y2 + 1)).bind fun r8 => gT σ a6 2 2 (((fX2_isCell F σ a6 r7 r8).bind fun r9 => (if r9 = 0 then (some (.inr (0, σ))) else (gT σ y0 1 1 (((fX1_onTape F σ y0 (y2 + 3)).bind fun r11 => (if r11 ≤ 9 then (lX1_takeTold_27 F σ n y0 y1 (y2 + 4)) else (gT σ y0 1 1 (((fX1_onTape F σ y0 (y2 + 3)).bind fun r13 => (if r13 = 255 then (lX1_takeTold_27 F σ n y0 y1 (y2 + 4)) else (some (.inr (0, σ))))))))))))))))))))
def lX1_takeTold_96 (F : Nat) : Nat → HS → Nat → Int32 → Option (HS)
  | 0, _, _, _ => none
  | n + 1, σ, y0, y2 => ((oI σ y0 1 1 15).bind fun v17 => (if v17 ≤ y2 then (some σ) else ((fR σ y0 1 1 8).bind fun a19 => gT σ y0 1 1 (((fX1_onTape F σ y0 ((4 * y2) + 1)).bind fun r20 => gT σ y0 1 1 (((fX1_onTape F σ y0 (4 * y2)).bind fun r21 => ((wI σ a19 31 y2 ((12 * r20) + r21)).bind fun σ22 => ((fR σ22 y0 1 1 9).bind fun a23 => gT σ22 y0 1 1 (((fX1_onTape F σ22 y0 ((4 * y2) + 2)).bind fun r24 => ((wI σ22 a23 31 y2 r24).bind fun σ25 => ((fR σ25 y0 1 1 10).bind fun a26 => gT σ25 y0 1 1 (((fX1_onTape F σ25 y0 ((4 * y2) + 3)).bind fun r27 => ((wI σ25 a26 31 y2 r27).bind fun σ28 => lX1_takeTold_96 F n σ28 y0 (y2 + 1)))))))))))))))))
def fX1_takeTold (F : Nat) (h0 : HS) (x0 : Nat) : Option (Int32 × HS) := gT h0 x0 1 1 (((fX1_take F h0 x0).bind fun r1 => (if (irm r1.1 4) = 0 then (if (fX1_isIn (r1.1 / 4) 1 8) = 0 then (some (0, r1.2)) else (osm (lX1_takeTold_27 F r1.2 F x0 r1.1 0) id fun q15 => ((pI r1.2 x0 1 1 15 (r1.1 / 4)).bind fun σ16 => ((lX1_takeTold_96 F F σ16 x0 0).bind fun q29 => some (1, q29))))) else (some (0, r1.2)))))
theorem hyX1_takeTold : yX1_takeTold.cls ≠ "java/lang/invoke/MethodHandle" ∧ yX1_takeTold.cls ≠ "java/lang/invoke/VarHandle" := by decide +kernel
theorem hlX1_takeTold : (parseMethodDescriptor yX1_takeTold.desc).map (fun d => d.parameters.length) = some 0 := by decide +kernel
set_option maxHeartbeats 4000000 in
set_option maxRecDepth 100000 in
theorem wlX1_takeTold_27 {p : Program} {l : Launch} [NoTr l] {e : Env} {s : State} {m : MethodId} {args : Array Value} {below : List Frame} {meth : Method} {c : Code} {D : va_G} {h0 : HS} (S : CallFix p m c cX1_takeTold 3 s args lw_all RX1) (hX : CX D (kG h0) s) (σ : HS) (hr : meth.sig.returnType = (some .boolean)) (hlocks : meth.locks = false) (hnt : ∀ x ∈ c.exceptionTable.toList, False) (F : Nat) (res : Int32 × HS) : ∀ (n : Nat) (y0 : Nat) (y1 : Int32) (y2 : Int32) (out : (Unit) ⊕ (Int32 × HS)), lX1_takeTold_27 F σ n y0 y1 y2 = some out → (∀ v, out = .inr v → v = res) → (∀ o, out = .inl o → ∀ (H : Heap) (locs : List Loc) (cs ss : Nat) (ls : Array Slot), HI D h0 σ s.heap H locs cs ss → lv_has ls 3 [(0, .ref y0), (1, .int y1)] → W p l e (cR 2 44 h0) s m args below meth c H locs cs ss (cMQ below D h0 res.2 (.inr (some (.int res.1))) args s) (F0 m 87 ls [])) → ∀ (H : Heap) (locs : List Loc) (cs ss : Nat) (ls : Array Slot), HI D h0 σ s.heap H locs cs ss → lv_has ls 3 [(0, .ref y0), (1, .int y1), (2, .int y2)] → W p l e (cR 2 44 h0) s m args below meth c H locs cs ss (cMQ below D h0 res.2 (.inr (some (.int res.1))) args s) (F0 m 27 ls []) := by
  intro n
  induction n with
  | zero =>
    intro y0 y1 y2 out hF
    cases (show (none : Option _) = some out from hF)
  | succ n ih =>
    intro y0 y1 y2 out hF hv hk H locs cs ss ls hM hl
    rw [lX1_takeTold_27] at hF
    obtain ⟨hx, hb, hml, hown, hts⟩ := id S
    refine lv_iload_n hx hb dX1_takeTold_27 rfl (lv_at hl 2 rfl) ?_
    refine lv_iload_n hx hb dX1_takeTold_28 rfl (lv_at hl 1 rfl) ?_
    refine lv_icmp_ge (tgt := 87) hx hb dX1_takeTold_29 (by decide) (fun c5 => ?_) (fun c5 => ?_)
    · have hF := ifp hF c5
      cases hF
      exact hk _ rfl _ _ _ _ _ hM (lv_sub hl [0, 1] rfl)
    · have hF := ifn hF c5
      refine lv_aload_n hx hb dX1_takeTold_32 rfl (lv_at hl 0 rfl) ?_
      obtain ⟨a6, ea6, hF⟩ := obn hF
      refine cgn S hX hM ea6 ck_1_1_3 q327 (fun _ h => h) dX1_takeTold_33 ?_
      refine lv_aload_n hx hb dX1_takeTold_36 rfl (lv_at hl 0 rfl) ?_
      refine lv_iload_n hx hb dX1_takeTold_37 rfl (lv_at hl 2 rfl) ?_
      obtain ⟨z7, hF⟩ := gTe hF
      obtain ⟨r7, er7, hF⟩ := obn hF
      refine ccr (rest := [.ref a6]) (st1 := [.int r7, .ref a6]) S hX hM (metX1_onTape l F D σ y0 y2 r7 er7) (ci_V (C := "RugReader") (As := [.int y2]) (rest := [.ref a6]) S q1262 q1264 qs22 q1265 hyX1_onTape (HI.cell (ci := 0) hX hM (by decide) (by omega)) hlX1_onTape rfl dX1_takeTold_38) q1265 q103 (Nat.le_of_ble_eq_true rfl) (Nat.le_of_ble_eq_true rfl) hl.1 (Nat.le_of_ble_eq_true rfl) rfl (fun H locs cs ss hM => ?_)
      refine lv_aload_n hx hb dX1_takeTold_41 rfl (lv_at hl 0 rfl) ?_
      refine lv_iload_n hx hb dX1_takeTold_42 rfl (lv_at hl 2 rfl) ?_
      refine lv_iconst (v := 1) hx hb dX1_takeTold_43 rfl ?_
      refine lv_iadd hx hb dX1_takeTold_44 ?_
      obtain ⟨z8, hF⟩ := gTe hF
      obtain ⟨r8, er8, hF⟩ := obn hF
      refine ccr (rest := [.int r7, .ref a6]) (st1 := [.int r8, .int r7, .ref a6]) S hX hM (metX1_onTape l F D σ y0 (y2 + 1) r8 er8) (ci_V (C := "RugReader") (As := [.int (y2 + 1)]) (rest := [.int r7, .ref a6]) S q1262 q1264 qs22 q1265 hyX1_onTape (HI.cell (ci := 0) hX hM (by decide) (by omega)) hlX1_onTape rfl dX1_takeTold_45) q1265 q103 (Nat.le_of_ble_eq_true rfl) (Nat.le_of_ble_eq_true rfl) hl.1 (Nat.le_of_ble_eq_true rfl) rfl (fun H locs cs ss hM => ?_)
      obtain ⟨z9, hF⟩ := gTe hF
      obtain ⟨r9, er9, hF⟩ := obn hF
      refine ccr (rest := []) (st1 := [.int r9]) S hX hM (metX2_isCell l F D σ a6 r7 r8 r9 er9) (ci_V (C := "RugReader$House") (As := [.int r7, .int r8]) (rest := []) S q1266 q1118 q1119 q1120 hyX2_isCell (HI.cell (ci := 1) hX hM (by decide) (by omega)) hlX2_isCell rfl dX1_takeTold_48) q1120 q104 (Nat.le_of_ble_eq_true rfl) (Nat.le_of_ble_eq_true rfl) hl.1 (Nat.le_of_ble_eq_true rfl) rfl (fun H locs cs ss hM => ?_)
      refine lv_if_eq (tgt := 79) hx hb dX1_takeTold_51 (by decide) (fun c10 => ?_) (fun c10 => ?_)
      · have hF := ifp hF c10
        refine lv_iconst (v := 0) hx hb dX1_takeTold_79 rfl ?_
        have hz := (hv _ ((Option.some.inj hF)).symm)
        subst hz
        exact crz S hM hr hlocks (gBn gB0) dX1_takeTold_80
      · have hF := ifn hF c10
        refine lv_aload_n hx hb dX1_takeTold_54 rfl (lv_at hl 0 rfl) ?_
        refine lv_iload_n hx hb dX1_takeTold_55 rfl (lv_at hl 2 rfl) ?_
        refine lv_iconst (v := 3) hx hb dX1_takeTold_56 rfl ?_
        refine lv_iadd hx hb dX1_takeTold_57 ?_
        obtain ⟨z11, hF⟩ := gTe hF
        obtain ⟨r11, er11, hF⟩ := obn hF
        refine ccr (rest := []) (st1 := [.int r11]) S hX hM (metX1_onTape l F D σ y0 (y2 + 3) r11 er11) (ci_V (C := "RugReader") (As := [.int (y2 + 3)]) (rest := []) S q1262 q1264 qs22 q1265 hyX1_onTape (HI.cell (ci := 0) hX hM (by decide) (by omega)) hlX1_onTape rfl dX1_takeTold_58) q1265 q103 (Nat.le_of_ble_eq_true rfl) (Nat.le_of_ble_eq_true rfl) hl.1 (Nat.le_of_ble_eq_true rfl) rfl (fun H locs cs ss hM => ?_)
        refine lv_bipush (v := 9) hx hb dX1_takeTold_61 rfl ?_
        refine lv_icmp_le (tgt := 81) hx hb dX1_takeTold_63 (by decide) (fun c12 => ?_) (fun c12 => ?_)
        · have hF := ifp hF c12
          refine lv_iinc (v := y2 + 4) (lv' := [(2, .int (y2 + 4)), (0, .ref y0), (1, .int y1)]) hx hb dX1_takeTold_81 hl (k := 2) rfl rfl (by decide) rfl (fun ls hl => ?_)
          refine lv_goto (tgt := 27) hx hb dX1_takeTold_84 (by decide) ?_
          exact ih _ _ _ out hF hv hk _ _ _ _ _ hM (lv_sub hl [1, 2, 0] rfl)
        · have hF := ifn hF c12
          refine lv_aload_n hx hb dX1_takeTold_66 rfl (lv_at hl 0 rfl) ?_
          refine lv_iload_n hx hb dX1_takeTold_67 rfl (lv_at hl 2 rfl) ?_
          refine lv_iconst (v := 3) hx hb dX1_takeTold_68 rfl ?_
          refine lv_iadd hx hb dX1_takeTold_69 ?_
          obtain ⟨z13, hF⟩ := gTe hF
          obtain ⟨r13, er13, hF⟩ := obn hF
          refine ccr (rest := []) (st1 := [.int r13]) S hX hM (metX1_onTape l F D σ y0 (y2 + 3) r13 er13) (ci_V (C := "RugReader") (As := [.int (y2 + 3)]) (rest := []) S q1262 q1264 qs22 q1265 hyX1_onTape (HI.cell (ci := 0) hX hM (by decide) (by omega)) hlX1_onTape rfl dX1_takeTold_70) q1265 q103 (Nat.le_of_ble_eq_true rfl) (Nat.le_of_ble_eq_true rfl) hl.1 (Nat.le_of_ble_eq_true rfl) rfl (fun H locs cs ss hM => ?_)
          refine lv_sipush (v := 255) hx hb dX1_takeTold_73 rfl ?_
          refine lv_icmp_eq (tgt := 81) hx hb dX1_takeTold_76 (by decide) (fun c14 => ?_) (fun c14 => ?_)
          · have hF := ifp hF c14
            refine lv_iinc (v := y2 + 4) (lv' := [(2, .int (y2 + 4)), (0, .ref y0), (1, .int y1)]) hx hb dX1_takeTold_81 hl (k := 2) rfl rfl (by decide) rfl (fun ls hl => ?_)
            refine lv_goto (tgt := 27) hx hb dX1_takeTold_84 (by decide) ?_
            exact ih _ _ _ out hF hv hk _ _ _ _ _ hM (lv_sub hl [1, 2, 0] rfl)
          · have hF := ifn hF c14
            refine lv_iconst (v := 0) hx hb dX1_takeTold_79 rfl ?_
            have hz := (hv _ ((Option.some.inj hF)).symm)
            subst hz
            exact crz S hM hr hlocks (gBn gB0) dX1_takeTold_80
set_option maxHeartbeats 4000000 in
set_option maxRecDepth 100000 in
theorem wlX1_takeTold_96 {p : Program} {l : Launch} [NoTr l] {e : Env} {s : State} {m : MethodId} {args : Array Value} {below : List Frame} {meth : Method} {c : Code} {D : va_G} {h0 : HS} (S : CallFix p m c cX1_takeTold 3 s args lw_all RX1) (hX : CX D (kG h0) s) (F : Nat) {Q : State → Prop} : ∀ (n : Nat) (σ : HS) (y0 : Nat) (y2 : Int32) (out : HS), lX1_takeTold_96 F n σ y0 y2 = some out → (∀ (H : Heap) (locs : List Loc) (cs ss : Nat) (ls : Array Slot), HI D h0 out s.heap H locs cs ss → lv_has ls 3 [] → W p l e (cR 2 44 h0) s m args below meth c H locs cs ss Q (F0 m 166 ls [])) → ∀ (H : Heap) (locs : List Loc) (cs ss : Nat) (ls : Array Slot), HI D h0 σ s.heap H locs cs ss → lv_has ls 3 [(0, .ref y0), (2, .int y2)] → W p l e (cR 2 44 h0) s m args below meth c H locs cs ss Q (F0 m 96 ls []) := by
  intro n
  induction n with
  | zero =>
    intro σ y0 y2 out hF
    cases (show (none : Option _) = some out from hF)
  | succ n ih =>
    intro σ y0 y2 out hF hk H locs cs ss ls hM hl
    rw [lX1_takeTold_96] at hF
    obtain ⟨hx, hb, hml, hown, hts⟩ := id S
    refine lv_iload_n hx hb dX1_takeTold_96 rfl (lv_at hl 1 rfl) ?_
    refine lv_aload_n hx hb dX1_takeTold_97 rfl (lv_at hl 0 rfl) ?_
    obtain ⟨v17, ev17, hF⟩ := obn hF
    refine cgi S hX hM ev17 ck_1_1_15 q339 (fun _ h => h) dX1_takeTold_98 ?_
    refine lv_icmp_ge (tgt := 166) hx hb dX1_takeTold_101 (by decide) (fun c18 => ?_) (fun c18 => ?_)
    · have hF := ifp hF c18
      cases hF
      exact hk _ _ _ _ _ hM (lv_sub hl [] rfl)
    · have hF := ifn hF c18
      refine lv_aload_n hx hb dX1_takeTold_104 rfl (lv_at hl 0 rfl) ?_
      obtain ⟨a19, ea19, hF⟩ := obn hF
      refine cgn S hX hM ea19 ck_1_1_8 q332 (fun _ h => h) dX1_takeTold_105 ?_
      refine lv_iload_n hx hb dX1_takeTold_108 rfl (lv_at hl 1 rfl) ?_
      refine lv_bipush (v := 12) hx hb dX1_takeTold_109 rfl ?_
      refine lv_aload_n hx hb dX1_takeTold_111 rfl (lv_at hl 0 rfl) ?_
      refine lv_iconst (v := 4) hx hb dX1_takeTold_112 rfl ?_
      refine lv_iload_n hx hb dX1_takeTold_113 rfl (lv_at hl 1 rfl) ?_
      refine lv_imul hx hb dX1_takeTold_114 ?_
      refine lv_iconst (v := 1) hx hb dX1_takeTold_115 rfl ?_
      refine lv_iadd hx hb dX1_takeTold_116 ?_
      obtain ⟨z20, hF⟩ := gTe hF
      obtain ⟨r20, er20, hF⟩ := obn hF
      refine ccr (rest := [.int 12, .int y2, .ref a19]) (st1 := [.int r20, .int 12, .int y2, .ref a19]) S hX hM (metX1_onTape l F D σ y0 ((4 * y2) + 1) r20 er20) (ci_V (C := "RugReader") (As := [.int ((4 * y2) + 1)]) (rest := [.int 12, .int y2, .ref a19]) S q1262 q1264 qs22 q1265 hyX1_onTape (HI.cell (ci := 0) hX hM (by decide) (by omega)) hlX1_onTape rfl dX1_takeTold_117) q1265 q103 (Nat.le_of_ble_eq_true rfl) (Nat.le_of_ble_eq_true rfl) hl.1 (Nat.le_of_ble_eq_true rfl) rfl (fun H locs cs ss hM => ?_)
      refine lv_imul hx hb dX1_takeTold_120 ?_
      refine lv_aload_n hx hb dX1_takeTold_121 rfl (lv_at hl 0 rfl) ?_
      refine lv_iconst (v := 4) hx hb dX1_takeTold_122 rfl ?_
      refine lv_iload_n hx hb dX1_takeTold_123 rfl (lv_at hl 1 rfl) ?_
      refine lv_imul hx hb dX1_takeTold_124 ?_
      obtain ⟨z21, hF⟩ := gTe hF
      obtain ⟨r21, er21, hF⟩ := obn hF
      refine ccr (rest := [.int (12 * r20), .int y2, .ref a19]) (st1 := [.int r21, .int (12 * r20), .int y2, .ref a19]) S hX hM (metX1_onTape l F D σ y0 (4 * y2) r21 er21) (ci_V (C := "RugReader") (As := [.int (4 * y2)]) (rest := [.int (12 * r20), .int y2, .ref a19]) S q1262 q1264 qs22 q1265 hyX1_onTape (HI.cell (ci := 0) hX hM (by decide) (by omega)) hlX1_onTape rfl dX1_takeTold_125) q1265 q103 (Nat.le_of_ble_eq_true rfl) (Nat.le_of_ble_eq_true rfl) hl.1 (Nat.le_of_ble_eq_true rfl) rfl (fun H locs cs ss hM => ?_)
      refine lv_iadd hx hb dX1_takeTold_128 ?_
      obtain ⟨σ22, eσ22, hF⟩ := obn hF
      refine cwi S hX hM eσ22 dX1_takeTold_129 (fun H locs hM => ?_)
      refine lv_aload_n hx hb dX1_takeTold_130 rfl (lv_at hl 0 rfl) ?_
      obtain ⟨a23, ea23, hF⟩ := obn hF
      refine cgn S hX hM ea23 ck_1_1_9 q333 (fun _ h => h) dX1_takeTold_131 ?_
      refine lv_iload_n hx hb dX1_takeTold_134 rfl (lv_at hl 1 rfl) ?_
      refine lv_aload_n hx hb dX1_takeTold_135 rfl (lv_at hl 0 rfl) ?_
      refine lv_iconst (v := 4) hx hb dX1_takeTold_136 rfl ?_
      refine lv_iload_n hx hb dX1_takeTold_137 rfl (lv_at hl 1 rfl) ?_
      refine lv_imul hx hb dX1_takeTold_138 ?_
      refine lv_iconst (v := 2) hx hb dX1_takeTold_139 rfl ?_
      refine lv_iadd hx hb dX1_takeTold_140 ?_
      obtain ⟨z24, hF⟩ := gTe hF
      obtain ⟨r24, er24, hF⟩ := obn hF
      refine ccr (rest := [.int y2, .ref a23]) (st1 := [.int r24, .int y2, .ref a23]) S hX hM (metX1_onTape l F D σ22 y0 ((4 * y2) + 2) r24 er24) (ci_V (C := "RugReader") (As := [.int ((4 * y2) + 2)]) (rest := [.int y2, .ref a23]) S q1262 q1264 qs22 q1265 hyX1_onTape (HI.cell (ci := 0) hX hM (by decide) (by omega)) hlX1_onTape rfl dX1_takeTold_141) q1265 q103 (Nat.le_of_ble_eq_true rfl) (Nat.le_of_ble_eq_true rfl) hl.1 (Nat.le_of_ble_eq_true rfl) rfl (fun H locs cs ss hM => ?_)
      obtain ⟨σ25, eσ25, hF⟩ := obn hF
      refine cwi S hX hM eσ25 dX1_takeTold_144 (fun H locs hM => ?_)
      refine lv_aload_n hx hb dX1_takeTold_145 rfl (lv_at hl 0 rfl) ?_
      obtain ⟨a26, ea26, hF⟩ := obn hF
      refine cgn S hX hM ea26 ck_1_1_10 q334 (fun _ h => h) dX1_takeTold_146 ?_
      refine lv_iload_n hx hb dX1_takeTold_149 rfl (lv_at hl 1 rfl) ?_
      refine lv_aload_n hx hb dX1_takeTold_150 rfl (lv_at hl 0 rfl) ?_
      refine lv_iconst (v := 4) hx hb dX1_takeTold_151 rfl ?_
      refine lv_iload_n hx hb dX1_takeTold_152 rfl (lv_at hl 1 rfl) ?_
      refine lv_imul hx hb dX1_takeTold_153 ?_
      refine lv_iconst (v := 3) hx hb dX1_takeTold_154 rfl ?_
      refine lv_iadd hx hb dX1_takeTold_155 ?_
      obtain ⟨z27, hF⟩ := gTe hF
      obtain ⟨r27, er27, hF⟩ := obn hF
      refine ccr (rest := [.int y2, .ref a26]) (st1 := [.int r27, .int y2, .ref a26]) S hX hM (metX1_onTape l F D σ25 y0 ((4 * y2) + 3) r27 er27) (ci_V (C := "RugReader") (As := [.int ((4 * y2) + 3)]) (rest := [.int y2, .ref a26]) S q1262 q1264 qs22 q1265 hyX1_onTape (HI.cell (ci := 0) hX hM (by decide) (by omega)) hlX1_onTape rfl dX1_takeTold_156) q1265 q103 (Nat.le_of_ble_eq_true rfl) (Nat.le_of_ble_eq_true rfl) hl.1 (Nat.le_of_ble_eq_true rfl) rfl (fun H locs cs ss hM => ?_)
      obtain ⟨σ28, eσ28, hF⟩ := obn hF
      refine cwi S hX hM eσ28 dX1_takeTold_159 (fun H locs hM => ?_)
      refine lv_iinc (v := y2 + 1) (lv' := [(2, .int (y2 + 1)), (0, .ref y0)]) hx hb dX1_takeTold_160 hl (k := 1) rfl rfl (by decide) rfl (fun ls hl => ?_)
      refine lv_goto (tgt := 96) hx hb dX1_takeTold_163 (by decide) ?_
      exact ih _ _ _ out hF hk _ _ _ _ _ hM (lv_sub hl [1, 0] rfl)
set_option maxHeartbeats 4000000 in
set_option maxRecDepth 100000 in
theorem metX1_takeTold (l : Launch) [NoTr l] (F : Nat) (D : va_G) (h0 : HS) (x0 : Nat) (r : Int32 × HS) (hF : fX1_takeTold F h0 x0 = some r) : CMet l yX1_takeTold (ws_ yX1_takeTold cX1_takeTold 3 (some .boolean)) 2 44 D [.ref x0] h0 r.2 (.inr (some (.int r.1))) := by
  refine CMet.ofW (by decide) ?_
  intro p e s m below meth c s₁ B S hX hM hr hlocks hnt hin
  obtain ⟨hx, hb, hml, hown, hts⟩ := id S
  have hl := lv_entry ([.ref x0]) (n := 3) (Nat.le_of_ble_eq_true rfl)
  rw [lg_entry_eq]
  generalize (lg_sl ([.ref x0]) ++ List.replicate (3 - (lg_sl ([.ref x0])).length) Slot.unset).toArray = ls at hl ⊢
  have hl : lv_has ls 3 [(0, .ref x0)] := hl
  unfold fX1_takeTold at hF
  refine lv_aload_n hx hb dX1_takeTold_0 rfl (lv_at hl 0 rfl) ?_
  obtain ⟨z1, hF⟩ := gTe hF
  obtain ⟨r1, er1, hF⟩ := obn hF
  refine ccr (rest := []) (st1 := [.int r1.1]) S hX hM (metX1_take l F D h0 x0 r1 er1) (ci_V (C := "RugReader") (As := []) (rest := []) S q438 q440 qs1 q441 hyX1_take (HI.cell (ci := 0) hX hM (by decide) (by omega)) hlX1_take rfl dX1_takeTold_1) q441 q103 (Nat.le_of_ble_eq_true rfl) (Nat.le_of_ble_eq_true rfl) hl.1 (Nat.le_of_ble_eq_true rfl) rfl (fun H locs cs ss hM => ?_)
  refine lv_istore_n (lv' := [(1, .int r1.1), (0, .ref x0)]) hx hb dX1_takeTold_4 rfl hl (by decide) rfl (fun ls hl => ?_)
  refine lv_iload_n hx hb dX1_takeTold_5 rfl (lv_at hl 0 rfl) ?_
  refine lv_iconst (v := 4) hx hb dX1_takeTold_6 rfl ?_
  refine lv_irem hx hb dX1_takeTold_7 (by decide) ?_
  refine lv_if_ne (tgt := 23) hx hb dX1_takeTold_8 (by decide) (fun c2 => ?_) (fun c2 => ?_)
  · have hF := ifn hF c2
    refine lv_iconst (v := 0) hx hb dX1_takeTold_23 rfl ?_
    have hz := (Option.some.inj hF)
    subst hz
    exact crz S hM hr hlocks (gBn gB0) dX1_takeTold_24
  · have hF := ifp hF c2
    refine lv_iload_n hx hb dX1_takeTold_11 rfl (lv_at hl 0 rfl) ?_
    refine lv_iconst (v := 4) hx hb dX1_takeTold_12 rfl ?_
    refine lv_idiv hx hb dX1_takeTold_13 (by decide) ?_
    refine lv_iconst (v := 1) hx hb dX1_takeTold_14 rfl ?_
    refine lv_bipush (v := 8) hx hb dX1_takeTold_15 rfl ?_
    refine ccr (rest := []) (st1 := [.int (fX1_isIn (r1.1 / 4) 1 8)]) S hX hM (metX1_isIn l D r1.2 (r1.1 / 4) 1 8 _ rfl) (ci_S (As := [.int (r1.1 / 4), .int 1, .int 8]) (rest := []) S q1150 q821 q103 q822 hyX1_isIn hlX1_isIn rfl dX1_takeTold_17) q822 q103 (Nat.le_of_ble_eq_true rfl) (Nat.le_of_ble_eq_true rfl) hl.1 (Nat.le_of_ble_eq_true rfl) rfl (fun H locs cs ss hM => ?_)
    refine lv_if_ne (tgt := 25) hx hb dX1_takeTold_20 (by decide) (fun c4 => ?_) (fun c4 => ?_)
    · have hF := ifn hF c4
      refine lv_iconst (v := 0) hx hb dX1_takeTold_25 rfl ?_
      refine lv_istore_n (lv' := [(2, .int 0), (1, .int r1.1), (0, .ref x0)]) hx hb dX1_takeTold_26 rfl hl (by decide) rfl (fun ls hl => ?_)
      obtain ⟨oq15, hq15, h1q15, h2q15⟩ := osx hF
      refine wlX1_takeTold_27 S hX _ hr hlocks hnt F _  F _ _ _ oq15 hq15 (fun v e => (h2q15 v e)) (fun q15 eq15 H locs cs ss ls hM hl => ?_) _ _ _ _ _ hM (lv_sub hl [2, 1, 0] rfl)
      have hF := h1q15 _ eq15
      refine lv_aload_n hx hb dX1_takeTold_87 rfl (lv_at hl 0 rfl) ?_
      refine lv_iload_n hx hb dX1_takeTold_88 rfl (lv_at hl 1 rfl) ?_
      refine lv_iconst (v := 4) hx hb dX1_takeTold_89 rfl ?_
      refine lv_idiv hx hb dX1_takeTold_90 (by decide) ?_
      obtain ⟨σ16, eσ16, hF⟩ := obn hF
      refine cpi S hX hM eσ16 ck_1_1_15 cw_1_1_15 rfl rfl q339 (fun _ h => h) dX1_takeTold_91 (fun H locs hM => ?_)
      refine lv_iconst (v := 0) hx hb dX1_takeTold_94 rfl ?_
      refine lv_istore_n (lv' := [(2, .int 0), (0, .ref x0), (1, .int r1.1)]) hx hb dX1_takeTold_95 rfl hl (by decide) rfl (fun ls hl => ?_)
      obtain ⟨q29, hq29, hF⟩ := obn hF
      refine wlX1_takeTold_96 S hX F  F _ _ _ q29 hq29 (fun H locs cs ss ls hM hl => ?_) _ _ _ _ _ hM (lv_sub hl [1, 0] rfl)
      refine lv_iconst (v := 1) hx hb dX1_takeTold_166 rfl ?_
      have hz := (Option.some.inj hF)
      subst hz
      exact crz S hM hr hlocks (gBn gB1) dX1_takeTold_167
    · have hF := ifp hF c4
      refine lv_iconst (v := 0) hx hb dX1_takeTold_23 rfl ?_
      have hz := (Option.some.inj hF)
      subst hz
      exact crz S hM hr hlocks (gBn gB0) dX1_takeTold_24
def lX11_times_4 (F : Nat) (σ : HS) : Nat → Nat → Int32 → Int32 → Int32 → Option (Int32)
  | 0, _, _, _, _ => none
  | n + 1, y0, y1, y2, y3 => ((oI σ y0 10 10 3).bind fun v1 => (if v1 < y3 then (some y2) else ((fR σ y0 10 10 1).bind fun a3 => ((aI σ a3 31 y3).bind fun v4 => (if v4 = y1 then (lX11_times_4 F σ n y0 y1 (y2 + 1) (y3 + 1)) else (lX11_times_4 F σ n y0 y1 y2 (y3 + 1)))))))
def fX11_times (F : Nat) (h0 : HS) (x0 : Nat) (x1 : Int32) : Option (Int32) := ((lX11_times_4 F h0 F x0 x1 0 0).bind fun q6 => some q6)
theorem hyX11_times : yX11_times.cls ≠ "java/lang/invoke/MethodHandle" ∧ yX11_times.cls ≠ "java/lang/invoke/VarHandle" := by decide +kernel
theorem hlX11_times : (parseMethodDescriptor yX11_times.desc).map (fun d => d.parameters.length) = some 1 := by decide +kernel
set_option maxHeartbeats 4000000 in
set_option maxRecDepth 100000 in
theorem wlX11_times_4 {p : Program} {l : Launch} [NoTr l] {e : Env} {s : State} {m : MethodId} {args : Array Value} {below : List Frame} {meth : Method} {c : Code} {D : va_G} {h0 : HS} (S : CallFix p m c cX11_times 4 s args lw_all RX11) (hX : CX D (kG h0) s) (σ : HS) (F : Nat) {Q : State → Prop} : ∀ (n : Nat) (y0 : Nat) (y1 : Int32) (y2 : Int32) (y3 : Int32) (out : Int32), lX11_times_4 F σ n y0 y1 y2 y3 = some out → (∀ (H : Heap) (locs : List Loc) (cs ss : Nat) (ls : Array Slot), HI D h0 σ s.heap H locs cs ss → lv_has ls 4 [(2, .int out)] → W p l e (cR 0 0 h0) s m args below meth c H locs cs ss Q (F0 m 31 ls [])) → ∀ (H : Heap) (locs : List Loc) (cs ss : Nat) (ls : Array Slot), HI D h0 σ s.heap H locs cs ss → lv_has ls 4 [(0, .ref y0), (1, .int y1), (2, .int y2), (3, .int y3)] → W p l e (cR 0 0 h0) s m args below meth c H locs cs ss Q (F0 m 4 ls []) := by
  intro n
  induction n with
  | zero =>
    intro y0 y1 y2 y3 out hF
    cases (show (none : Option _) = some out from hF)
  | succ n ih =>
    intro y0 y1 y2 y3 out hF hk H locs cs ss ls hM hl
    rw [lX11_times_4] at hF
    obtain ⟨hx, hb, hml, hown, hts⟩ := id S
    refine lv_iload_n hx hb dX11_times_4 rfl (lv_at hl 3 rfl) ?_
    refine lv_aload_n hx hb dX11_times_5 rfl (lv_at hl 0 rfl) ?_
    obtain ⟨v1, ev1, hF⟩ := obn hF
    refine cgi S hX hM ev1 ck_10_10_3 q1074 (fun _ h => h) dX11_times_6 ?_
    refine lv_icmp_gt (tgt := 31) hx hb dX11_times_9 (by decide) (fun c2 => ?_) (fun c2 => ?_)
    · have hF := ifp hF c2
      cases hF
      exact hk _ _ _ _ _ hM (lv_sub hl [2] rfl)
    · have hF := ifn hF c2
      refine lv_aload_n hx hb dX11_times_12 rfl (lv_at hl 0 rfl) ?_
      obtain ⟨a3, ea3, hF⟩ := obn hF
      refine cgn S hX hM ea3 ck_10_10_1 q1069 (fun _ h => h) dX11_times_13 ?_
      refine lv_iload_n hx hb dX11_times_16 rfl (lv_at hl 3 rfl) ?_
      obtain ⟨v4, ev4, hF⟩ := obn hF
      refine cai S hX hM ev4 dX11_times_17 ?_
      refine lv_iload_n hx hb dX11_times_18 rfl (lv_at hl 1 rfl) ?_
      refine lv_icmp_ne (tgt := 25) hx hb dX11_times_19 (by decide) (fun c5 => ?_) (fun c5 => ?_)
      · have hF := ifn hF c5
        refine lv_iinc (v := y3 + 1) (lv' := [(3, .int (y3 + 1)), (0, .ref y0), (1, .int y1), (2, .int y2)]) hx hb dX11_times_25 hl (k := 3) rfl rfl (by decide) rfl (fun ls hl => ?_)
        refine lv_goto (tgt := 4) hx hb dX11_times_28 (by decide) ?_
        exact ih _ _ _ _ out hF hk _ _ _ _ _ hM (lv_sub hl [1, 2, 3, 0] rfl)
      · have hF := ifp hF c5
        refine lv_iinc (v := y2 + 1) (lv' := [(2, .int (y2 + 1)), (0, .ref y0), (1, .int y1), (3, .int y3)]) hx hb dX11_times_22 hl (k := 2) rfl rfl (by decide) rfl (fun ls hl => ?_)
        refine lv_iinc (v := y3 + 1) (lv' := [(3, .int (y3 + 1)), (2, .int (y2 + 1)), (0, .ref y0), (1, .int y1)]) hx hb dX11_times_25 hl (k := 3) rfl rfl (by decide) rfl (fun ls hl => ?_)
        refine lv_goto (tgt := 4) hx hb dX11_times_28 (by decide) ?_
        exact ih _ _ _ _ out hF hk _ _ _ _ _ hM (lv_sub hl [2, 3, 1, 0] rfl)
set_option maxHeartbeats 4000000 in
set_option maxRecDepth 100000 in
theorem metX11_times (l : Launch) [NoTr l] (F : Nat) (D : va_G) (h0 : HS) (x0 : Nat) (x1 : Int32) (r : Int32) (hF : fX11_times F h0 x0 x1 = some r) : CMet l yX11_times (ws_ yX11_times cX11_times 4 (some .int)) 0 0 D [.ref x0, .int x1] h0 h0 (.inr (some (.int r))) := by
  refine CMet.ofW (by decide) ?_
  intro p e s m below meth c s₁ B S hX hM hr hlocks hnt hin
  obtain ⟨hx, hb, hml, hown, hts⟩ := id S
  have hl := lv_entry ([.ref x0, .int x1]) (n := 4) (Nat.le_of_ble_eq_true rfl)
  rw [lg_entry_eq]
  generalize (lg_sl ([.ref x0, .int x1]) ++ List.replicate (4 - (lg_sl ([.ref x0, .int x1])).length) Slot.unset).toArray = ls at hl ⊢
  have hl : lv_has ls 4 [(0, .ref x0), (1, .int x1)] := hl
  unfold fX11_times at hF
  refine lv_iconst (v := 0) hx hb dX11_times_0 rfl ?_
  refine lv_istore_n (lv' := [(2, .int 0), (0, .ref x0), (1, .int x1)]) hx hb dX11_times_1 rfl hl (by decide) rfl (fun ls hl => ?_)
  refine lv_iconst (v := 0) hx hb dX11_times_2 rfl ?_
  refine lv_istore_n (lv' := [(3, .int 0), (2, .int 0), (0, .ref x0), (1, .int x1)]) hx hb dX11_times_3 rfl hl (by decide) rfl (fun ls hl => ?_)
  obtain ⟨q6, hq6, hF⟩ := obn hF
  refine wlX11_times_4 S hX _ F  F _ _ _ _ q6 hq6 (fun H locs cs ss ls hM hl => ?_) _ _ _ _ _ hM (lv_sub hl [2, 3, 1, 0] rfl)
  refine lv_iload_n hx hb dX11_times_31 rfl (lv_at hl 0 rfl) ?_
  have hz := (Option.some.inj hF)
  subst hz
  exact cri S hM hr hlocks dX11_times_32
def lX1_readings_27 (F : Nat) (rec : HS → Nat → Int32 → Option HS) : Nat → HS → Nat → Int32 → Int32 → Option (HS)
  | 0, _, _, _, _ => none
  | n + 1, σ, y0, y1, y2 => ((oI σ y0 1 1 15).bind fun v7 => (if v7 ≤ y2 then (some σ) else ((fR σ y0 1 1 14).bind fun a9 => ((fA σ a9 34 y1).bind fun a10 => ((fR σ y0 1 1 3).bind fun a11 => ((fR σ a11 2 2 6).bind fun a12 => gT σ a12 15 15 (((fJ2_get F σ a12 y1).bind fun r13 => gT σ r13 10 10 (((fR σ y0 1 1 8).bind fun a15 => ((aI σ a15 31 y2).bind fun v16 => gT σ r13 10 10 (((fX11_times F σ r13 v16).bind fun r17 => ((wI σ a10 31 y2 r17).bind fun σ18 => lX1_readings_27 F rec n σ18 y0 y1 (y2 + 1)))))))))))))))
def lX1_readings_11 (F : Nat) (rec : HS → Nat → Int32 → Option HS) : Nat → HS → Nat → Int32 → Option (HS)
  | 0, _, _, _ => none
  | n + 1, σ, y0, y1 => ((fR σ y0 1 1 3).bind fun a3 => ((fR σ a3 2 2 6).bind fun a4 => gT σ a4 15 15 (((fJ2_size F σ a4).bind fun r5 => (if r5 ≤ y1 then (some σ) else ((lX1_readings_27 F rec F σ y0 y1 0).bind fun q19 => lX1_readings_11 F rec n q19 y0 (y1 + 1)))))))
def fX1_readings (F : Nat) (rec : HS → Nat → Int32 → Option HS) (h0 : HS) (x0 : Nat) : Option (Int32 × HS) := gT h0 x0 1 1 (((fX1_takeTold F h0 x0).bind fun r1 => (if r1.1 = 0 then (some ((-1), r1.2)) else ((lX1_readings_11 F rec F r1.2 x0 0).bind fun q20 => ((pI q20 x0 1 1 18 0).bind fun σ21 => gT σ21 x0 1 1 (((rec σ21 x0 0).bind fun r22 => ((oI r22 x0 1 1 18).bind fun v23 => (if v23 ≤ 0 then ((oI r22 x0 1 1 18).bind fun v25 => some (v25, r22)) else ((fR r22 x0 1 1 3).bind fun a26 => ((fR r22 a26 2 2 6).bind fun a27 => gT r22 a27 15 15 (((fJ2_size F r22 a27).bind fun r28 => ((pI r22 x0 1 1 17 r28).bind fun σ29 => ((oI σ29 x0 1 1 18).bind fun v30 => some (v30, σ29))))))))))))))))
theorem hyX1_readings : yX1_readings.cls ≠ "java/lang/invoke/MethodHandle" ∧ yX1_readings.cls ≠ "java/lang/invoke/VarHandle" := by decide +kernel
theorem hlX1_readings : (parseMethodDescriptor yX1_readings.desc).map (fun d => d.parameters.length) = some 0 := by decide +kernel
set_option maxHeartbeats 4000000 in
set_option maxRecDepth 100000 in
theorem wlX1_readings_27 {p : Program} {l : Launch} [NoTr l] {e : Env} {s : State} {m : MethodId} {args : Array Value} {below : List Frame} {meth : Method} {c : Code} {D : va_G} {h0 : HS} (S : CallFix p m c cX1_readings 3 s args lw_all RX1) (hX : CX D (kG h0) s) (RF RL : Nat) (rec : HS → Nat → Int32 → Option HS) (hrec : RecTW l D RF RL rec) (F : Nat) {Q : State → Prop} : ∀ (n : Nat) (σ : HS) (y0 : Nat) (y1 : Int32) (y2 : Int32) (out : HS), lX1_readings_27 F rec n σ y0 y1 y2 = some out → (∀ (H : Heap) (locs : List Loc) (cs ss : Nat) (ls : Array Slot), HI D h0 out s.heap H locs cs ss → lv_has ls 3 [(0, .ref y0), (1, .int y1)] → W p l e (cR (RF + 3) (RL + 66) h0) s m args below meth c H locs cs ss Q (F0 m 72 ls [])) → ∀ (H : Heap) (locs : List Loc) (cs ss : Nat) (ls : Array Slot), HI D h0 σ s.heap H locs cs ss → lv_has ls 3 [(0, .ref y0), (1, .int y1), (2, .int y2)] → W p l e (cR (RF + 3) (RL + 66) h0) s m args below meth c H locs cs ss Q (F0 m 27 ls []) := by
  intro n
  induction n with
  | zero =>
    intro σ y0 y1 y2 out hF
    cases (show (none : Option _) = some out from hF)
  | succ n ih =>
    intro σ y0 y1 y2 out hF hk H locs cs ss ls hM hl
    rw [lX1_readings_27] at hF
    obtain ⟨hx, hb, hml, hown, hts⟩ := id S
    refine lv_iload_n hx hb dX1_readings_27 rfl (lv_at hl 2 rfl) ?_
    refine lv_aload_n hx hb dX1_readings_28 rfl (lv_at hl 0 rfl) ?_
    obtain ⟨v7, ev7, hF⟩ := obn hF
    refine cgi S hX hM ev7 ck_1_1_15 q339 (fun _ h => h) dX1_readings_29 ?_
    refine lv_icmp_ge (tgt := 72) hx hb dX1_readings_32 (by decide) (fun c8 => ?_) (fun c8 => ?_)
    · have hF := ifp hF c8
      cases hF
      exact hk _ _ _ _ _ hM (lv_sub hl [0, 1] rfl)
    · have hF := ifn hF c8
      refine lv_aload_n hx hb dX1_readings_35 rfl (lv_at hl 0 rfl) ?_
      obtain ⟨a9, ea9, hF⟩ := obn hF
      refine cgn S hX hM ea9 ck_1_1_14 q338 (fun _ h => h) dX1_readings_36 ?_
      refine lv_iload_n hx hb dX1_readings_39 rfl (lv_at hl 1 rfl) ?_
      obtain ⟨a10, ea10, hF⟩ := obn hF
      refine can34 S hX hM ea10 dX1_readings_40 ?_
      refine lv_iload_n hx hb dX1_readings_41 rfl (lv_at hl 2 rfl) ?_
      refine lv_aload_n hx hb dX1_readings_42 rfl (lv_at hl 0 rfl) ?_
      obtain ⟨a11, ea11, hF⟩ := obn hF
      refine cgn S hX hM ea11 ck_1_1_3 q327 (fun _ h => h) dX1_readings_43 ?_
      obtain ⟨a12, ea12, hF⟩ := obn hF
      refine cgnN S hX hM ea12 ck_2_2_6 (uq210 hX) dX1_readings_46 ?_
      refine lv_iload_n hx hb dX1_readings_49 rfl (lv_at hl 1 rfl) ?_
      obtain ⟨z13, hF⟩ := gTe hF
      obtain ⟨r13, er13, hF⟩ := obn hF
      refine ccr (rest := [.int y2, .ref a10]) (st1 := [.ref r13, .int y2, .ref a10]) S hX hM (metJ2_get l F D σ a12 y1 r13 er13) (ci_V (C := "java/util/ArrayList") (As := [.int y1]) (rest := [.int y2, .ref a10]) S q1151 q925 q926 q927 hyJ2_get (HI.cell (ci := 14) hX hM (by decide) (by omega)) hlJ2_get rfl dX1_readings_50) q927 q107 (by omega) (by omega) hl.1 (Nat.le_of_ble_eq_true rfl) rfl (fun H locs cs ss hM => ?_)
      obtain ⟨z14, hF⟩ := gTe hF
      refine ccs (ci := 9) S hX hM (by decide) (by omega) q1152 dX1_readings_53 ?_
      refine lv_aload_n hx hb dX1_readings_56 rfl (lv_at hl 0 rfl) ?_
      obtain ⟨a15, ea15, hF⟩ := obn hF
      refine cgn S hX hM ea15 ck_1_1_8 q332 (fun _ h => h) dX1_readings_57 ?_
      refine lv_iload_n hx hb dX1_readings_60 rfl (lv_at hl 2 rfl) ?_
      obtain ⟨v16, ev16, hF⟩ := obn hF
      refine cai S hX hM ev16 dX1_readings_61 ?_
      obtain ⟨z17, hF⟩ := gTe hF
      obtain ⟨r17, er17, hF⟩ := obn hF
      refine ccr (rest := [.int y2, .ref a10]) (st1 := [.int r17, .int y2, .ref a10]) S hX hM (metX11_times l F D σ r13 v16 r17 er17) (ci_V (C := "RugReader$Way") (As := [.int v16]) (rest := [.int y2, .ref a10]) S q1267 q1268 q1269 q1270 hyX11_times (HI.cell (ci := 9) hX hM (by decide) (by omega)) hlX11_times rfl dX1_readings_62) q1270 q132 (by omega) (by omega) hl.1 (Nat.le_of_ble_eq_true rfl) rfl (fun H locs cs ss hM => ?_)
      obtain ⟨σ18, eσ18, hF⟩ := obn hF
      refine cwi S hX hM eσ18 dX1_readings_65 (fun H locs hM => ?_)
      refine lv_iinc (v := y2 + 1) (lv' := [(2, .int (y2 + 1)), (0, .ref y0), (1, .int y1)]) hx hb dX1_readings_66 hl (k := 2) rfl rfl (by decide) rfl (fun ls hl => ?_)
      refine lv_goto (tgt := 27) hx hb dX1_readings_69 (by decide) ?_
      exact ih _ _ _ _ out hF hk _ _ _ _ _ hM (lv_sub hl [1, 2, 0] rfl)
set_option maxHeartbeats 4000000 in
set_option maxRecDepth 100000 in
theorem wlX1_readings_11 {p : Program} {l : Launch} [NoTr l] {e : Env} {s : State} {m : MethodId} {args : Array Value} {below : List Frame} {meth : Method} {c : Code} {D : va_G} {h0 : HS} (S : CallFix p m c cX1_readings 3 s args lw_all RX1) (hX : CX D (kG h0) s) (RF RL : Nat) (rec : HS → Nat → Int32 → Option HS) (hrec : RecTW l D RF RL rec) (F : Nat) {Q : State → Prop} : ∀ (n : Nat) (σ : HS) (y0 : Nat) (y1 : Int32) (out : HS), lX1_readings_11 F rec n σ y0 y1 = some out → (∀ (H : Heap) (locs : List Loc) (cs ss : Nat) (ls : Array Slot), HI D h0 out s.heap H locs cs ss → lv_has ls 3 [(0, .ref y0)] → W p l e (cR (RF + 3) (RL + 66) h0) s m args below meth c H locs cs ss Q (F0 m 78 ls [])) → ∀ (H : Heap) (locs : List Loc) (cs ss : Nat) (ls : Array Slot), HI D h0 σ s.heap H locs cs ss → lv_has ls 3 [(0, .ref y0), (1, .int y1)] → W p l e (cR (RF + 3) (RL + 66) h0) s m args below meth c H locs cs ss Q (F0 m 11 ls []) := by
  intro n
  induction n with
  | zero =>
    intro σ y0 y1 out hF
    cases (show (none : Option _) = some out from hF)
  | succ n ih =>
    intro σ y0 y1 out hF hk H locs cs ss ls hM hl
    rw [lX1_readings_11] at hF
    obtain ⟨hx, hb, hml, hown, hts⟩ := id S
    refine lv_iload_n hx hb dX1_readings_11 rfl (lv_at hl 1 rfl) ?_
    refine lv_aload_n hx hb dX1_readings_12 rfl (lv_at hl 0 rfl) ?_
    obtain ⟨a3, ea3, hF⟩ := obn hF
    refine cgn S hX hM ea3 ck_1_1_3 q327 (fun _ h => h) dX1_readings_13 ?_
    obtain ⟨a4, ea4, hF⟩ := obn hF
    refine cgnN S hX hM ea4 ck_2_2_6 (uq210 hX) dX1_readings_16 ?_
    obtain ⟨z5, hF⟩ := gTe hF
    obtain ⟨r5, er5, hF⟩ := obn hF
    refine ccr (rest := [.int y1]) (st1 := [.int r5, .int y1]) S hX hM (metJ2_size l F D σ a4 r5 er5) (ci_V (C := "java/util/ArrayList") (As := []) (rest := [.int y1]) S q1149 q830 q831 q832 hyJ2_size (HI.cell (ci := 14) hX hM (by decide) (by omega)) hlJ2_size rfl dX1_readings_19) q832 q107 (by omega) (by omega) hl.1 (Nat.le_of_ble_eq_true rfl) rfl (fun H locs cs ss hM => ?_)
    refine lv_icmp_ge (tgt := 78) hx hb dX1_readings_22 (by decide) (fun c6 => ?_) (fun c6 => ?_)
    · have hF := ifp hF c6
      cases hF
      exact hk _ _ _ _ _ hM (lv_sub hl [0] rfl)
    · have hF := ifn hF c6
      refine lv_iconst (v := 0) hx hb dX1_readings_25 rfl ?_
      refine lv_istore_n (lv' := [(2, .int 0), (0, .ref y0), (1, .int y1)]) hx hb dX1_readings_26 rfl hl (by decide) rfl (fun ls hl => ?_)
      obtain ⟨q19, hq19, hF⟩ := obn hF
      refine wlX1_readings_27 S hX RF RL rec hrec F  F _ _ _ _ q19 hq19 (fun H locs cs ss ls hM hl => ?_) _ _ _ _ _ hM (lv_sub hl [1, 2, 0] rfl)
      refine lv_iinc (v := y1 + 1) (lv' := [(1, .int (y1 + 1)), (0, .ref y0)]) hx hb dX1_readings_72 hl (k := 1) rfl rfl (by decide) rfl (fun ls hl => ?_)
      refine lv_goto (tgt := 11) hx hb dX1_readings_75 (by decide) ?_
      exact ih _ _ _ out hF hk _ _ _ _ _ hM (lv_sub hl [1, 0] rfl)
set_option maxHeartbeats 4000000 in
set_option maxRecDepth 100000 in
theorem metX1_readings (l : Launch) [NoTr l] (F : Nat) (D : va_G) (RF RL : Nat) (rec : HS → Nat → Int32 → Option HS) (hrec : RecTW l D RF RL rec) (h0 : HS) (x0 : Nat) (r : Int32 × HS) (hF : fX1_readings F rec h0 x0 = some r) : CMet l yX1_readings (ws_ yX1_readings cX1_readings 3 (some .int)) (RF + 3) (RL + 66) D [.ref x0] h0 r.2 (.inr (some (.int r.1))) := by
  refine CMet.ofW (by decide) ?_
  intro p e s m below meth c s₁ B S hX hM hr hlocks hnt hin
  obtain ⟨hx, hb, hml, hown, hts⟩ := id S
  have hl := lv_entry ([.ref x0]) (n := 3) (Nat.le_of_ble_eq_true rfl)
  rw [lg_entry_eq]
  generalize (lg_sl ([.ref x0]) ++ List.replicate (3 - (lg_sl ([.ref x0])).length) Slot.unset).toArray = ls at hl ⊢
  have hl : lv_has ls 3 [(0, .ref x0)] := hl
  unfold fX1_readings at hF
  refine lv_aload_n hx hb dX1_readings_0 rfl (lv_at hl 0 rfl) ?_
  obtain ⟨z1, hF⟩ := gTe hF
  obtain ⟨r1, er1, hF⟩ := obn hF
  refine ccr (rest := []) (st1 := [.int r1.1]) S hX hM (metX1_takeTold l F D h0 x0 r1 er1) (ci_V (C := "RugReader") (As := []) (rest := []) S q1258 q1260 qs21 q1261 hyX1_takeTold (HI.cell (ci := 0) hX hM (by decide) (by omega)) hlX1_takeTold rfl dX1_readings_1) q1261 q103 (by omega) (by omega) hl.1 (Nat.le_of_ble_eq_true rfl) rfl (fun H locs cs ss hM => ?_)
  refine lv_if_ne (tgt := 9) hx hb dX1_readings_4 (by decide) (fun c2 => ?_) (fun c2 => ?_)
  · have hF := ifn hF c2
    refine lv_iconst (v := 0) hx hb dX1_readings_9 rfl ?_
    refine lv_istore_n (lv' := [(1, .int 0), (0, .ref x0)]) hx hb dX1_readings_10 rfl hl (by decide) rfl (fun ls hl => ?_)
    obtain ⟨q20, hq20, hF⟩ := obn hF
    refine wlX1_readings_11 S hX RF RL rec hrec F  F _ _ _ q20 hq20 (fun H locs cs ss ls hM hl => ?_) _ _ _ _ _ hM (lv_sub hl [1, 0] rfl)
    refine lv_aload_n hx hb dX1_readings_78 rfl (lv_at hl 0 rfl) ?_
    refine lv_iconst (v := 0) hx hb dX1_readings_79 rfl ?_
    obtain ⟨σ21, eσ21, hF⟩ := obn hF
    refine cpi S hX hM eσ21 ck_1_1_18 cw_1_1_18 rfl rfl q342 (fun _ h => h) dX1_readings_80 (fun H locs hM => ?_)
    refine lv_aload_n hx hb dX1_readings_83 rfl (lv_at hl 0 rfl) ?_
    refine lv_iconst (v := 0) hx hb dX1_readings_84 rfl ?_
    obtain ⟨z22, hF⟩ := gTe hF
    obtain ⟨r22, er22, hF⟩ := obn hF
    refine ccr (rest := []) (st1 := []) S hX hM (hrec σ21 x0 0 r22 er22) (ci_V (C := "RugReader") (As := [.int 0]) (rest := []) S q1271 q1273 qs23 q1274 hyX1_tryWays (HI.cell (ci := 0) hX hM (by decide) (by omega)) hlX1_tryWays rfl dX1_readings_85) q1274 q103 (by omega) (by omega) hl.1 (Nat.le_of_ble_eq_true rfl) rfl (fun H locs cs ss hM => ?_)
    refine lv_aload_n hx hb dX1_readings_88 rfl (lv_at hl 0 rfl) ?_
    obtain ⟨v23, ev23, hF⟩ := obn hF
    refine cgi S hX hM ev23 ck_1_1_18 q342 (fun _ h => h) dX1_readings_89 ?_
    refine lv_if_le (tgt := 109) hx hb dX1_readings_92 (by decide) (fun c24 => ?_) (fun c24 => ?_)
    · have hF := ifp hF c24
      refine lv_aload_n hx hb dX1_readings_109 rfl (lv_at hl 0 rfl) ?_
      obtain ⟨v25, ev25, hF⟩ := obn hF
      refine cgi S hX hM ev25 ck_1_1_18 q342 (fun _ h => h) dX1_readings_110 ?_
      have hz := (Option.some.inj hF)
      subst hz
      exact cri S hM hr hlocks dX1_readings_113
    · have hF := ifn hF c24
      refine lv_aload_n hx hb dX1_readings_95 rfl (lv_at hl 0 rfl) ?_
      refine lv_aload_n hx hb dX1_readings_96 rfl (lv_at hl 0 rfl) ?_
      obtain ⟨a26, ea26, hF⟩ := obn hF
      refine cgn S hX hM ea26 ck_1_1_3 q327 (fun _ h => h) dX1_readings_97 ?_
      obtain ⟨a27, ea27, hF⟩ := obn hF
      refine cgnN S hX hM ea27 ck_2_2_6 (uq210 hX) dX1_readings_100 ?_
      obtain ⟨z28, hF⟩ := gTe hF
      obtain ⟨r28, er28, hF⟩ := obn hF
      refine ccr (rest := [.ref x0]) (st1 := [.int r28, .ref x0]) S hX hM (metJ2_size l F D r22 a27 r28 er28) (ci_V (C := "java/util/ArrayList") (As := []) (rest := [.ref x0]) S q1149 q830 q831 q832 hyJ2_size (HI.cell (ci := 14) hX hM (by decide) (by omega)) hlJ2_size rfl dX1_readings_103) q832 q107 (by omega) (by omega) hl.1 (Nat.le_of_ble_eq_true rfl) rfl (fun H locs cs ss hM => ?_)
      obtain ⟨σ29, eσ29, hF⟩ := obn hF
      refine cpi S hX hM eσ29 ck_1_1_17 cw_1_1_17 rfl rfl q341 (fun _ h => h) dX1_readings_106 (fun H locs hM => ?_)
      refine lv_aload_n hx hb dX1_readings_109 rfl (lv_at hl 0 rfl) ?_
      obtain ⟨v30, ev30, hF⟩ := obn hF
      refine cgi S hX hM ev30 ck_1_1_18 q342 (fun _ h => h) dX1_readings_110 ?_
      have hz := (Option.some.inj hF)
      subst hz
      exact cri S hM hr hlocks dX1_readings_113
  · have hF := ifp hF c2
    refine lv_iconst (v := (-1)) hx hb dX1_readings_7 rfl ?_
    have hz := (Option.some.inj hF)
    subst hz
    exact cri S hM hr hlocks dX1_readings_8
def lX1_isSo_7 (F : Nat) (σ : HS) : Nat → Nat → Int32 → Int32 → Int32 → Int32 → Option (Int32 × Int32)
  | 0, _, _, _, _, _ => none
  | n + 1, y0, y1, y2, y3, y4 => ((fR σ y0 1 1 3).bind fun a1 => ((fR σ a1 2 2 6).bind fun a2 => gT σ a2 15 15 (((fJ2_size F σ a2).bind fun r3 => (if r3 ≤ y4 then (some (y2, y3)) else ((fR σ y0 1 1 11).bind fun a5 => ((aI σ a5 31 y4).bind fun v6 => (if v6 = (-1) then (lX1_isSo_7 F σ n y0 y1 y2 y3 (y4 + 1)) else ((fR σ y0 1 1 3).bind fun a8 => ((fR σ a8 2 2 5).bind fun a9 => ((fR σ y0 1 1 11).bind fun a10 => ((aI σ a10 31 y4).bind fun v11 => gT σ a9 15 15 (((fJ2_get F σ a9 v11).bind fun r12 => gT σ r12 9 9 (((fR σ y0 1 1 14).bind fun a14 => ((fA σ a14 34 y4).bind fun a15 => ((aI σ a15 31 y1).bind fun v16 => ((oI σ r12 9 9 1).bind fun v17 => ((fR σ y0 1 1 3).bind fun a18 => ((oI σ a18 2 2 2).bind fun v19 => lt_ (y2 + ((v16 * v17) * v19)) fun u20 => ((fR σ y0 1 1 14).bind fun a21 => ((fA σ a21 34 y4).bind fun a22 => ((aI σ a22 31 y1).bind fun v23 => (if v23 ≤ 0 then (lX1_isSo_7 F σ n y0 y1 u20 y3 (y4 + 1)) else ((oI σ r12 9 9 2).bind fun v25 => lX1_isSo_7 F σ n y0 y1 u20 v25 (y4 + 1)))))))))))))))))))))))))))
def fX1_isSo (F : Nat) (h0 : HS) (x0 : Nat) (x1 : Int32) : Option (Int32) := ((lX1_isSo_7 F h0 F x0 x1 0 (-1) 0).bind fun q26 => ((fR h0 x0 1 1 9).bind fun a27 => ((aI h0 a27 31 x1).bind fun v28 => (if q26.1 = v28 then ((fR h0 x0 1 1 10).bind fun a30 => ((aI h0 a30 31 x1).bind fun v31 => (if v31 = 255 then (some 1) else ((fR h0 x0 1 1 10).bind fun a33 => ((aI h0 a33 31 x1).bind fun v34 => (if v34 = q26.2 then (some 1) else (some 0))))))) else (some 0)))))
theorem hyX1_isSo : yX1_isSo.cls ≠ "java/lang/invoke/MethodHandle" ∧ yX1_isSo.cls ≠ "java/lang/invoke/VarHandle" := by decide +kernel
theorem hlX1_isSo : (parseMethodDescriptor yX1_isSo.desc).map (fun d => d.parameters.length) = some 1 := by decide +kernel
set_option maxHeartbeats 4000000 in
set_option maxRecDepth 100000 in
theorem wlX1_isSo_7 {p : Program} {l : Launch} [NoTr l] {e : Env} {s : State} {m : MethodId} {args : Array Value} {below : List Frame} {meth : Method} {c : Code} {D : va_G} {h0 : HS} (S : CallFix p m c cX1_isSo 6 s args lw_all RX1) (hX : CX D (kG h0) s) (σ : HS) (F : Nat) {Q : State → Prop} : ∀ (n : Nat) (y0 : Nat) (y1 : Int32) (y2 : Int32) (y3 : Int32) (y4 : Int32) (out : Int32 × Int32), lX1_isSo_7 F σ n y0 y1 y2 y3 y4 = some out → (∀ (H : Heap) (locs : List Loc) (cs ss : Nat) (ls : Array Slot), HI D h0 σ s.heap H locs cs ss → lv_has ls 6 [(0, .ref y0), (1, .int y1), (2, .int out.1), (3, .int out.2)] → W p l e (cR 3 64 h0) s m args below meth c H locs cs ss Q (F0 m 108 ls [])) → ∀ (H : Heap) (locs : List Loc) (cs ss : Nat) (ls : Array Slot), HI D h0 σ s.heap H locs cs ss → lv_has ls 6 [(0, .ref y0), (1, .int y1), (2, .int y2), (3, .int y3), (4, .int y4)] → W p l e (cR 3 64 h0) s m args below meth c H locs cs ss Q (F0 m 7 ls []) := by
  intro n
  induction n with
  | zero =>
    intro y0 y1 y2 y3 y4 out hF
    cases (show (none : Option _) = some out from hF)
  | succ n ih =>
    intro y0 y1 y2 y3 y4 out hF hk H locs cs ss ls hM hl
    rw [lX1_isSo_7] at hF
    obtain ⟨hx, hb, hml, hown, hts⟩ := id S
    refine lv_iload hx hb dX1_isSo_7 (lv_at hl 4 rfl) ?_
    refine lv_aload_n hx hb dX1_isSo_9 rfl (lv_at hl 0 rfl) ?_
    obtain ⟨a1, ea1, hF⟩ := obn hF
    refine cgn S hX hM ea1 ck_1_1_3 q327 (fun _ h => h) dX1_isSo_10 ?_
    obtain ⟨a2, ea2, hF⟩ := obn hF
    refine cgnN S hX hM ea2 ck_2_2_6 (uq210 hX) dX1_isSo_13 ?_
    obtain ⟨z3, hF⟩ := gTe hF
    obtain ⟨r3, er3, hF⟩ := obn hF
    refine ccr (rest := [.int y4]) (st1 := [.int r3, .int y4]) S hX hM (metJ2_size l F D σ a2 r3 er3) (ci_V (C := "java/util/ArrayList") (As := []) (rest := [.int y4]) S q1149 q830 q831 q832 hyJ2_size (HI.cell (ci := 14) hX hM (by decide) (by omega)) hlJ2_size rfl dX1_isSo_16) q832 q107 (Nat.le_of_ble_eq_true rfl) (Nat.le_of_ble_eq_true rfl) hl.1 (Nat.le_of_ble_eq_true rfl) rfl (fun H locs cs ss hM => ?_)
    refine lv_icmp_ge (tgt := 108) hx hb dX1_isSo_19 (by decide) (fun c4 => ?_) (fun c4 => ?_)
    · have hF := ifp hF c4
      cases hF
      exact hk _ _ _ _ _ hM (lv_sub hl [0, 1, 2, 3] rfl)
    · have hF := ifn hF c4
      refine lv_aload_n hx hb dX1_isSo_22 rfl (lv_at hl 0 rfl) ?_
      obtain ⟨a5, ea5, hF⟩ := obn hF
      refine cgn S hX hM ea5 ck_1_1_11 q335 (fun _ h => h) dX1_isSo_23 ?_
      refine lv_iload hx hb dX1_isSo_26 (lv_at hl 4 rfl) ?_
      obtain ⟨v6, ev6, hF⟩ := obn hF
      refine cai S hX hM ev6 dX1_isSo_28 ?_
      refine lv_iconst (v := (-1)) hx hb dX1_isSo_29 rfl ?_
      refine lv_icmp_ne (tgt := 36) hx hb dX1_isSo_30 (by decide) (fun c7 => ?_) (fun c7 => ?_)
      · have hF := ifn hF c7
        refine lv_aload_n hx hb dX1_isSo_36 rfl (lv_at hl 0 rfl) ?_
        obtain ⟨a8, ea8, hF⟩ := obn hF
        refine cgn S hX hM ea8 ck_1_1_3 q327 (fun _ h => h) dX1_isSo_37 ?_
        obtain ⟨a9, ea9, hF⟩ := obn hF
        refine cgnN S hX hM ea9 ck_2_2_5 (uq204 hX) dX1_isSo_40 ?_
        refine lv_aload_n hx hb dX1_isSo_43 rfl (lv_at hl 0 rfl) ?_
        obtain ⟨a10, ea10, hF⟩ := obn hF
        refine cgn S hX hM ea10 ck_1_1_11 q335 (fun _ h => h) dX1_isSo_44 ?_
        refine lv_iload hx hb dX1_isSo_47 (lv_at hl 4 rfl) ?_
        obtain ⟨v11, ev11, hF⟩ := obn hF
        refine cai S hX hM ev11 dX1_isSo_49 ?_
        obtain ⟨z12, hF⟩ := gTe hF
        obtain ⟨r12, er12, hF⟩ := obn hF
        refine ccr (rest := []) (st1 := [.ref r12]) S hX hM (metJ2_get l F D σ a9 v11 r12 er12) (ci_V (C := "java/util/ArrayList") (As := [.int v11]) (rest := []) S q1151 q925 q926 q927 hyJ2_get (HI.cell (ci := 14) hX hM (by decide) (by omega)) hlJ2_get rfl dX1_isSo_50) q927 q107 (Nat.le_of_ble_eq_true rfl) (Nat.le_of_ble_eq_true rfl) hl.1 (Nat.le_of_ble_eq_true rfl) rfl (fun H locs cs ss hM => ?_)
        obtain ⟨z13, hF⟩ := gTe hF
        refine ccs (ci := 8) S hX hM (by decide) (by omega) q1249 dX1_isSo_53 ?_
        refine lv_astore (lv' := [(5, .ref r12), (0, .ref y0), (1, .int y1), (2, .int y2), (3, .int y3), (4, .int y4)]) hx hb dX1_isSo_56 hl (by decide) rfl (fun ls hl => ?_)
        refine lv_iload_n hx hb dX1_isSo_58 rfl (lv_at hl 3 rfl) ?_
        refine lv_aload_n hx hb dX1_isSo_59 rfl (lv_at hl 1 rfl) ?_
        obtain ⟨a14, ea14, hF⟩ := obn hF
        refine cgn S hX hM ea14 ck_1_1_14 q338 (fun _ h => h) dX1_isSo_60 ?_
        refine lv_iload hx hb dX1_isSo_63 (lv_at hl 5 rfl) ?_
        obtain ⟨a15, ea15, hF⟩ := obn hF
        refine can34 S hX hM ea15 dX1_isSo_65 ?_
        refine lv_iload_n hx hb dX1_isSo_66 rfl (lv_at hl 2 rfl) ?_
        obtain ⟨v16, ev16, hF⟩ := obn hF
        refine cai S hX hM ev16 dX1_isSo_67 ?_
        refine lv_aload hx hb dX1_isSo_68 (lv_at hl 0 rfl) ?_
        obtain ⟨v17, ev17, hF⟩ := obn hF
        refine cgiN S hX hM ev17 ck_9_9_1 (uq949 hX) dX1_isSo_70 ?_
        refine lv_imul hx hb dX1_isSo_73 ?_
        refine lv_aload_n hx hb dX1_isSo_74 rfl (lv_at hl 1 rfl) ?_
        obtain ⟨a18, ea18, hF⟩ := obn hF
        refine cgn S hX hM ea18 ck_1_1_3 q327 (fun _ h => h) dX1_isSo_75 ?_
        obtain ⟨v19, ev19, hF⟩ := obn hF
        refine cgiN S hX hM ev19 ck_2_2_2 (uq194 hX) dX1_isSo_78 ?_
        refine lv_imul hx hb dX1_isSo_81 ?_
        refine lv_iadd hx hb dX1_isSo_82 ?_
        obtain ⟨u20, eu20, hF⟩ := lte hF
        refine mr_top eu20 ?_
        refine lv_istore_n (lv' := [(2, .int u20), (5, .ref r12), (0, .ref y0), (1, .int y1), (3, .int y3), (4, .int y4)]) hx hb dX1_isSo_83 rfl hl (by decide) rfl (fun ls hl => ?_)
        refine lv_aload_n hx hb dX1_isSo_84 rfl (lv_at hl 2 rfl) ?_
        obtain ⟨a21, ea21, hF⟩ := obn hF
        refine cgn S hX hM ea21 ck_1_1_14 q338 (fun _ h => h) dX1_isSo_85 ?_
        refine lv_iload hx hb dX1_isSo_88 (lv_at hl 5 rfl) ?_
        obtain ⟨a22, ea22, hF⟩ := obn hF
        refine can34 S hX hM ea22 dX1_isSo_90 ?_
        refine lv_iload_n hx hb dX1_isSo_91 rfl (lv_at hl 3 rfl) ?_
        obtain ⟨v23, ev23, hF⟩ := obn hF
        refine cai S hX hM ev23 dX1_isSo_92 ?_
        refine lv_if_le (tgt := 102) hx hb dX1_isSo_93 (by decide) (fun c24 => ?_) (fun c24 => ?_)
        · have hF := ifp hF c24
          refine lv_iinc (v := y4 + 1) (lv' := [(4, .int (y4 + 1)), (2, .int u20), (5, .ref r12), (0, .ref y0), (1, .int y1), (3, .int y3)]) hx hb dX1_isSo_102 hl (k := 5) rfl rfl (by decide) rfl (fun ls hl => ?_)
          refine lv_goto (tgt := 7) hx hb dX1_isSo_105 (by decide) ?_
          exact ih _ _ _ _ _ out hF hk _ _ _ _ _ hM (lv_sub hl [3, 4, 1, 5, 0] rfl)
        · have hF := ifn hF c24
          refine lv_aload hx hb dX1_isSo_96 (lv_at hl 1 rfl) ?_
          obtain ⟨v25, ev25, hF⟩ := obn hF
          refine cgiN S hX hM ev25 ck_9_9_2 (uq953 hX) dX1_isSo_98 ?_
          refine lv_istore_n (lv' := [(3, .int v25), (2, .int u20), (5, .ref r12), (0, .ref y0), (1, .int y1), (4, .int y4)]) hx hb dX1_isSo_101 rfl hl (by decide) rfl (fun ls hl => ?_)
          refine lv_iinc (v := y4 + 1) (lv' := [(4, .int (y4 + 1)), (3, .int v25), (2, .int u20), (5, .ref r12), (0, .ref y0), (1, .int y1)]) hx hb dX1_isSo_102 hl (k := 5) rfl rfl (by decide) rfl (fun ls hl => ?_)
          refine lv_goto (tgt := 7) hx hb dX1_isSo_105 (by decide) ?_
          exact ih _ _ _ _ _ out hF hk _ _ _ _ _ hM (lv_sub hl [4, 5, 2, 1, 0] rfl)
      · have hF := ifp hF c7
        refine lv_goto (tgt := 102) hx hb dX1_isSo_33 (by decide) ?_
        refine lv_iinc (v := y4 + 1) (lv' := [(4, .int (y4 + 1)), (0, .ref y0), (1, .int y1), (2, .int y2), (3, .int y3)]) hx hb dX1_isSo_102 hl (k := 4) rfl rfl (by decide) rfl (fun ls hl => ?_)
        refine lv_goto (tgt := 7) hx hb dX1_isSo_105 (by decide) ?_
        exact ih _ _ _ _ _ out hF hk _ _ _ _ _ hM (lv_sub hl [1, 2, 3, 4, 0] rfl)
set_option maxHeartbeats 4000000 in
set_option maxRecDepth 100000 in
theorem metX1_isSo (l : Launch) [NoTr l] (F : Nat) (D : va_G) (h0 : HS) (x0 : Nat) (x1 : Int32) (r : Int32) (hF : fX1_isSo F h0 x0 x1 = some r) : CMet l yX1_isSo (ws_ yX1_isSo cX1_isSo 6 (some .boolean)) 3 64 D [.ref x0, .int x1] h0 h0 (.inr (some (.int r))) := by
  refine CMet.ofW (by decide) ?_
  intro p e s m below meth c s₁ B S hX hM hr hlocks hnt hin
  obtain ⟨hx, hb, hml, hown, hts⟩ := id S
  have hl := lv_entry ([.ref x0, .int x1]) (n := 6) (Nat.le_of_ble_eq_true rfl)
  rw [lg_entry_eq]
  generalize (lg_sl ([.ref x0, .int x1]) ++ List.replicate (6 - (lg_sl ([.ref x0, .int x1])).length) Slot.unset).toArray = ls at hl ⊢
  have hl : lv_has ls 6 [(0, .ref x0), (1, .int x1)] := hl
  unfold fX1_isSo at hF
  refine lv_iconst (v := 0) hx hb dX1_isSo_0 rfl ?_
  refine lv_istore_n (lv' := [(2, .int 0), (0, .ref x0), (1, .int x1)]) hx hb dX1_isSo_1 rfl hl (by decide) rfl (fun ls hl => ?_)
  refine lv_iconst (v := (-1)) hx hb dX1_isSo_2 rfl ?_
  refine lv_istore_n (lv' := [(3, .int (-1)), (2, .int 0), (0, .ref x0), (1, .int x1)]) hx hb dX1_isSo_3 rfl hl (by decide) rfl (fun ls hl => ?_)
  refine lv_iconst (v := 0) hx hb dX1_isSo_4 rfl ?_
  refine lv_istore (lv' := [(4, .int 0), (3, .int (-1)), (2, .int 0), (0, .ref x0), (1, .int x1)]) hx hb dX1_isSo_5 hl (by decide) rfl (fun ls hl => ?_)
  obtain ⟨q26, hq26, hF⟩ := obn hF
  refine wlX1_isSo_7 S hX _ F  F _ _ _ _ _ q26 hq26 (fun H locs cs ss ls hM hl => ?_) _ _ _ _ _ hM (lv_sub hl [3, 4, 2, 1, 0] rfl)
  refine lv_iload_n hx hb dX1_isSo_108 rfl (lv_at hl 2 rfl) ?_
  refine lv_aload_n hx hb dX1_isSo_109 rfl (lv_at hl 0 rfl) ?_
  obtain ⟨a27, ea27, hF⟩ := obn hF
  refine cgn S hX hM ea27 ck_1_1_9 q333 (fun _ h => h) dX1_isSo_110 ?_
  refine lv_iload_n hx hb dX1_isSo_113 rfl (lv_at hl 1 rfl) ?_
  obtain ⟨v28, ev28, hF⟩ := obn hF
  refine cai S hX hM ev28 dX1_isSo_114 ?_
  refine lv_icmp_ne (tgt := 144) hx hb dX1_isSo_115 (by decide) (fun c29 => ?_) (fun c29 => ?_)
  · have hF := ifn hF c29
    refine lv_iconst (v := 0) hx hb dX1_isSo_144 rfl ?_
    have hz := (Option.some.inj hF)
    subst hz
    exact crz S hM hr hlocks (gBn gB0) dX1_isSo_145
  · have hF := ifp hF c29
    refine lv_aload_n hx hb dX1_isSo_118 rfl (lv_at hl 0 rfl) ?_
    obtain ⟨a30, ea30, hF⟩ := obn hF
    refine cgn S hX hM ea30 ck_1_1_10 q334 (fun _ h => h) dX1_isSo_119 ?_
    refine lv_iload_n hx hb dX1_isSo_122 rfl (lv_at hl 1 rfl) ?_
    obtain ⟨v31, ev31, hF⟩ := obn hF
    refine cai S hX hM ev31 dX1_isSo_123 ?_
    refine lv_sipush (v := 255) hx hb dX1_isSo_124 rfl ?_
    refine lv_icmp_eq (tgt := 140) hx hb dX1_isSo_127 (by decide) (fun c32 => ?_) (fun c32 => ?_)
    · have hF := ifp hF c32
      refine lv_iconst (v := 1) hx hb dX1_isSo_140 rfl ?_
      refine lv_goto (tgt := 145) hx hb dX1_isSo_141 (by decide) ?_
      have hz := (Option.some.inj hF)
      subst hz
      exact crz S hM hr hlocks (gBn gB1) dX1_isSo_145
    · have hF := ifn hF c32
      refine lv_aload_n hx hb dX1_isSo_130 rfl (lv_at hl 0 rfl) ?_
      obtain ⟨a33, ea33, hF⟩ := obn hF
      refine cgn S hX hM ea33 ck_1_1_10 q334 (fun _ h => h) dX1_isSo_131 ?_
      refine lv_iload_n hx hb dX1_isSo_134 rfl (lv_at hl 1 rfl) ?_
      obtain ⟨v34, ev34, hF⟩ := obn hF
      refine cai S hX hM ev34 dX1_isSo_135 ?_
      refine lv_iload_n hx hb dX1_isSo_136 rfl (lv_at hl 3 rfl) ?_
      refine lv_icmp_ne (tgt := 144) hx hb dX1_isSo_137 (by decide) (fun c35 => ?_) (fun c35 => ?_)
      · have hF := ifn hF c35
        refine lv_iconst (v := 0) hx hb dX1_isSo_144 rfl ?_
        have hz := (Option.some.inj hF)
        subst hz
        exact crz S hM hr hlocks (gBn gB0) dX1_isSo_145
      · have hF := ifp hF c35
        refine lv_iconst (v := 1) hx hb dX1_isSo_140 rfl ?_
        refine lv_goto (tgt := 145) hx hb dX1_isSo_141 (by decide) ?_
        have hz := (Option.some.inj hF)
        subst hz
        exact crz S hM hr hlocks (gBn gB1) dX1_isSo_145
def fJ16_bitCount (x0 : Int32) : Int32 := lt_ (x0 - ((ush x0 1) &&& 1431655765)) fun u1 => lt_ ((u1 &&& 858993459) + ((ush u1 2) &&& 858993459)) fun u2 => lt_ ((u2 + (ush u2 4)) &&& 252645135) fun u3 => lt_ ((u3 + (ush u3 8)) + (ush (u3 + (ush u3 8)) 16)) fun u4 => (u4 &&& 63)
theorem hyJ16_bitCount : yJ16_bitCount.cls ≠ "java/lang/invoke/MethodHandle" ∧ yJ16_bitCount.cls ≠ "java/lang/invoke/VarHandle" := by decide +kernel
theorem hlJ16_bitCount : (parseMethodDescriptor yJ16_bitCount.desc).map (fun d => d.parameters.length) = some 1 := by decide +kernel
set_option maxHeartbeats 4000000 in
set_option maxRecDepth 100000 in
theorem metJ16_bitCount (l : Launch) [NoTr l] (D : va_G) (h0 : HS) (x0 : Int32) (r : Int32) (hF : fJ16_bitCount x0 = r) : CMet l yJ16_bitCount (ws_ yJ16_bitCount cJ16_bitCount 1 (some .int)) 0 0 D [.int x0] h0 h0 (.inr (some (.int r))) := by
  refine CMet.ofW (by decide) ?_
  intro p e s m below meth c s₁ B S hX hM hr hlocks hnt hin
  obtain ⟨hx, hb, hml, hown, hts⟩ := id S
  have hl := lv_entry ([.int x0]) (n := 1) (Nat.le_of_ble_eq_true rfl)
  rw [lg_entry_eq]
  generalize (lg_sl ([.int x0]) ++ List.replicate (1 - (lg_sl ([.int x0])).length) Slot.unset).toArray = ls at hl ⊢
  have hl : lv_has ls 1 [(0, .int x0)] := hl
  unfold fJ16_bitCount at hF
  refine lv_iload_n hx hb dJ16_bitCount_0 rfl (lv_at hl 0 rfl) ?_
  refine lv_iload_n hx hb dJ16_bitCount_1 rfl (lv_at hl 0 rfl) ?_
  refine lv_iconst (v := 1) hx hb dJ16_bitCount_2 rfl ?_
  refine lv_iushr (v := (ush x0 1)) hx hb dJ16_bitCount_3 rfl ?_
  refine lv_ldcw hx hb hown (hts _ q1282) dJ16_bitCount_4 ?_
  refine lv_iand hx hb dJ16_bitCount_7 ?_
  refine lv_isub hx hb dJ16_bitCount_8 ?_
  obtain ⟨u1, eu1, hF⟩ := lte hF
  refine mr_top eu1 ?_
  refine lv_istore_n (lv' := [(0, .int u1)]) hx hb dJ16_bitCount_9 rfl hl (by decide) rfl (fun ls hl => ?_)
  refine lv_iload_n hx hb dJ16_bitCount_10 rfl (lv_at hl 0 rfl) ?_
  refine lv_ldcw hx hb hown (hts _ q1283) dJ16_bitCount_11 ?_
  refine lv_iand hx hb dJ16_bitCount_14 ?_
  refine lv_iload_n hx hb dJ16_bitCount_15 rfl (lv_at hl 0 rfl) ?_
  refine lv_iconst (v := 2) hx hb dJ16_bitCount_16 rfl ?_
  refine lv_iushr (v := (ush u1 2)) hx hb dJ16_bitCount_17 rfl ?_
  refine lv_ldcw hx hb hown (hts _ q1283) dJ16_bitCount_18 ?_
  refine lv_iand hx hb dJ16_bitCount_21 ?_
  refine lv_iadd hx hb dJ16_bitCount_22 ?_
  obtain ⟨u2, eu2, hF⟩ := lte hF
  refine mr_top eu2 ?_
  refine lv_istore_n (lv' := [(0, .int u2)]) hx hb dJ16_bitCount_23 rfl hl (by decide) rfl (fun ls hl => ?_)
  refine lv_iload_n hx hb dJ16_bitCount_24 rfl (lv_at hl 0 rfl) ?_
  refine lv_iload_n hx hb dJ16_bitCount_25 rfl (lv_at hl 0 rfl) ?_
  refine lv_iconst (v := 4) hx hb dJ16_bitCount_26 rfl ?_
  refine lv_iushr (v := (ush u2 4)) hx hb dJ16_bitCount_27 rfl ?_
  refine lv_iadd hx hb dJ16_bitCount_28 ?_
  refine lv_ldcw hx hb hown (hts _ q1284) dJ16_bitCount_29 ?_
  refine lv_iand hx hb dJ16_bitCount_32 ?_
  obtain ⟨u3, eu3, hF⟩ := lte hF
  refine mr_top eu3 ?_
  refine lv_istore_n (lv' := [(0, .int u3)]) hx hb dJ16_bitCount_33 rfl hl (by decide) rfl (fun ls hl => ?_)
  refine lv_iload_n hx hb dJ16_bitCount_34 rfl (lv_at hl 0 rfl) ?_
  refine lv_iload_n hx hb dJ16_bitCount_35 rfl (lv_at hl 0 rfl) ?_
  refine lv_bipush (v := 8) hx hb dJ16_bitCount_36 rfl ?_
  refine lv_iushr (v := (ush u3 8)) hx hb dJ16_bitCount_38 rfl ?_
  refine lv_iadd hx hb dJ16_bitCount_39 ?_
  refine lv_istore_n (lv' := [(0, .int (u3 + (ush u3 8)))]) hx hb dJ16_bitCount_40 rfl hl (by decide) rfl (fun ls hl => ?_)
  refine lv_iload_n hx hb dJ16_bitCount_41 rfl (lv_at hl 0 rfl) ?_
  refine lv_iload_n hx hb dJ16_bitCount_42 rfl (lv_at hl 0 rfl) ?_
  refine lv_bipush (v := 16) hx hb dJ16_bitCount_43 rfl ?_
  refine lv_iushr (v := (ush (u3 + (ush u3 8)) 16)) hx hb dJ16_bitCount_45 rfl ?_
  refine lv_iadd hx hb dJ16_bitCount_46 ?_
  obtain ⟨u4, eu4, hF⟩ := lte hF
  refine mr_top eu4 ?_
  refine lv_istore_n (lv' := [(0, .int u4)]) hx hb dJ16_bitCount_47 rfl hl (by decide) rfl (fun ls hl => ?_)
  refine lv_iload_n hx hb dJ16_bitCount_48 rfl (lv_at hl 0 rfl) ?_
  refine lv_bipush (v := 63) hx hb dJ16_bitCount_49 rfl ?_
  refine lv_iand hx hb dJ16_bitCount_51 ?_
  have hz := hF
  subst hz
  exact cri S hM hr hlocks dJ16_bitCount_52
def lX1_tryWays_53 (F : Nat) (rec : HS → Nat → Int32 → Option HS) (σ : HS) : Nat → Nat → Int32 → Option ((Unit) ⊕ (HS))
  | 0, _, _ => none
  | n + 1, y0, y2 => ((oI σ y0 1 1 15).bind fun v5 => (if v5 ≤ y2 then (some (.inl ())) else (gT σ y0 1 1 (((fX1_isSo F σ y0 y2).bind fun r7 => (if r7 = 0 then (some (.inr σ)) else (lX1_tryWays_53 F rec σ n y0 (y2 + 1))))))))
def lX1_tryWays_90 (F : Nat) (rec : HS → Nat → Int32 → Option HS) : Nat → HS → Nat → Int32 → Int32 → Option (HS × Int32)
  | 0, _, _, _, _ => none
  | n + 1, σ, y0, y2, y3 => ((fR σ y0 1 1 3).bind fun a12 => ((fR σ a12 2 2 6).bind fun a13 => gT σ a13 15 15 (((fJ2_size F σ a13).bind fun r14 => (if r14 ≤ y3 then (some (σ, y2)) else ((fR σ y0 1 1 11).bind fun a16 => ((aI σ a16 31 y3).bind fun v17 => ((if v17 = (-1) then (some y2) else ((fR σ y0 1 1 11).bind fun a20 => ((aI σ a20 31 y3).bind fun v21 => lt_ (y2 ||| (1 <<< (v21 &&& 31))) fun u22 => some u22))).bind fun q18 => ((oI σ y0 1 1 18).bind fun v23 => ((if v23 = 1 then ((fR σ y0 1 1 12).bind fun a26 => ((fR σ y0 1 1 11).bind fun a27 => ((aI σ a27 31 y3).bind fun v28 => ((wI σ a26 31 y3 v28).bind fun σ29 => some σ29)))) else (some σ)).bind fun q24 => ((fR q24 y0 1 1 13).bind fun a30 => ((oI q24 y0 1 1 18).bind fun v31 => ((if v31 = 1 then (some true) else ((fR q24 y0 1 1 13).bind fun a34 => ((aI q24 a34 31 y3).bind fun v35 => ((fR q24 y0 1 1 11).bind fun a36 => ((aI q24 a36 31 y3).bind fun v37 => (if v35 = v37 then (some true) else (some false))))))).bind fun q32 => (if q32 = true then ((fR q24 y0 1 1 11).bind fun a39 => ((aI q24 a39 31 y3).bind fun v40 => ((wI q24 a30 31 y3 v40).bind fun σ41 => lX1_tryWays_90 F rec n σ41 y0 q18 (y3 + 1)))) else ((wI q24 a30 31 y3 (-2)).bind fun σ42 => lX1_tryWays_90 F rec n σ42 y0 q18 (y3 + 1))))))))))))))))
def lX1_tryWays_16 (F : Nat) (rec : HS → Nat → Int32 → Option HS) : Nat → HS → Nat → Int32 → Int32 → Option (HS)
  | 0, _, _, _, _ => none
  | n + 1, σ, y0, y1, y2 => ((fR σ y0 1 1 3).bind fun a52 => ((fR σ a52 2 2 5).bind fun a53 => gT σ a53 15 15 (((fJ2_size F σ a53).bind fun r54 => (if r54 ≤ y2 then (some σ) else ((fR σ y0 1 1 11).bind fun a56 => ((wI σ a56 31 y1 y2).bind fun σ57 => gT σ57 y0 1 1 (((rec σ57 y0 (y1 + 1)).bind fun r58 => lX1_tryWays_16 F rec n r58 y0 y1 (y2 + 1))))))))))
def fX1_tryWays (F : Nat) (rec : HS → Nat → Int32 → Option HS) (h0 : HS) (x0 : Nat) (x1 : Int32) : Option (HS) := ((fR h0 x0 1 1 3).bind fun a1 => ((fR h0 a1 2 2 6).bind fun a2 => gT h0 a2 15 15 (((fJ2_size F h0 a2).bind fun r3 => (if r3 ≤ x1 then (osm (lX1_tryWays_53 F rec h0 F x0 0) id fun q9 => ((oI h0 x0 1 1 18).bind fun v10 => ((pI h0 x0 1 1 18 (v10 + 1)).bind fun σ11 => ((lX1_tryWays_90 F rec F σ11 x0 0 0).bind fun q43 => ((oI q43.1 x0 1 1 18).bind fun v44 => (if v44 = 1 then ((pI q43.1 x0 1 1 16 (fJ16_bitCount q43.2)).bind fun σ51 => some σ51) else ((oI q43.1 x0 1 1 16).bind fun v46 => ((pI q43.1 x0 1 1 16 (imin v46 (fJ16_bitCount q43.2))).bind fun σ49 => some σ49)))))))) else ((lX1_tryWays_16 F rec F h0 x0 x1 (-1)).bind fun q59 => some q59))))))
set_option maxHeartbeats 4000000 in
set_option maxRecDepth 100000 in
theorem wlX1_tryWays_53 {p : Program} {l : Launch} [NoTr l] {e : Env} {s : State} {m : MethodId} {args : Array Value} {below : List Frame} {meth : Method} {c : Code} {D : va_G} {h0 : HS} (S : CallFix p m c cX1_tryWays 4 s args lw_all RX1) (hX : CX D (kG h0) s) (RF RL : Nat) (rec : HS → Nat → Int32 → Option HS) (hrec : RecTW l D RF RL rec) (σ : HS) (hr : meth.sig.returnType = none) (hlocks : meth.locks = false) (hnt : ∀ x ∈ c.exceptionTable.toList, False) (F : Nat) (res : HS) : ∀ (n : Nat) (y0 : Nat) (y2 : Int32) (out : (Unit) ⊕ (HS)), lX1_tryWays_53 F rec σ n y0 y2 = some out → (∀ v, out = .inr v → v = res) → (∀ o, out = .inl o → ∀ (H : Heap) (locs : List Loc) (cs ss : Nat) (ls : Array Slot), HI D h0 σ s.heap H locs cs ss → lv_has ls 4 [(0, .ref y0)] → W p l e (cR (RF + 4) (RL + 89) h0) s m args below meth c H locs cs ss (cMQ below D h0 res (.inr none) args s) (F0 m 76 ls [])) → ∀ (H : Heap) (locs : List Loc) (cs ss : Nat) (ls : Array Slot), HI D h0 σ s.heap H locs cs ss → lv_has ls 4 [(0, .ref y0), (2, .int y2)] → W p l e (cR (RF + 4) (RL + 89) h0) s m args below meth c H locs cs ss (cMQ below D h0 res (.inr none) args s) (F0 m 53 ls []) := by
  intro n
  induction n with
  | zero =>
    intro y0 y2 out hF
    cases (show (none : Option _) = some out from hF)
  | succ n ih =>
    intro y0 y2 out hF hv hk H locs cs ss ls hM hl
    rw [lX1_tryWays_53] at hF
    obtain ⟨hx, hb, hml, hown, hts⟩ := id S
    refine lv_iload_n hx hb dX1_tryWays_53 rfl (lv_at hl 1 rfl) ?_
    refine lv_aload_n hx hb dX1_tryWays_54 rfl (lv_at hl 0 rfl) ?_
    obtain ⟨v5, ev5, hF⟩ := obn hF
    refine cgi S hX hM ev5 ck_1_1_15 q339 (fun _ h => h) dX1_tryWays_55 ?_
    refine lv_icmp_ge (tgt := 76) hx hb dX1_tryWays_58 (by decide) (fun c6 => ?_) (fun c6 => ?_)
    · have hF := ifp hF c6
      cases hF
      exact hk _ rfl _ _ _ _ _ hM (lv_sub hl [0] rfl)
    · have hF := ifn hF c6
      refine lv_aload_n hx hb dX1_tryWays_61 rfl (lv_at hl 0 rfl) ?_
      refine lv_iload_n hx hb dX1_tryWays_62 rfl (lv_at hl 1 rfl) ?_
      obtain ⟨z7, hF⟩ := gTe hF
      obtain ⟨r7, er7, hF⟩ := obn hF
      refine ccr (rest := []) (st1 := [.int r7]) S hX hM (metX1_isSo l F D σ y0 y2 r7 er7) (ci_V (C := "RugReader") (As := [.int y2]) (rest := []) S q1275 q1277 qs24 q1278 hyX1_isSo (HI.cell (ci := 0) hX hM (by decide) (by omega)) hlX1_isSo rfl dX1_tryWays_63) q1278 q103 (by omega) (by omega) hl.1 (Nat.le_of_ble_eq_true rfl) rfl (fun H locs cs ss hM => ?_)
      refine lv_if_ne (tgt := 70) hx hb dX1_tryWays_66 (by decide) (fun c8 => ?_) (fun c8 => ?_)
      · have hF := ifn hF c8
        refine lv_iinc (v := y2 + 1) (lv' := [(2, .int (y2 + 1)), (0, .ref y0)]) hx hb dX1_tryWays_70 hl (k := 1) rfl rfl (by decide) rfl (fun ls hl => ?_)
        refine lv_goto (tgt := 53) hx hb dX1_tryWays_73 (by decide) ?_
        exact ih _ _ out hF hv hk _ _ _ _ _ hM (lv_sub hl [1, 0] rfl)
      · have hF := ifp hF c8
        have hz := (hv _ ((Option.some.inj hF)).symm)
        subst hz
        exact crv S hM hr hlocks dX1_tryWays_69
set_option maxHeartbeats 4000000 in
set_option maxRecDepth 100000 in
theorem wlX1_tryWays_90 {p : Program} {l : Launch} [NoTr l] {e : Env} {s : State} {m : MethodId} {args : Array Value} {below : List Frame} {meth : Method} {c : Code} {D : va_G} {h0 : HS} (S : CallFix p m c cX1_tryWays 4 s args lw_all RX1) (hX : CX D (kG h0) s) (RF RL : Nat) (rec : HS → Nat → Int32 → Option HS) (hrec : RecTW l D RF RL rec) (F : Nat) {Q : State → Prop} : ∀ (n : Nat) (σ : HS) (y0 : Nat) (y2 : Int32) (y3 : Int32) (out : HS × Int32), lX1_tryWays_90 F rec n σ y0 y2 y3 = some out → (∀ (H : Heap) (locs : List Loc) (cs ss : Nat) (ls : Array Slot), HI D h0 out.1 s.heap H locs cs ss → lv_has ls 4 [(0, .ref y0), (2, .int out.2)] → W p l e (cR (RF + 4) (RL + 89) h0) s m args below meth c H locs cs ss Q (F0 m 191 ls [])) → ∀ (H : Heap) (locs : List Loc) (cs ss : Nat) (ls : Array Slot), HI D h0 σ s.heap H locs cs ss → lv_has ls 4 [(0, .ref y0), (2, .int y2), (3, .int y3)] → W p l e (cR (RF + 4) (RL + 89) h0) s m args below meth c H locs cs ss Q (F0 m 90 ls []) := by
  intro n
  induction n with
  | zero =>
    intro σ y0 y2 y3 out hF
    cases (show (none : Option _) = some out from hF)
  | succ n ih =>
    intro σ y0 y2 y3 out hF hk H locs cs ss ls hM hl
    rw [lX1_tryWays_90] at hF
    obtain ⟨hx, hb, hml, hown, hts⟩ := id S
    refine lv_iload_n hx hb dX1_tryWays_90 rfl (lv_at hl 2 rfl) ?_
    refine lv_aload_n hx hb dX1_tryWays_91 rfl (lv_at hl 0 rfl) ?_
    obtain ⟨a12, ea12, hF⟩ := obn hF
    refine cgn S hX hM ea12 ck_1_1_3 q327 (fun _ h => h) dX1_tryWays_92 ?_
    obtain ⟨a13, ea13, hF⟩ := obn hF
    refine cgnN S hX hM ea13 ck_2_2_6 (uq210 hX) dX1_tryWays_95 ?_
    obtain ⟨z14, hF⟩ := gTe hF
    obtain ⟨r14, er14, hF⟩ := obn hF
    refine ccr (rest := [.int y3]) (st1 := [.int r14, .int y3]) S hX hM (metJ2_size l F D σ a13 r14 er14) (ci_V (C := "java/util/ArrayList") (As := []) (rest := [.int y3]) S q1149 q830 q831 q832 hyJ2_size (HI.cell (ci := 14) hX hM (by decide) (by omega)) hlJ2_size rfl dX1_tryWays_98) q832 q107 (by omega) (by omega) hl.1 (Nat.le_of_ble_eq_true rfl) rfl (fun H locs cs ss hM => ?_)
    refine lv_icmp_ge (tgt := 191) hx hb dX1_tryWays_101 (by decide) (fun c15 => ?_) (fun c15 => ?_)
    · have hF := ifp hF c15
      cases hF
      exact hk _ _ _ _ _ hM (lv_sub hl [0, 1] rfl)
    · have hF := ifn hF c15
      refine lv_aload_n hx hb dX1_tryWays_104 rfl (lv_at hl 0 rfl) ?_
      obtain ⟨a16, ea16, hF⟩ := obn hF
      refine cgn S hX hM ea16 ck_1_1_11 q335 (fun _ h => h) dX1_tryWays_105 ?_
      refine lv_iload_n hx hb dX1_tryWays_108 rfl (lv_at hl 2 rfl) ?_
      obtain ⟨v17, ev17, hF⟩ := obn hF
      refine cai S hX hM ev17 dX1_tryWays_109 ?_
      refine lv_iconst (v := (-1)) hx hb dX1_tryWays_110 rfl ?_
      obtain ⟨q18, hq18, hF⟩ := obn hF
      refine cjn (I := HI D h0 σ s.heap) (nJ := 4) (lvJ := [(0, .ref y0), (2, .int q18), (3, .int y3)]) (J := 125) (stJ := []) ?_ ?_
      · intro H locs cs ss ls hM hl
        refine lv_aload_n hx hb dX1_tryWays_125 rfl (lv_at hl 0 rfl) ?_
        obtain ⟨v23, ev23, hF⟩ := obn hF
        refine cgi S hX hM ev23 ck_1_1_18 q342 (fun _ h => h) dX1_tryWays_126 ?_
        refine lv_iconst (v := 1) hx hb dX1_tryWays_129 rfl ?_
        obtain ⟨q24, hq24, hF⟩ := obn hF
        refine cjn (I := HI D h0 q24 s.heap) (nJ := 4) (lvJ := [(0, .ref y0), (2, .int q18), (3, .int y3)]) (J := 145) (stJ := []) ?_ ?_
        · intro H locs cs ss ls hM hl
          refine lv_aload_n hx hb dX1_tryWays_145 rfl (lv_at hl 0 rfl) ?_
          obtain ⟨a30, ea30, hF⟩ := obn hF
          refine cgn S hX hM ea30 ck_1_1_13 q337 (fun _ h => h) dX1_tryWays_146 ?_
          refine lv_iload_n hx hb dX1_tryWays_149 rfl (lv_at hl 2 rfl) ?_
          refine lv_aload_n hx hb dX1_tryWays_150 rfl (lv_at hl 0 rfl) ?_
          obtain ⟨v31, ev31, hF⟩ := obn hF
          refine cgi S hX hM ev31 ck_1_1_18 q342 (fun _ h => h) dX1_tryWays_151 ?_
          refine lv_iconst (v := 1) hx hb dX1_tryWays_154 rfl ?_
          obtain ⟨q32, hq32, hF⟩ := obn hF
          refine cjnc (C := q32 = true) (I := HI D h0 q24 s.heap) (nJ := 4) (lvJ := [(0, .ref y0), (2, .int q18), (3, .int y3)]) (J := 173) (stJ := [.int y3, .ref a30]) ?_ ?_
          · intro cq32 H locs cs ss ls hM hl
            have hF := ifp hF cq32
            refine lv_aload_n hx hb dX1_tryWays_173 rfl (lv_at hl 0 rfl) ?_
            obtain ⟨a39, ea39, hF⟩ := obn hF
            refine cgn S hX hM ea39 ck_1_1_11 q335 (fun _ h => h) dX1_tryWays_174 ?_
            refine lv_iload_n hx hb dX1_tryWays_177 rfl (lv_at hl 2 rfl) ?_
            obtain ⟨v40, ev40, hF⟩ := obn hF
            refine cai S hX hM ev40 dX1_tryWays_178 ?_
            refine lv_goto (tgt := 184) hx hb dX1_tryWays_179 (by decide) ?_
            obtain ⟨σ41, eσ41, hF⟩ := obn hF
            refine cwi S hX hM eσ41 dX1_tryWays_184 (fun H locs hM => ?_)
            refine lv_iinc (v := y3 + 1) (lv' := [(3, .int (y3 + 1)), (0, .ref y0), (2, .int q18)]) hx hb dX1_tryWays_185 hl (k := 2) rfl rfl (by decide) rfl (fun ls hl => ?_)
            refine lv_goto (tgt := 90) hx hb dX1_tryWays_188 (by decide) ?_
            exact ih _ _ _ _ out hF hk _ _ _ _ _ hM (lv_sub hl [1, 2, 0] rfl)
          · intro hAq32
            refine cjnc (C := q32 = false) (I := HI D h0 q24 s.heap) (nJ := 4) (lvJ := [(0, .ref y0), (2, .int q18), (3, .int y3)]) (J := 182) (stJ := [.int y3, .ref a30]) ?_ ?_
            · intro cq32 H locs cs ss ls hM hl
              have hF := ifn hF (by rw [cq32]; decide)
              refine lv_bipush (v := (-2)) hx hb dX1_tryWays_182 rfl ?_
              obtain ⟨σ42, eσ42, hF⟩ := obn hF
              refine cwi S hX hM eσ42 dX1_tryWays_184 (fun H locs hM => ?_)
              refine lv_iinc (v := y3 + 1) (lv' := [(3, .int (y3 + 1)), (0, .ref y0), (2, .int q18)]) hx hb dX1_tryWays_185 hl (k := 2) rfl rfl (by decide) rfl (fun ls hl => ?_)
              refine lv_goto (tgt := 90) hx hb dX1_tryWays_188 (by decide) ?_
              exact ih _ _ _ _ out hF hk _ _ _ _ _ hM (lv_sub hl [1, 2, 0] rfl)
            · intro hBq32
              refine lv_icmp_eq (tgt := 173) hx hb dX1_tryWays_155 (by decide) (fun c33 => ?_) (fun c33 => ?_)
              · have hq32 := ifp hq32 c33
                cases hq32
                exact hAq32 rfl _ _ _ _ _ hM (lv_sub hl [0, 1, 2] rfl)
              · have hq32 := ifn hq32 c33
                refine lv_aload_n hx hb dX1_tryWays_158 rfl (lv_at hl 0 rfl) ?_
                obtain ⟨a34, ea34, hq32⟩ := obn hq32
                refine cgn S hX hM ea34 ck_1_1_13 q337 (fun _ h => h) dX1_tryWays_159 ?_
                refine lv_iload_n hx hb dX1_tryWays_162 rfl (lv_at hl 2 rfl) ?_
                obtain ⟨v35, ev35, hq32⟩ := obn hq32
                refine cai S hX hM ev35 dX1_tryWays_163 ?_
                refine lv_aload_n hx hb dX1_tryWays_164 rfl (lv_at hl 0 rfl) ?_
                obtain ⟨a36, ea36, hq32⟩ := obn hq32
                refine cgn S hX hM ea36 ck_1_1_11 q335 (fun _ h => h) dX1_tryWays_165 ?_
                refine lv_iload_n hx hb dX1_tryWays_168 rfl (lv_at hl 2 rfl) ?_
                obtain ⟨v37, ev37, hq32⟩ := obn hq32
                refine cai S hX hM ev37 dX1_tryWays_169 ?_
                refine lv_icmp_ne (tgt := 182) hx hb dX1_tryWays_170 (by decide) (fun c38 => ?_) (fun c38 => ?_)
                · have hq32 := ifn hq32 c38
                  cases hq32
                  exact hBq32 rfl _ _ _ _ _ hM (lv_sub hl [0, 1, 2] rfl)
                · have hq32 := ifp hq32 c38
                  cases hq32
                  exact hAq32 rfl _ _ _ _ _ hM (lv_sub hl [0, 1, 2] rfl)
        · intro hJq24
          refine lv_icmp_ne (tgt := 145) hx hb dX1_tryWays_130 (by decide) (fun c25 => ?_) (fun c25 => ?_)
          · have hq24 := ifn hq24 c25
            cases hq24
            exact hJq24 _ _ _ _ _ hM (lv_sub hl [0, 1, 2] rfl)
          · have hq24 := ifp hq24 c25
            refine lv_aload_n hx hb dX1_tryWays_133 rfl (lv_at hl 0 rfl) ?_
            obtain ⟨a26, ea26, hq24⟩ := obn hq24
            refine cgn S hX hM ea26 ck_1_1_12 q336 (fun _ h => h) dX1_tryWays_134 ?_
            refine lv_iload_n hx hb dX1_tryWays_137 rfl (lv_at hl 2 rfl) ?_
            refine lv_aload_n hx hb dX1_tryWays_138 rfl (lv_at hl 0 rfl) ?_
            obtain ⟨a27, ea27, hq24⟩ := obn hq24
            refine cgn S hX hM ea27 ck_1_1_11 q335 (fun _ h => h) dX1_tryWays_139 ?_
            refine lv_iload_n hx hb dX1_tryWays_142 rfl (lv_at hl 2 rfl) ?_
            obtain ⟨v28, ev28, hq24⟩ := obn hq24
            refine cai S hX hM ev28 dX1_tryWays_143 ?_
            obtain ⟨σ29, eσ29, hq24⟩ := obn hq24
            refine cwi S hX hM eσ29 dX1_tryWays_144 (fun H locs hM => ?_)
            cases hq24
            exact hJq24 _ _ _ _ _ hM (lv_sub hl [0, 1, 2] rfl)
      · intro hJq18
        refine lv_icmp_eq (tgt := 125) hx hb dX1_tryWays_111 (by decide) (fun c19 => ?_) (fun c19 => ?_)
        · have hq18 := ifp hq18 c19
          cases hq18
          exact hJq18 _ _ _ _ _ hM (lv_sub hl [0, 1, 2] rfl)
        · have hq18 := ifn hq18 c19
          refine lv_iload_n hx hb dX1_tryWays_114 rfl (lv_at hl 1 rfl) ?_
          refine lv_iconst (v := 1) hx hb dX1_tryWays_115 rfl ?_
          refine lv_aload_n hx hb dX1_tryWays_116 rfl (lv_at hl 0 rfl) ?_
          obtain ⟨a20, ea20, hq18⟩ := obn hq18
          refine cgn S hX hM ea20 ck_1_1_11 q335 (fun _ h => h) dX1_tryWays_117 ?_
          refine lv_iload_n hx hb dX1_tryWays_120 rfl (lv_at hl 2 rfl) ?_
          obtain ⟨v21, ev21, hq18⟩ := obn hq18
          refine cai S hX hM ev21 dX1_tryWays_121 ?_
          refine lv_ishl hx hb dX1_tryWays_122 ?_
          refine lv_ior hx hb dX1_tryWays_123 ?_
          obtain ⟨u22, eu22, hq18⟩ := lte hq18
          refine mr_top eu22 ?_
          refine lv_istore_n (lv' := [(2, .int u22), (0, .ref y0), (3, .int y3)]) hx hb dX1_tryWays_124 rfl hl (by decide) rfl (fun ls hl => ?_)
          cases hq18
          exact hJq18 _ _ _ _ _ hM (lv_sub hl [1, 0, 2] rfl)
set_option maxHeartbeats 4000000 in
set_option maxRecDepth 100000 in
theorem wlX1_tryWays_16 {p : Program} {l : Launch} [NoTr l] {e : Env} {s : State} {m : MethodId} {args : Array Value} {below : List Frame} {meth : Method} {c : Code} {D : va_G} {h0 : HS} (S : CallFix p m c cX1_tryWays 4 s args lw_all RX1) (hX : CX D (kG h0) s) (RF RL : Nat) (rec : HS → Nat → Int32 → Option HS) (hrec : RecTW l D RF RL rec) (F : Nat) {Q : State → Prop} : ∀ (n : Nat) (σ : HS) (y0 : Nat) (y1 : Int32) (y2 : Int32) (out : HS), lX1_tryWays_16 F rec n σ y0 y1 y2 = some out → (∀ (H : Heap) (locs : List Loc) (cs ss : Nat) (ls : Array Slot), HI D h0 out s.heap H locs cs ss → lv_has ls 4 [] → W p l e (cR (RF + 4) (RL + 89) h0) s m args below meth c H locs cs ss Q (F0 m 50 ls [])) → ∀ (H : Heap) (locs : List Loc) (cs ss : Nat) (ls : Array Slot), HI D h0 σ s.heap H locs cs ss → lv_has ls 4 [(0, .ref y0), (1, .int y1), (2, .int y2)] → W p l e (cR (RF + 4) (RL + 89) h0) s m args below meth c H locs cs ss Q (F0 m 16 ls []) := by
  intro n
  induction n with
  | zero =>
    intro σ y0 y1 y2 out hF
    cases (show (none : Option _) = some out from hF)
  | succ n ih =>
    intro σ y0 y1 y2 out hF hk H locs cs ss ls hM hl
    rw [lX1_tryWays_16] at hF
    obtain ⟨hx, hb, hml, hown, hts⟩ := id S
    refine lv_iload_n hx hb dX1_tryWays_16 rfl (lv_at hl 2 rfl) ?_
    refine lv_aload_n hx hb dX1_tryWays_17 rfl (lv_at hl 0 rfl) ?_
    obtain ⟨a52, ea52, hF⟩ := obn hF
    refine cgn S hX hM ea52 ck_1_1_3 q327 (fun _ h => h) dX1_tryWays_18 ?_
    obtain ⟨a53, ea53, hF⟩ := obn hF
    refine cgnN S hX hM ea53 ck_2_2_5 (uq204 hX) dX1_tryWays_21 ?_
    obtain ⟨z54, hF⟩ := gTe hF
    obtain ⟨r54, er54, hF⟩ := obn hF
    refine ccr (rest := [.int y2]) (st1 := [.int r54, .int y2]) S hX hM (metJ2_size l F D σ a53 r54 er54) (ci_V (C := "java/util/ArrayList") (As := []) (rest := [.int y2]) S q1149 q830 q831 q832 hyJ2_size (HI.cell (ci := 14) hX hM (by decide) (by omega)) hlJ2_size rfl dX1_tryWays_24) q832 q107 (by omega) (by omega) hl.1 (Nat.le_of_ble_eq_true rfl) rfl (fun H locs cs ss hM => ?_)
    refine lv_icmp_ge (tgt := 50) hx hb dX1_tryWays_27 (by decide) (fun c55 => ?_) (fun c55 => ?_)
    · have hF := ifp hF c55
      cases hF
      exact hk _ _ _ _ _ hM (lv_sub hl [] rfl)
    · have hF := ifn hF c55
      refine lv_aload_n hx hb dX1_tryWays_30 rfl (lv_at hl 0 rfl) ?_
      obtain ⟨a56, ea56, hF⟩ := obn hF
      refine cgn S hX hM ea56 ck_1_1_11 q335 (fun _ h => h) dX1_tryWays_31 ?_
      refine lv_iload_n hx hb dX1_tryWays_34 rfl (lv_at hl 1 rfl) ?_
      refine lv_iload_n hx hb dX1_tryWays_35 rfl (lv_at hl 2 rfl) ?_
      obtain ⟨σ57, eσ57, hF⟩ := obn hF
      refine cwi S hX hM eσ57 dX1_tryWays_36 (fun H locs hM => ?_)
      refine lv_aload_n hx hb dX1_tryWays_37 rfl (lv_at hl 0 rfl) ?_
      refine lv_iload_n hx hb dX1_tryWays_38 rfl (lv_at hl 1 rfl) ?_
      refine lv_iconst (v := 1) hx hb dX1_tryWays_39 rfl ?_
      refine lv_iadd hx hb dX1_tryWays_40 ?_
      obtain ⟨z58, hF⟩ := gTe hF
      obtain ⟨r58, er58, hF⟩ := obn hF
      refine ccr (rest := []) (st1 := []) S hX hM (hrec σ57 y0 (y1 + 1) r58 er58) (ci_V (C := "RugReader") (As := [.int (y1 + 1)]) (rest := []) S q1271 q1273 qs23 q1274 hyX1_tryWays (HI.cell (ci := 0) hX hM (by decide) (by omega)) hlX1_tryWays rfl dX1_tryWays_41) q1274 q103 (by omega) (by omega) hl.1 (Nat.le_of_ble_eq_true rfl) rfl (fun H locs cs ss hM => ?_)
      refine lv_iinc (v := y2 + 1) (lv' := [(2, .int (y2 + 1)), (0, .ref y0), (1, .int y1)]) hx hb dX1_tryWays_44 hl (k := 2) rfl rfl (by decide) rfl (fun ls hl => ?_)
      refine lv_goto (tgt := 16) hx hb dX1_tryWays_47 (by decide) ?_
      exact ih _ _ _ _ out hF hk _ _ _ _ _ hM (lv_sub hl [1, 2, 0] rfl)
set_option maxHeartbeats 4000000 in
set_option maxRecDepth 100000 in
theorem metX1_tryWays (l : Launch) [NoTr l] (F : Nat) (D : va_G) (RF RL : Nat) (rec : HS → Nat → Int32 → Option HS) (hrec : RecTW l D RF RL rec) (h0 : HS) (x0 : Nat) (x1 : Int32) (r : HS) (hF : fX1_tryWays F rec h0 x0 x1 = some r) : CMet l yX1_tryWays (ws_ yX1_tryWays cX1_tryWays 4 none) (RF + 4) (RL + 89) D [.ref x0, .int x1] h0 r (.inr none) := by
  refine CMet.ofW (by decide) ?_
  intro p e s m below meth c s₁ B S hX hM hr hlocks hnt hin
  obtain ⟨hx, hb, hml, hown, hts⟩ := id S
  have hl := lv_entry ([.ref x0, .int x1]) (n := 4) (Nat.le_of_ble_eq_true rfl)
  rw [lg_entry_eq]
  generalize (lg_sl ([.ref x0, .int x1]) ++ List.replicate (4 - (lg_sl ([.ref x0, .int x1])).length) Slot.unset).toArray = ls at hl ⊢
  have hl : lv_has ls 4 [(0, .ref x0), (1, .int x1)] := hl
  unfold fX1_tryWays at hF
  refine lv_iload_n hx hb dX1_tryWays_0 rfl (lv_at hl 1 rfl) ?_
  refine lv_aload_n hx hb dX1_tryWays_1 rfl (lv_at hl 0 rfl) ?_
  obtain ⟨a1, ea1, hF⟩ := obn hF
  refine cgn S hX hM ea1 ck_1_1_3 q327 (fun _ h => h) dX1_tryWays_2 ?_
  obtain ⟨a2, ea2, hF⟩ := obn hF
  refine cgnN S hX hM ea2 ck_2_2_6 (uq210 hX) dX1_tryWays_5 ?_
  obtain ⟨z3, hF⟩ := gTe hF
  obtain ⟨r3, er3, hF⟩ := obn hF
  refine ccr (rest := [.int x1]) (st1 := [.int r3, .int x1]) S hX hM (metJ2_size l F D h0 a2 r3 er3) (ci_V (C := "java/util/ArrayList") (As := []) (rest := [.int x1]) S q1149 q830 q831 q832 hyJ2_size (HI.cell (ci := 14) hX hM (by decide) (by omega)) hlJ2_size rfl dX1_tryWays_8) q832 q107 (by omega) (by omega) hl.1 (Nat.le_of_ble_eq_true rfl) rfl (fun H locs cs ss hM => ?_)
  refine lv_icmp_ge (tgt := 51) hx hb dX1_tryWays_11 (by decide) (fun c4 => ?_) (fun c4 => ?_)
  · have hF := ifp hF c4
    refine lv_iconst (v := 0) hx hb dX1_tryWays_51 rfl ?_
    refine lv_istore_n (lv' := [(2, .int 0), (0, .ref x0), (1, .int x1)]) hx hb dX1_tryWays_52 rfl hl (by decide) rfl (fun ls hl => ?_)
    obtain ⟨oq9, hq9, h1q9, h2q9⟩ := osx hF
    refine wlX1_tryWays_53 S hX RF RL rec hrec _ hr hlocks hnt F _  F _ _ oq9 hq9 (fun v e => (h2q9 v e)) (fun q9 eq9 H locs cs ss ls hM hl => ?_) _ _ _ _ _ hM (lv_sub hl [1, 0] rfl)
    have hF := h1q9 _ eq9
    refine lv_aload_n hx hb dX1_tryWays_76 rfl (lv_at hl 0 rfl) ?_
    refine lv_dup hx hb dX1_tryWays_77 rfl ?_
    obtain ⟨v10, ev10, hF⟩ := obn hF
    refine cgi S hX hM ev10 ck_1_1_18 q342 (fun _ h => h) dX1_tryWays_78 ?_
    refine lv_iconst (v := 1) hx hb dX1_tryWays_81 rfl ?_
    refine lv_iadd hx hb dX1_tryWays_82 ?_
    obtain ⟨σ11, eσ11, hF⟩ := obn hF
    refine cpi S hX hM eσ11 ck_1_1_18 cw_1_1_18 rfl rfl q342 (fun _ h => h) dX1_tryWays_83 (fun H locs hM => ?_)
    refine lv_iconst (v := 0) hx hb dX1_tryWays_86 rfl ?_
    refine lv_istore_n (lv' := [(2, .int 0), (0, .ref x0)]) hx hb dX1_tryWays_87 rfl hl (by decide) rfl (fun ls hl => ?_)
    refine lv_iconst (v := 0) hx hb dX1_tryWays_88 rfl ?_
    refine lv_istore_n (lv' := [(3, .int 0), (2, .int 0), (0, .ref x0)]) hx hb dX1_tryWays_89 rfl hl (by decide) rfl (fun ls hl => ?_)
    obtain ⟨q43, hq43, hF⟩ := obn hF
    refine wlX1_tryWays_90 S hX RF RL rec hrec F  F _ _ _ _ q43 hq43 (fun H locs cs ss ls hM hl => ?_) _ _ _ _ _ hM (lv_sub hl [2, 1, 0] rfl)
    refine lv_aload_n hx hb dX1_tryWays_191 rfl (lv_at hl 0 rfl) ?_
    refine lv_aload_n hx hb dX1_tryWays_192 rfl (lv_at hl 0 rfl) ?_
    obtain ⟨v44, ev44, hF⟩ := obn hF
    refine cgi S hX hM ev44 ck_1_1_18 q342 (fun _ h => h) dX1_tryWays_193 ?_
    refine lv_iconst (v := 1) hx hb dX1_tryWays_196 rfl ?_
    refine lv_icmp_ne (tgt := 207) hx hb dX1_tryWays_197 (by decide) (fun c45 => ?_) (fun c45 => ?_)
    · have hF := ifn hF c45
      refine lv_aload_n hx hb dX1_tryWays_207 rfl (lv_at hl 0 rfl) ?_
      obtain ⟨v46, ev46, hF⟩ := obn hF
      refine cgi S hX hM ev46 ck_1_1_16 q340 (fun _ h => h) dX1_tryWays_208 ?_
      refine lv_iload_n hx hb dX1_tryWays_211 rfl (lv_at hl 1 rfl) ?_
      refine ccr (rest := [.int v46, .ref x0]) (st1 := [.int (fJ16_bitCount q43.2), .int v46, .ref x0]) S hX hM (metJ16_bitCount l D q43.1 q43.2 _ rfl) (ci_S (As := [.int q43.2]) (rest := [.int v46, .ref x0]) S q1279 q1280 q130 q1281 hyJ16_bitCount hlJ16_bitCount rfl dX1_tryWays_212) q1281 q130 (by omega) (by omega) hl.1 (Nat.le_of_ble_eq_true rfl) rfl (fun H locs cs ss hM => ?_)
      refine cmmin S hM q1204 q586 q119 q587 (by omega) (by omega) hl.1 (Nat.le_of_ble_eq_true rfl) dX1_tryWays_215 ?_
      obtain ⟨σ49, eσ49, hF⟩ := obn hF
      refine cpi S hX hM eσ49 ck_1_1_16 cw_1_1_16 rfl rfl q340 (fun _ h => h) dX1_tryWays_218 (fun H locs hM => ?_)
      have hz := (Option.some.inj hF)
      subst hz
      exact crv S hM hr hlocks dX1_tryWays_221
    · have hF := ifp hF c45
      refine lv_iload_n hx hb dX1_tryWays_200 rfl (lv_at hl 1 rfl) ?_
      refine ccr (rest := [.ref x0]) (st1 := [.int (fJ16_bitCount q43.2), .ref x0]) S hX hM (metJ16_bitCount l D q43.1 q43.2 _ rfl) (ci_S (As := [.int q43.2]) (rest := [.ref x0]) S q1279 q1280 q130 q1281 hyJ16_bitCount hlJ16_bitCount rfl dX1_tryWays_201) q1281 q130 (by omega) (by omega) hl.1 (Nat.le_of_ble_eq_true rfl) rfl (fun H locs cs ss hM => ?_)
      refine lv_goto (tgt := 218) hx hb dX1_tryWays_204 (by decide) ?_
      obtain ⟨σ51, eσ51, hF⟩ := obn hF
      refine cpi S hX hM eσ51 ck_1_1_16 cw_1_1_16 rfl rfl q340 (fun _ h => h) dX1_tryWays_218 (fun H locs hM => ?_)
      have hz := (Option.some.inj hF)
      subst hz
      exact crv S hM hr hlocks dX1_tryWays_221
  · have hF := ifn hF c4
    refine lv_iconst (v := (-1)) hx hb dX1_tryWays_14 rfl ?_
    refine lv_istore_n (lv' := [(2, .int (-1)), (0, .ref x0), (1, .int x1)]) hx hb dX1_tryWays_15 rfl hl (by decide) rfl (fun ls hl => ?_)
    obtain ⟨q59, hq59, hF⟩ := obn hF
    refine wlX1_tryWays_16 S hX RF RL rec hrec F  F _ _ _ _ q59 hq59 (fun H locs cs ss ls hM hl => ?_) _ _ _ _ _ hM (lv_sub hl [1, 2, 0] rfl)
    have hz := (Option.some.inj hF)
    subst hz
    exact crv S hM hr hlocks dX1_tryWays_50
def fX1_read (F : Nat) (h0 : HS) (x0 : Nat) (x1 : Int32) (x2 : Int32) : Option (Int32) := ((oI h0 x0 1 1 17).bind fun v1 => (if (fX1_isIn x1 0 (v1 - 1)) = 0 then (some (-3)) else (if (fX1_isIn x2 0 1) = 0 then (some (-3)) else (if x2 = 0 then ((fR h0 x0 1 1 12).bind fun a9 => ((aI h0 a9 31 x1).bind fun v10 => some v10)) else ((fR h0 x0 1 1 13).bind fun a7 => ((aI h0 a7 31 x1).bind fun v8 => some v8))))))
theorem hyX1_read : yX1_read.cls ≠ "java/lang/invoke/MethodHandle" ∧ yX1_read.cls ≠ "java/lang/invoke/VarHandle" := by decide +kernel
theorem hlX1_read : (parseMethodDescriptor yX1_read.desc).map (fun d => d.parameters.length) = some 2 := by decide +kernel
set_option maxHeartbeats 4000000 in
set_option maxRecDepth 100000 in
theorem metX1_read (l : Launch) [NoTr l] (F : Nat) (D : va_G) (h0 : HS) (x0 : Nat) (x1 : Int32) (x2 : Int32) (r : Int32) (hF : fX1_read F h0 x0 x1 x2 = some r) : CMet l yX1_read (ws_ yX1_read cX1_read 3 (some .int)) 1 22 D [.ref x0, .int x1, .int x2] h0 h0 (.inr (some (.int r))) := by
  refine CMet.ofW (by decide) ?_
  intro p e s m below meth c s₁ B S hX hM hr hlocks hnt hin
  obtain ⟨hx, hb, hml, hown, hts⟩ := id S
  have hl := lv_entry ([.ref x0, .int x1, .int x2]) (n := 3) (Nat.le_of_ble_eq_true rfl)
  rw [lg_entry_eq]
  generalize (lg_sl ([.ref x0, .int x1, .int x2]) ++ List.replicate (3 - (lg_sl ([.ref x0, .int x1, .int x2])).length) Slot.unset).toArray = ls at hl ⊢
  have hl : lv_has ls 3 [(0, .ref x0), (1, .int x1), (2, .int x2)] := hl
  unfold fX1_read at hF
  refine lv_iload_n hx hb dX1_read_0 rfl (lv_at hl 1 rfl) ?_
  refine lv_iconst (v := 0) hx hb dX1_read_1 rfl ?_
  refine lv_aload_n hx hb dX1_read_2 rfl (lv_at hl 0 rfl) ?_
  obtain ⟨v1, ev1, hF⟩ := obn hF
  refine cgi S hX hM ev1 ck_1_1_17 q341 (fun _ h => h) dX1_read_3 ?_
  refine lv_iconst (v := 1) hx hb dX1_read_6 rfl ?_
  refine lv_isub hx hb dX1_read_7 ?_
  refine ccr (rest := []) (st1 := [.int (fX1_isIn x1 0 (v1 - 1))]) S hX hM (metX1_isIn l D h0 x1 0 (v1 - 1) _ rfl) (ci_S (As := [.int x1, .int 0, .int (v1 - 1)]) (rest := []) S q1150 q821 q103 q822 hyX1_isIn hlX1_isIn rfl dX1_read_8) q822 q103 (Nat.le_of_ble_eq_true rfl) (Nat.le_of_ble_eq_true rfl) hl.1 (Nat.le_of_ble_eq_true rfl) rfl (fun H locs cs ss hM => ?_)
  refine lv_if_eq (tgt := 23) hx hb dX1_read_11 (by decide) (fun c3 => ?_) (fun c3 => ?_)
  · have hF := ifp hF c3
    refine lv_bipush (v := (-3)) hx hb dX1_read_23 rfl ?_
    have hz := (Option.some.inj hF)
    subst hz
    exact cri S hM hr hlocks dX1_read_25
  · have hF := ifn hF c3
    refine lv_iload_n hx hb dX1_read_14 rfl (lv_at hl 2 rfl) ?_
    refine lv_iconst (v := 0) hx hb dX1_read_15 rfl ?_
    refine lv_iconst (v := 1) hx hb dX1_read_16 rfl ?_
    refine ccr (rest := []) (st1 := [.int (fX1_isIn x2 0 1)]) S hX hM (metX1_isIn l D h0 x2 0 1 _ rfl) (ci_S (As := [.int x2, .int 0, .int 1]) (rest := []) S q1150 q821 q103 q822 hyX1_isIn hlX1_isIn rfl dX1_read_17) q822 q103 (Nat.le_of_ble_eq_true rfl) (Nat.le_of_ble_eq_true rfl) hl.1 (Nat.le_of_ble_eq_true rfl) rfl (fun H locs cs ss hM => ?_)
    refine lv_if_ne (tgt := 26) hx hb dX1_read_20 (by decide) (fun c5 => ?_) (fun c5 => ?_)
    · have hF := ifn hF c5
      refine lv_iload_n hx hb dX1_read_26 rfl (lv_at hl 2 rfl) ?_
      refine lv_if_ne (tgt := 39) hx hb dX1_read_27 (by decide) (fun c6 => ?_) (fun c6 => ?_)
      · have hF := ifn hF c6
        refine lv_aload_n hx hb dX1_read_39 rfl (lv_at hl 0 rfl) ?_
        obtain ⟨a7, ea7, hF⟩ := obn hF
        refine cgn S hX hM ea7 ck_1_1_13 q337 (fun _ h => h) dX1_read_40 ?_
        refine lv_iload_n hx hb dX1_read_43 rfl (lv_at hl 1 rfl) ?_
        obtain ⟨v8, ev8, hF⟩ := obn hF
        refine cai S hX hM ev8 dX1_read_44 ?_
        have hz := (Option.some.inj hF)
        subst hz
        exact cri S hM hr hlocks dX1_read_45
      · have hF := ifp hF c6
        refine lv_aload_n hx hb dX1_read_30 rfl (lv_at hl 0 rfl) ?_
        obtain ⟨a9, ea9, hF⟩ := obn hF
        refine cgn S hX hM ea9 ck_1_1_12 q336 (fun _ h => h) dX1_read_31 ?_
        refine lv_iload_n hx hb dX1_read_34 rfl (lv_at hl 1 rfl) ?_
        obtain ⟨v10, ev10, hF⟩ := obn hF
        refine cai S hX hM ev10 dX1_read_35 ?_
        refine lv_goto (tgt := 45) hx hb dX1_read_36 (by decide) ?_
        have hz := (Option.some.inj hF)
        subst hz
        exact cri S hM hr hlocks dX1_read_45
    · have hF := ifp hF c5
      refine lv_bipush (v := (-3)) hx hb dX1_read_23 rfl ?_
      have hz := (Option.some.inj hF)
      subst hz
      exact cri S hM hr hlocks dX1_read_25
def fX1_fewest (F : Nat) (h0 : HS) (x0 : Nat) : Option (Int32) := ((oI h0 x0 1 1 16).bind fun v1 => some v1)
theorem hyX1_fewest : yX1_fewest.cls ≠ "java/lang/invoke/MethodHandle" ∧ yX1_fewest.cls ≠ "java/lang/invoke/VarHandle" := by decide +kernel
theorem hlX1_fewest : (parseMethodDescriptor yX1_fewest.desc).map (fun d => d.parameters.length) = some 0 := by decide +kernel
set_option maxHeartbeats 4000000 in
set_option maxRecDepth 100000 in
theorem metX1_fewest (l : Launch) [NoTr l] (F : Nat) (D : va_G) (h0 : HS) (x0 : Nat) (r : Int32) (hF : fX1_fewest F h0 x0 = some r) : CMet l yX1_fewest (ws_ yX1_fewest cX1_fewest 1 (some .int)) 0 0 D [.ref x0] h0 h0 (.inr (some (.int r))) := by
  refine CMet.ofW (by decide) ?_
  intro p e s m below meth c s₁ B S hX hM hr hlocks hnt hin
  obtain ⟨hx, hb, hml, hown, hts⟩ := id S
  have hl := lv_entry ([.ref x0]) (n := 1) (Nat.le_of_ble_eq_true rfl)
  rw [lg_entry_eq]
  generalize (lg_sl ([.ref x0]) ++ List.replicate (1 - (lg_sl ([.ref x0])).length) Slot.unset).toArray = ls at hl ⊢
  have hl : lv_has ls 1 [(0, .ref x0)] := hl
  unfold fX1_fewest at hF
  refine lv_aload_n hx hb dX1_fewest_0 rfl (lv_at hl 0 rfl) ?_
  obtain ⟨v1, ev1, hF⟩ := obn hF
  refine cgi S hX hM ev1 ck_1_1_16 q340 (fun _ h => h) dX1_fewest_1 ?_
  have hz := (Option.some.inj hF)
  subst hz
  exact cri S hM hr hlocks dX1_fewest_4
def lJ3_fill_2_5 (F : Nat) : Nat → HS → Nat → Int32 → Int32 → Int32 → Option (HS)
  | 0, _, _, _, _, _ => none
  | n + 1, σ, y0, y1, y2, y3 => (if y3 ≤ y2 then (some σ) else ((wI σ y0 33 y2 (vp_nar .boolean y1)).bind fun σ3 => lJ3_fill_2_5 F n σ3 y0 y1 (y2 + 1) y3))
def fJ3_fill_2 (F : Nat) (h0 : HS) (x0 : Nat) (x1 : Int32) : Option (HS) := ((aL h0 x0 33 33).bind fun v1 => ((lJ3_fill_2_5 F F h0 x0 x1 0 v1).bind fun q4 => some q4))
theorem hyJ3_fill_2 : yJ3_fill_2.cls ≠ "java/lang/invoke/MethodHandle" ∧ yJ3_fill_2.cls ≠ "java/lang/invoke/VarHandle" := by decide +kernel
theorem hlJ3_fill_2 : (parseMethodDescriptor yJ3_fill_2.desc).map (fun d => d.parameters.length) = some 2 := by decide +kernel
set_option maxHeartbeats 4000000 in
set_option maxRecDepth 100000 in
theorem wlJ3_fill_2_5 {p : Program} {l : Launch} [NoTr l] {e : Env} {s : State} {m : MethodId} {args : Array Value} {below : List Frame} {meth : Method} {c : Code} {D : va_G} {h0 : HS} (S : CallFix p m c cJ3_fill_2 4 s args lw_all RJ3) (hX : CX D (kG h0) s) (F : Nat) {Q : State → Prop} : ∀ (n : Nat) (σ : HS) (y0 : Nat) (y1 : Int32) (y2 : Int32) (y3 : Int32) (out : HS), lJ3_fill_2_5 F n σ y0 y1 y2 y3 = some out → (∀ (H : Heap) (locs : List Loc) (cs ss : Nat) (ls : Array Slot), HI D h0 out s.heap H locs cs ss → lv_has ls 4 [] → W p l e (cR 0 0 h0) s m args below meth c H locs cs ss Q (F0 m 20 ls [])) → ∀ (H : Heap) (locs : List Loc) (cs ss : Nat) (ls : Array Slot), HI D h0 σ s.heap H locs cs ss → lv_has ls 4 [(0, .ref y0), (1, .int y1), (2, .int y2), (3, .int y3)] → W p l e (cR 0 0 h0) s m args below meth c H locs cs ss Q (F0 m 5 ls []) := by
  intro n
  induction n with
  | zero =>
    intro σ y0 y1 y2 y3 out hF
    cases (show (none : Option _) = some out from hF)
  | succ n ih =>
    intro σ y0 y1 y2 y3 out hF hk H locs cs ss ls hM hl
    rw [lJ3_fill_2_5] at hF
    obtain ⟨hx, hb, hml, hown, hts⟩ := id S
    refine lv_iload_n hx hb dJ3_fill_2_5 rfl (lv_at hl 2 rfl) ?_
    refine lv_iload_n hx hb dJ3_fill_2_6 rfl (lv_at hl 3 rfl) ?_
    refine lv_icmp_ge (tgt := 20) hx hb dJ3_fill_2_7 (by decide) (fun c2 => ?_) (fun c2 => ?_)
    · have hF := ifp hF c2
      cases hF
      exact hk _ _ _ _ _ hM (lv_sub hl [] rfl)
    · have hF := ifn hF c2
      refine lv_aload_n hx hb dJ3_fill_2_10 rfl (lv_at hl 0 rfl) ?_
      refine lv_iload_n hx hb dJ3_fill_2_11 rfl (lv_at hl 2 rfl) ?_
      refine lv_iload_n hx hb dJ3_fill_2_12 rfl (lv_at hl 1 rfl) ?_
      obtain ⟨σ3, eσ3, hF⟩ := obn hF
      refine cwz S hX hM eσ3 dJ3_fill_2_13 (fun H locs hM => ?_)
      refine lv_iinc (v := y2 + 1) (lv' := [(2, .int (y2 + 1)), (0, .ref y0), (1, .int y1), (3, .int y3)]) hx hb dJ3_fill_2_14 hl (k := 2) rfl rfl (by decide) rfl (fun ls hl => ?_)
      refine lv_goto (tgt := 5) hx hb dJ3_fill_2_17 (by decide) ?_
      exact ih _ _ _ _ _ out hF hk _ _ _ _ _ hM (lv_sub hl [1, 2, 0, 3] rfl)
set_option maxHeartbeats 4000000 in
set_option maxRecDepth 100000 in
theorem metJ3_fill_2 (l : Launch) [NoTr l] (F : Nat) (D : va_G) (h0 : HS) (x0 : Nat) (x1 : Int32) (r : HS) (hF : fJ3_fill_2 F h0 x0 x1 = some r) : CMet l yJ3_fill_2 (ws_ yJ3_fill_2 cJ3_fill_2 4 none) 0 0 D [.ref x0, .int x1] h0 r (.inr none) := by
  refine CMet.ofW (by decide) ?_
  intro p e s m below meth c s₁ B S hX hM hr hlocks hnt hin
  obtain ⟨hx, hb, hml, hown, hts⟩ := id S
  have hl := lv_entry ([.ref x0, .int x1]) (n := 4) (Nat.le_of_ble_eq_true rfl)
  rw [lg_entry_eq]
  generalize (lg_sl ([.ref x0, .int x1]) ++ List.replicate (4 - (lg_sl ([.ref x0, .int x1])).length) Slot.unset).toArray = ls at hl ⊢
  have hl : lv_has ls 4 [(0, .ref x0), (1, .int x1)] := hl
  unfold fJ3_fill_2 at hF
  refine lv_iconst (v := 0) hx hb dJ3_fill_2_0 rfl ?_
  refine lv_istore_n (lv' := [(2, .int 0), (0, .ref x0), (1, .int x1)]) hx hb dJ3_fill_2_1 rfl hl (by decide) rfl (fun ls hl => ?_)
  refine lv_aload_n hx hb dJ3_fill_2_2 rfl (lv_at hl 1 rfl) ?_
  obtain ⟨v1, ev1, hF⟩ := obn hF
  refine cal S hX hM ev1 (by decide) (by decide) dJ3_fill_2_3 ?_
  refine lv_istore_n (lv' := [(3, .int v1), (2, .int 0), (0, .ref x0), (1, .int x1)]) hx hb dJ3_fill_2_4 rfl hl (by decide) rfl (fun ls hl => ?_)
  obtain ⟨q4, hq4, hF⟩ := obn hF
  refine wlJ3_fill_2_5 S hX F  F _ _ _ _ _ q4 hq4 (fun H locs cs ss ls hM hl => ?_) _ _ _ _ _ hM (lv_sub hl [2, 3, 1, 0] rfl)
  have hz := (Option.some.inj hF)
  subst hz
  exact crv S hM hr hlocks dJ3_fill_2_20
def fX1_signOf (F : Nat) (h0 : HS) (x0 : Nat) (x1 : Int32) (x2 : Int32) : Option (Int32) := ((fR h0 x0 1 1 4).bind fun a1 => ((fR h0 a1 3 3 5).bind fun a2 => ((aI h0 a2 31 x2).bind fun v3 => ((fR h0 x0 1 1 3).bind fun a4 => ((fR h0 a4 2 2 5).bind fun a5 => gT h0 a5 15 15 (((fJ2_get F h0 a5 x1).bind fun r6 => gT h0 r6 9 9 (((oI h0 r6 9 9 2).bind fun v8 => (if v3 = v8 then (some 0) else ((fR h0 x0 1 1 3).bind fun a10 => ((fR h0 a10 2 2 5).bind fun a11 => gT h0 a11 15 15 (((fJ2_get F h0 a11 x1).bind fun r12 => gT h0 r12 9 9 (((oI h0 r12 9 9 1).bind fun v14 => some v14))))))))))))))))
theorem hyX1_signOf : yX1_signOf.cls ≠ "java/lang/invoke/MethodHandle" ∧ yX1_signOf.cls ≠ "java/lang/invoke/VarHandle" := by decide +kernel
theorem hlX1_signOf : (parseMethodDescriptor yX1_signOf.desc).map (fun d => d.parameters.length) = some 2 := by decide +kernel
set_option maxHeartbeats 4000000 in
set_option maxRecDepth 100000 in
theorem metX1_signOf (l : Launch) [NoTr l] (F : Nat) (D : va_G) (h0 : HS) (x0 : Nat) (x1 : Int32) (x2 : Int32) (r : Int32) (hF : fX1_signOf F h0 x0 x1 x2 = some r) : CMet l yX1_signOf (ws_ yX1_signOf cX1_signOf 3 (some .int)) 3 64 D [.ref x0, .int x1, .int x2] h0 h0 (.inr (some (.int r))) := by
  refine CMet.ofW (by decide) ?_
  intro p e s m below meth c s₁ B S hX hM hr hlocks hnt hin
  obtain ⟨hx, hb, hml, hown, hts⟩ := id S
  have hl := lv_entry ([.ref x0, .int x1, .int x2]) (n := 3) (Nat.le_of_ble_eq_true rfl)
  rw [lg_entry_eq]
  generalize (lg_sl ([.ref x0, .int x1, .int x2]) ++ List.replicate (3 - (lg_sl ([.ref x0, .int x1, .int x2])).length) Slot.unset).toArray = ls at hl ⊢
  have hl : lv_has ls 3 [(0, .ref x0), (1, .int x1), (2, .int x2)] := hl
  unfold fX1_signOf at hF
  refine lv_aload_n hx hb dX1_signOf_0 rfl (lv_at hl 0 rfl) ?_
  obtain ⟨a1, ea1, hF⟩ := obn hF
  refine cgn S hX hM ea1 ck_1_1_4 q328 (fun _ h => h) dX1_signOf_1 ?_
  obtain ⟨a2, ea2, hF⟩ := obn hF
  refine cgnN S hX hM ea2 ck_3_3_5 (uq262 hX) dX1_signOf_4 ?_
  refine lv_iload_n hx hb dX1_signOf_7 rfl (lv_at hl 2 rfl) ?_
  obtain ⟨v3, ev3, hF⟩ := obn hF
  refine cai S hX hM ev3 dX1_signOf_8 ?_
  refine lv_aload_n hx hb dX1_signOf_9 rfl (lv_at hl 0 rfl) ?_
  obtain ⟨a4, ea4, hF⟩ := obn hF
  refine cgn S hX hM ea4 ck_1_1_3 q327 (fun _ h => h) dX1_signOf_10 ?_
  obtain ⟨a5, ea5, hF⟩ := obn hF
  refine cgnN S hX hM ea5 ck_2_2_5 (uq204 hX) dX1_signOf_13 ?_
  refine lv_iload_n hx hb dX1_signOf_16 rfl (lv_at hl 1 rfl) ?_
  obtain ⟨z6, hF⟩ := gTe hF
  obtain ⟨r6, er6, hF⟩ := obn hF
  refine ccr (rest := [.int v3]) (st1 := [.ref r6, .int v3]) S hX hM (metJ2_get l F D h0 a5 x1 r6 er6) (ci_V (C := "java/util/ArrayList") (As := [.int x1]) (rest := [.int v3]) S q1151 q925 q926 q927 hyJ2_get (HI.cell (ci := 14) hX hM (by decide) (by omega)) hlJ2_get rfl dX1_signOf_17) q927 q107 (Nat.le_of_ble_eq_true rfl) (Nat.le_of_ble_eq_true rfl) hl.1 (Nat.le_of_ble_eq_true rfl) rfl (fun H locs cs ss hM => ?_)
  obtain ⟨z7, hF⟩ := gTe hF
  refine ccs (ci := 8) S hX hM (by decide) (by omega) q1249 dX1_signOf_20 ?_
  obtain ⟨v8, ev8, hF⟩ := obn hF
  refine cgiN S hX hM ev8 ck_9_9_2 (uq953 hX) dX1_signOf_23 ?_
  refine lv_icmp_ne (tgt := 33) hx hb dX1_signOf_26 (by decide) (fun c9 => ?_) (fun c9 => ?_)
  · have hF := ifn hF c9
    refine lv_aload_n hx hb dX1_signOf_33 rfl (lv_at hl 0 rfl) ?_
    obtain ⟨a10, ea10, hF⟩ := obn hF
    refine cgn S hX hM ea10 ck_1_1_3 q327 (fun _ h => h) dX1_signOf_34 ?_
    obtain ⟨a11, ea11, hF⟩ := obn hF
    refine cgnN S hX hM ea11 ck_2_2_5 (uq204 hX) dX1_signOf_37 ?_
    refine lv_iload_n hx hb dX1_signOf_40 rfl (lv_at hl 1 rfl) ?_
    obtain ⟨z12, hF⟩ := gTe hF
    obtain ⟨r12, er12, hF⟩ := obn hF
    refine ccr (rest := []) (st1 := [.ref r12]) S hX hM (metJ2_get l F D h0 a11 x1 r12 er12) (ci_V (C := "java/util/ArrayList") (As := [.int x1]) (rest := []) S q1151 q925 q926 q927 hyJ2_get (HI.cell (ci := 14) hX hM (by decide) (by omega)) hlJ2_get rfl dX1_signOf_41) q927 q107 (Nat.le_of_ble_eq_true rfl) (Nat.le_of_ble_eq_true rfl) hl.1 (Nat.le_of_ble_eq_true rfl) rfl (fun H locs cs ss hM => ?_)
    obtain ⟨z13, hF⟩ := gTe hF
    refine ccs (ci := 8) S hX hM (by decide) (by omega) q1249 dX1_signOf_44 ?_
    obtain ⟨v14, ev14, hF⟩ := obn hF
    refine cgiN S hX hM ev14 ck_9_9_1 (uq949 hX) dX1_signOf_47 ?_
    have hz := (Option.some.inj hF)
    subst hz
    exact cri S hM hr hlocks dX1_signOf_50
  · have hF := ifp hF c9
    refine lv_iconst (v := 0) hx hb dX1_signOf_29 rfl ?_
    refine lv_goto (tgt := 50) hx hb dX1_signOf_30 (by decide) ?_
    have hz := (Option.some.inj hF)
    subst hz
    exact cri S hM hr hlocks dX1_signOf_50
def lX1_nearest_4 (F : Nat) (σ : HS) : Nat → Nat → Int32 → Int32 → Option (Int32)
  | 0, _, _, _ => none
  | n + 1, y0, y1, y2 => (if 144 ≤ y2 then (some y1) else ((fR σ y0 1 1 20).bind fun a2 => ((aI σ a2 33 y2).bind fun v3 => (if v3 = 0 then ((fR σ y0 1 1 19).bind fun a5 => ((aI σ a5 31 y2).bind fun v6 => (if 100000000 ≤ v6 then (lX1_nearest_4 F σ n y0 y1 (y2 + 1)) else (if y1 = (-1) then (lX1_nearest_4 F σ n y0 y2 (y2 + 1)) else ((fR σ y0 1 1 19).bind fun a9 => ((aI σ a9 31 y2).bind fun v10 => ((fR σ y0 1 1 19).bind fun a11 => ((aI σ a11 31 y1).bind fun v12 => (if v12 ≤ v10 then (lX1_nearest_4 F σ n y0 y1 (y2 + 1)) else (lX1_nearest_4 F σ n y0 y2 (y2 + 1))))))))))) else (lX1_nearest_4 F σ n y0 y1 (y2 + 1))))))
def fX1_nearest (F : Nat) (h0 : HS) (x0 : Nat) : Option (Int32) := ((lX1_nearest_4 F h0 F x0 (-1) 0).bind fun q14 => some q14)
theorem hyX1_nearest : yX1_nearest.cls ≠ "java/lang/invoke/MethodHandle" ∧ yX1_nearest.cls ≠ "java/lang/invoke/VarHandle" := by decide +kernel
theorem hlX1_nearest : (parseMethodDescriptor yX1_nearest.desc).map (fun d => d.parameters.length) = some 0 := by decide +kernel
set_option maxHeartbeats 4000000 in
set_option maxRecDepth 100000 in
theorem wlX1_nearest_4 {p : Program} {l : Launch} [NoTr l] {e : Env} {s : State} {m : MethodId} {args : Array Value} {below : List Frame} {meth : Method} {c : Code} {D : va_G} {h0 : HS} (S : CallFix p m c cX1_nearest 3 s args lw_all RX1) (hX : CX D (kG h0) s) (σ : HS) (F : Nat) {Q : State → Prop} : ∀ (n : Nat) (y0 : Nat) (y1 : Int32) (y2 : Int32) (out : Int32), lX1_nearest_4 F σ n y0 y1 y2 = some out → (∀ (H : Heap) (locs : List Loc) (cs ss : Nat) (ls : Array Slot), HI D h0 σ s.heap H locs cs ss → lv_has ls 3 [(1, .int out)] → W p l e (cR 0 0 h0) s m args below meth c H locs cs ss Q (F0 m 60 ls [])) → ∀ (H : Heap) (locs : List Loc) (cs ss : Nat) (ls : Array Slot), HI D h0 σ s.heap H locs cs ss → lv_has ls 3 [(0, .ref y0), (1, .int y1), (2, .int y2)] → W p l e (cR 0 0 h0) s m args below meth c H locs cs ss Q (F0 m 4 ls []) := by
  intro n
  induction n with
  | zero =>
    intro y0 y1 y2 out hF
    cases (show (none : Option _) = some out from hF)
  | succ n ih =>
    intro y0 y1 y2 out hF hk H locs cs ss ls hM hl
    rw [lX1_nearest_4] at hF
    obtain ⟨hx, hb, hml, hown, hts⟩ := id S
    refine lv_iload_n hx hb dX1_nearest_4 rfl (lv_at hl 2 rfl) ?_
    refine lv_sipush (v := 144) hx hb dX1_nearest_5 rfl ?_
    refine lv_icmp_ge (tgt := 60) hx hb dX1_nearest_8 (by decide) (fun c1 => ?_) (fun c1 => ?_)
    · have hF := ifp hF c1
      cases hF
      exact hk _ _ _ _ _ hM (lv_sub hl [1] rfl)
    · have hF := ifn hF c1
      refine lv_aload_n hx hb dX1_nearest_11 rfl (lv_at hl 0 rfl) ?_
      obtain ⟨a2, ea2, hF⟩ := obn hF
      refine cgn S hX hM ea2 ck_1_1_20 q344 (fun _ h => h) dX1_nearest_12 ?_
      refine lv_iload_n hx hb dX1_nearest_15 rfl (lv_at hl 2 rfl) ?_
      obtain ⟨v3, ev3, hF⟩ := obn hF
      refine caz S hX hM ev3 dX1_nearest_16 ?_
      refine lv_if_ne (tgt := 54) hx hb dX1_nearest_17 (by decide) (fun c4 => ?_) (fun c4 => ?_)
      · have hF := ifn hF c4
        refine lv_iinc (v := y2 + 1) (lv' := [(2, .int (y2 + 1)), (0, .ref y0), (1, .int y1)]) hx hb dX1_nearest_54 hl (k := 2) rfl rfl (by decide) rfl (fun ls hl => ?_)
        refine lv_goto (tgt := 4) hx hb dX1_nearest_57 (by decide) ?_
        exact ih _ _ _ out hF hk _ _ _ _ _ hM (lv_sub hl [1, 2, 0] rfl)
      · have hF := ifp hF c4
        refine lv_aload_n hx hb dX1_nearest_20 rfl (lv_at hl 0 rfl) ?_
        obtain ⟨a5, ea5, hF⟩ := obn hF
        refine cgn S hX hM ea5 ck_1_1_19 q343 (fun _ h => h) dX1_nearest_21 ?_
        refine lv_iload_n hx hb dX1_nearest_24 rfl (lv_at hl 2 rfl) ?_
        obtain ⟨v6, ev6, hF⟩ := obn hF
        refine cai S hX hM ev6 dX1_nearest_25 ?_
        refine lv_ldcw hx hb hown (hts _ q1301) dX1_nearest_26 ?_
        refine lv_icmp_ge (tgt := 54) hx hb dX1_nearest_29 (by decide) (fun c7 => ?_) (fun c7 => ?_)
        · have hF := ifp hF c7
          refine lv_iinc (v := y2 + 1) (lv' := [(2, .int (y2 + 1)), (0, .ref y0), (1, .int y1)]) hx hb dX1_nearest_54 hl (k := 2) rfl rfl (by decide) rfl (fun ls hl => ?_)
          refine lv_goto (tgt := 4) hx hb dX1_nearest_57 (by decide) ?_
          exact ih _ _ _ out hF hk _ _ _ _ _ hM (lv_sub hl [1, 2, 0] rfl)
        · have hF := ifn hF c7
          refine lv_iload_n hx hb dX1_nearest_32 rfl (lv_at hl 1 rfl) ?_
          refine lv_iconst (v := (-1)) hx hb dX1_nearest_33 rfl ?_
          refine lv_icmp_eq (tgt := 52) hx hb dX1_nearest_34 (by decide) (fun c8 => ?_) (fun c8 => ?_)
          · have hF := ifp hF c8
            refine lv_iload_n hx hb dX1_nearest_52 rfl (lv_at hl 2 rfl) ?_
            refine lv_istore_n (lv' := [(1, .int y2), (0, .ref y0), (2, .int y2)]) hx hb dX1_nearest_53 rfl hl (by decide) rfl (fun ls hl => ?_)
            refine lv_iinc (v := y2 + 1) (lv' := [(2, .int (y2 + 1)), (1, .int y2), (0, .ref y0)]) hx hb dX1_nearest_54 hl (k := 2) rfl rfl (by decide) rfl (fun ls hl => ?_)
            refine lv_goto (tgt := 4) hx hb dX1_nearest_57 (by decide) ?_
            exact ih _ _ _ out hF hk _ _ _ _ _ hM (lv_sub hl [2, 1, 0] rfl)
          · have hF := ifn hF c8
            refine lv_aload_n hx hb dX1_nearest_37 rfl (lv_at hl 0 rfl) ?_
            obtain ⟨a9, ea9, hF⟩ := obn hF
            refine cgn S hX hM ea9 ck_1_1_19 q343 (fun _ h => h) dX1_nearest_38 ?_
            refine lv_iload_n hx hb dX1_nearest_41 rfl (lv_at hl 2 rfl) ?_
            obtain ⟨v10, ev10, hF⟩ := obn hF
            refine cai S hX hM ev10 dX1_nearest_42 ?_
            refine lv_aload_n hx hb dX1_nearest_43 rfl (lv_at hl 0 rfl) ?_
            obtain ⟨a11, ea11, hF⟩ := obn hF
            refine cgn S hX hM ea11 ck_1_1_19 q343 (fun _ h => h) dX1_nearest_44 ?_
            refine lv_iload_n hx hb dX1_nearest_47 rfl (lv_at hl 1 rfl) ?_
            obtain ⟨v12, ev12, hF⟩ := obn hF
            refine cai S hX hM ev12 dX1_nearest_48 ?_
            refine lv_icmp_ge (tgt := 54) hx hb dX1_nearest_49 (by decide) (fun c13 => ?_) (fun c13 => ?_)
            · have hF := ifp hF c13
              refine lv_iinc (v := y2 + 1) (lv' := [(2, .int (y2 + 1)), (0, .ref y0), (1, .int y1)]) hx hb dX1_nearest_54 hl (k := 2) rfl rfl (by decide) rfl (fun ls hl => ?_)
              refine lv_goto (tgt := 4) hx hb dX1_nearest_57 (by decide) ?_
              exact ih _ _ _ out hF hk _ _ _ _ _ hM (lv_sub hl [1, 2, 0] rfl)
            · have hF := ifn hF c13
              refine lv_iload_n hx hb dX1_nearest_52 rfl (lv_at hl 2 rfl) ?_
              refine lv_istore_n (lv' := [(1, .int y2), (0, .ref y0), (2, .int y2)]) hx hb dX1_nearest_53 rfl hl (by decide) rfl (fun ls hl => ?_)
              refine lv_iinc (v := y2 + 1) (lv' := [(2, .int (y2 + 1)), (1, .int y2), (0, .ref y0)]) hx hb dX1_nearest_54 hl (k := 2) rfl rfl (by decide) rfl (fun ls hl => ?_)
              refine lv_goto (tgt := 4) hx hb dX1_nearest_57 (by decide) ?_
              exact ih _ _ _ out hF hk _ _ _ _ _ hM (lv_sub hl [2, 1, 0] rfl)
set_option maxHeartbeats 4000000 in
set_option maxRecDepth 100000 in
theorem metX1_nearest (l : Launch) [NoTr l] (F : Nat) (D : va_G) (h0 : HS) (x0 : Nat) (r : Int32) (hF : fX1_nearest F h0 x0 = some r) : CMet l yX1_nearest (ws_ yX1_nearest cX1_nearest 3 (some .int)) 0 0 D [.ref x0] h0 h0 (.inr (some (.int r))) := by
  refine CMet.ofW (by decide) ?_
  intro p e s m below meth c s₁ B S hX hM hr hlocks hnt hin
  obtain ⟨hx, hb, hml, hown, hts⟩ := id S
  have hl := lv_entry ([.ref x0]) (n := 3) (Nat.le_of_ble_eq_true rfl)
  rw [lg_entry_eq]
  generalize (lg_sl ([.ref x0]) ++ List.replicate (3 - (lg_sl ([.ref x0])).length) Slot.unset).toArray = ls at hl ⊢
  have hl : lv_has ls 3 [(0, .ref x0)] := hl
  unfold fX1_nearest at hF
  refine lv_iconst (v := (-1)) hx hb dX1_nearest_0 rfl ?_
  refine lv_istore_n (lv' := [(1, .int (-1)), (0, .ref x0)]) hx hb dX1_nearest_1 rfl hl (by decide) rfl (fun ls hl => ?_)
  refine lv_iconst (v := 0) hx hb dX1_nearest_2 rfl ?_
  refine lv_istore_n (lv' := [(2, .int 0), (1, .int (-1)), (0, .ref x0)]) hx hb dX1_nearest_3 rfl hl (by decide) rfl (fun ls hl => ?_)
  obtain ⟨q14, hq14, hF⟩ := obn hF
  refine wlX1_nearest_4 S hX _ F  F _ _ _ q14 hq14 (fun H locs cs ss ls hM hl => ?_) _ _ _ _ _ hM (lv_sub hl [2, 1, 0] rfl)
  refine lv_iload_n hx hb dX1_nearest_60 rfl (lv_at hl 0 rfl) ?_
  have hz := (Option.some.inj hF)
  subst hz
  exact cri S hM hr hlocks dX1_nearest_61
def lX1_crosses_119 (F : Nat) : Nat → HS → Nat → Int32 → Int32 → Int32 → Int32 → Option (HS)
  | 0, _, _, _, _, _, _ => none
  | n + 1, σ, y0, y1, y3, y4, y5 => (if 4 ≤ y5 then (some σ) else ((fR σ y0 1 1 3).bind fun a30 => gT σ a30 2 2 (((fX2_open F σ a30 y4 y5).bind fun r31 => (if r31 = (-1) then (lX1_crosses_119 F n σ y0 y1 y3 y4 (y5 + 1)) else ((fR σ y0 1 1 19).bind fun a33 => ((fR σ y0 1 1 19).bind fun a34 => ((aI σ a34 31 r31).bind fun v35 => ((fR σ y0 1 1 19).bind fun a36 => ((aI σ a36 31 y4).bind fun v37 => gT σ y0 1 1 (((fX1_signOf F σ y0 y1 r31).bind fun r38 => ((wI σ a33 31 r31 (imin v35 ((v37 + (1000 * r38)) + 1))).bind fun σ40 => lX1_crosses_119 F n σ40 y0 y1 y3 y4 (y5 + 1))))))))))))))
def lX1_crosses_96 (F : Nat) : Nat → HS → Nat → Int32 → Int32 → Int32 → Option (HS)
  | 0, _, _, _, _, _ => none
  | n + 1, σ, y0, y1, y3, y4 => (if y4 = (-1) then (some σ) else (if y4 = y3 then (some σ) else ((fR σ y0 1 1 20).bind fun a27 => ((wI σ a27 33 y4 (vp_nar .boolean 1)).bind fun σ28 => ((lX1_crosses_119 F F σ28 y0 y1 y3 y4 0).bind fun q41 => gT q41 y0 1 1 (((fX1_nearest F q41 y0).bind fun r42 => lX1_crosses_96 F n q41 y0 y1 y3 r42)))))))
def fX1_crosses (F : Nat) (h0 : HS) (x0 : Nat) (x1 : Int32) (x2 : Int32) (x3 : Int32) : Option (Int32 × HS) := gT h0 x0 1 1 (((fX1_isPerson F h0 x0 x1).bind fun r1 => (if r1 = 0 then (some ((-1), h0)) else ((fR h0 x0 1 1 3).bind fun a3 => gT h0 a3 2 2 (((fX2_isTuft F h0 a3 x2).bind fun r4 => (if r4 = 0 then (some ((-1), h0)) else ((fR h0 x0 1 1 3).bind fun a6 => gT h0 a6 2 2 (((fX2_isTuft F h0 a6 x3).bind fun r7 => (if r7 = 0 then (some ((-1), h0)) else ((fR h0 x0 1 1 3).bind fun a9 => ((fR h0 a9 2 2 8).bind fun a10 => ((aI h0 a10 33 x2).bind fun v11 => (if v11 = 0 then ((fR h0 x0 1 1 3).bind fun a13 => ((fR h0 a13 2 2 8).bind fun a14 => ((aI h0 a14 33 x3).bind fun v15 => (if v15 = 0 then ((fR h0 x0 1 1 19).bind fun a17 => ((fJ3_fill F h0 a17 100000000).bind fun r18 => ((fR r18 x0 1 1 20).bind fun a19 => ((fJ3_fill_2 F r18 a19 0).bind fun r20 => ((fR r20 x0 1 1 19).bind fun a21 => gT r20 x0 1 1 (((fX1_signOf F r20 x0 x1 x2).bind fun r22 => ((wI r20 a21 31 x2 (1000 * r22)).bind fun σ23 => gT σ23 x0 1 1 (((fX1_nearest F σ23 x0).bind fun r24 => ((lX1_crosses_96 F F σ23 x0 x1 x3 r24).bind fun q43 => ((fR q43 x0 1 1 19).bind fun a44 => ((aI q43 a44 31 x3).bind fun v45 => (if 100000000 ≤ v45 then (some ((-1), q43)) else ((fR q43 x0 1 1 19).bind fun a47 => ((aI q43 a47 31 x3).bind fun v48 => some (v48, q43))))))))))))))))) else (some ((-1), h0)))))) else (some ((-1), h0)))))))))))))))))
theorem hyX1_crosses : yX1_crosses.cls ≠ "java/lang/invoke/MethodHandle" ∧ yX1_crosses.cls ≠ "java/lang/invoke/VarHandle" := by decide +kernel
theorem hlX1_crosses : (parseMethodDescriptor yX1_crosses.desc).map (fun d => d.parameters.length) = some 3 := by decide +kernel
set_option maxHeartbeats 4000000 in
set_option maxRecDepth 100000 in
theorem wlX1_crosses_119 {p : Program} {l : Launch} [NoTr l] {e : Env} {s : State} {m : MethodId} {args : Array Value} {below : List Frame} {meth : Method} {c : Code} {D : va_G} {h0 : HS} (S : CallFix p m c cX1_crosses 7 s args lw_all RX1) (hX : CX D (kG h0) s) (F : Nat) {Q : State → Prop} : ∀ (n : Nat) (σ : HS) (y0 : Nat) (y1 : Int32) (y3 : Int32) (y4 : Int32) (y5 : Int32) (out : HS), lX1_crosses_119 F n σ y0 y1 y3 y4 y5 = some out → (∀ (H : Heap) (locs : List Loc) (cs ss : Nat) (ls : Array Slot), HI D h0 out s.heap H locs cs ss → lv_has ls 7 [(0, .ref y0), (1, .int y1), (3, .int y3)] → W p l e (cR 4 91 h0) s m args below meth c H locs cs ss Q (F0 m 188 ls [])) → ∀ (H : Heap) (locs : List Loc) (cs ss : Nat) (ls : Array Slot), HI D h0 σ s.heap H locs cs ss → lv_has ls 7 [(0, .ref y0), (1, .int y1), (3, .int y3), (4, .int y4), (5, .int y5)] → W p l e (cR 4 91 h0) s m args below meth c H locs cs ss Q (F0 m 119 ls []) := by
  intro n
  induction n with
  | zero =>
    intro σ y0 y1 y3 y4 y5 out hF
    cases (show (none : Option _) = some out from hF)
  | succ n ih =>
    intro σ y0 y1 y3 y4 y5 out hF hk H locs cs ss ls hM hl
    rw [lX1_crosses_119] at hF
    obtain ⟨hx, hb, hml, hown, hts⟩ := id S
    refine lv_iload hx hb dX1_crosses_119 (lv_at hl 4 rfl) ?_
    refine lv_iconst (v := 4) hx hb dX1_crosses_121 rfl ?_
    refine lv_icmp_ge (tgt := 188) hx hb dX1_crosses_122 (by decide) (fun c29 => ?_) (fun c29 => ?_)
    · have hF := ifp hF c29
      cases hF
      exact hk _ _ _ _ _ hM (lv_sub hl [0, 1, 2] rfl)
    · have hF := ifn hF c29
      refine lv_aload_n hx hb dX1_crosses_125 rfl (lv_at hl 0 rfl) ?_
      obtain ⟨a30, ea30, hF⟩ := obn hF
      refine cgn S hX hM ea30 ck_1_1_3 q327 (fun _ h => h) dX1_crosses_126 ?_
      refine lv_iload hx hb dX1_crosses_129 (lv_at hl 3 rfl) ?_
      refine lv_iload hx hb dX1_crosses_131 (lv_at hl 4 rfl) ?_
      obtain ⟨z31, hF⟩ := gTe hF
      obtain ⟨r31, er31, hF⟩ := obn hF
      refine ccr (rest := []) (st1 := [.int r31]) S hX hM (metX2_open l F D σ a30 y4 y5 r31 er31) (ci_V (C := "RugReader$House") (As := [.int y4, .int y5]) (rest := []) S q1314 q1106 q1107 q1108 hyX2_open (HI.cell (ci := 1) hX hM (by decide) (by omega)) hlX2_open rfl dX1_crosses_133) q1108 q104 (Nat.le_of_ble_eq_true rfl) (Nat.le_of_ble_eq_true rfl) hl.1 (Nat.le_of_ble_eq_true rfl) rfl (fun H locs cs ss hM => ?_)
      refine lv_istore (lv' := [(6, .int r31), (0, .ref y0), (1, .int y1), (3, .int y3), (4, .int y4), (5, .int y5)]) hx hb dX1_crosses_136 hl (by decide) rfl (fun ls hl => ?_)
      refine lv_iload hx hb dX1_crosses_138 (lv_at hl 0 rfl) ?_
      refine lv_iconst (v := (-1)) hx hb dX1_crosses_140 rfl ?_
      refine lv_icmp_eq (tgt := 182) hx hb dX1_crosses_141 (by decide) (fun c32 => ?_) (fun c32 => ?_)
      · have hF := ifp hF c32
        refine lv_iinc (v := y5 + 1) (lv' := [(5, .int (y5 + 1)), (6, .int r31), (0, .ref y0), (1, .int y1), (3, .int y3), (4, .int y4)]) hx hb dX1_crosses_182 hl (k := 5) rfl rfl (by decide) rfl (fun ls hl => ?_)
        refine lv_goto (tgt := 119) hx hb dX1_crosses_185 (by decide) ?_
        exact ih _ _ _ _ _ _ out hF hk _ _ _ _ _ hM (lv_sub hl [2, 3, 4, 5, 0] rfl)
      · have hF := ifn hF c32
        refine lv_aload_n hx hb dX1_crosses_144 rfl (lv_at hl 1 rfl) ?_
        obtain ⟨a33, ea33, hF⟩ := obn hF
        refine cgn S hX hM ea33 ck_1_1_19 q343 (fun _ h => h) dX1_crosses_145 ?_
        refine lv_iload hx hb dX1_crosses_148 (lv_at hl 0 rfl) ?_
        refine lv_aload_n hx hb dX1_crosses_150 rfl (lv_at hl 1 rfl) ?_
        obtain ⟨a34, ea34, hF⟩ := obn hF
        refine cgn S hX hM ea34 ck_1_1_19 q343 (fun _ h => h) dX1_crosses_151 ?_
        refine lv_iload hx hb dX1_crosses_154 (lv_at hl 0 rfl) ?_
        obtain ⟨v35, ev35, hF⟩ := obn hF
        refine cai S hX hM ev35 dX1_crosses_156 ?_
        refine lv_aload_n hx hb dX1_crosses_157 rfl (lv_at hl 1 rfl) ?_
        obtain ⟨a36, ea36, hF⟩ := obn hF
        refine cgn S hX hM ea36 ck_1_1_19 q343 (fun _ h => h) dX1_crosses_158 ?_
        refine lv_iload hx hb dX1_crosses_161 (lv_at hl 4 rfl) ?_
        obtain ⟨v37, ev37, hF⟩ := obn hF
        refine cai S hX hM ev37 dX1_crosses_163 ?_
        refine lv_sipush (v := 1000) hx hb dX1_crosses_164 rfl ?_
        refine lv_aload_n hx hb dX1_crosses_167 rfl (lv_at hl 1 rfl) ?_
        refine lv_iload_n hx hb dX1_crosses_168 rfl (lv_at hl 2 rfl) ?_
        refine lv_iload hx hb dX1_crosses_169 (lv_at hl 0 rfl) ?_
        obtain ⟨z38, hF⟩ := gTe hF
        obtain ⟨r38, er38, hF⟩ := obn hF
        refine ccr (rest := [.int 1000, .int v37, .int v35, .int r31, .ref a33]) (st1 := [.int r38, .int 1000, .int v37, .int v35, .int r31, .ref a33]) S hX hM (metX1_signOf l F D σ y0 y1 r31 r38 er38) (ci_V (C := "RugReader") (As := [.int y1, .int r31]) (rest := [.int 1000, .int v37, .int v35, .int r31, .ref a33]) S q1306 q1308 qs26 q1309 hyX1_signOf (HI.cell (ci := 0) hX hM (by decide) (by omega)) hlX1_signOf rfl dX1_crosses_171) q1309 q103 (Nat.le_of_ble_eq_true rfl) (Nat.le_of_ble_eq_true rfl) hl.1 (Nat.le_of_ble_eq_true rfl) rfl (fun H locs cs ss hM => ?_)
        refine lv_imul hx hb dX1_crosses_174 ?_
        refine lv_iadd hx hb dX1_crosses_175 ?_
        refine lv_iconst (v := 1) hx hb dX1_crosses_176 rfl ?_
        refine lv_iadd hx hb dX1_crosses_177 ?_
        refine cmmin S hM q1204 q586 q119 q587 (Nat.le_of_ble_eq_true rfl) (Nat.le_of_ble_eq_true rfl) hl.1 (Nat.le_of_ble_eq_true rfl) dX1_crosses_178 ?_
        obtain ⟨σ40, eσ40, hF⟩ := obn hF
        refine cwi S hX hM eσ40 dX1_crosses_181 (fun H locs hM => ?_)
        refine lv_iinc (v := y5 + 1) (lv' := [(5, .int (y5 + 1)), (6, .int r31), (0, .ref y0), (1, .int y1), (3, .int y3), (4, .int y4)]) hx hb dX1_crosses_182 hl (k := 5) rfl rfl (by decide) rfl (fun ls hl => ?_)
        refine lv_goto (tgt := 119) hx hb dX1_crosses_185 (by decide) ?_
        exact ih _ _ _ _ _ _ out hF hk _ _ _ _ _ hM (lv_sub hl [2, 3, 4, 5, 0] rfl)
set_option maxHeartbeats 4000000 in
set_option maxRecDepth 100000 in
theorem wlX1_crosses_96 {p : Program} {l : Launch} [NoTr l] {e : Env} {s : State} {m : MethodId} {args : Array Value} {below : List Frame} {meth : Method} {c : Code} {D : va_G} {h0 : HS} (S : CallFix p m c cX1_crosses 7 s args lw_all RX1) (hX : CX D (kG h0) s) (F : Nat) {Q : State → Prop} : ∀ (n : Nat) (σ : HS) (y0 : Nat) (y1 : Int32) (y3 : Int32) (y4 : Int32) (out : HS), lX1_crosses_96 F n σ y0 y1 y3 y4 = some out → (∀ (H : Heap) (locs : List Loc) (cs ss : Nat) (ls : Array Slot), HI D h0 out s.heap H locs cs ss → lv_has ls 7 [(0, .ref y0), (3, .int y3)] → W p l e (cR 4 91 h0) s m args below meth c H locs cs ss Q (F0 m 197 ls [])) → ∀ (H : Heap) (locs : List Loc) (cs ss : Nat) (ls : Array Slot), HI D h0 σ s.heap H locs cs ss → lv_has ls 7 [(0, .ref y0), (1, .int y1), (3, .int y3), (4, .int y4)] → W p l e (cR 4 91 h0) s m args below meth c H locs cs ss Q (F0 m 96 ls []) := by
  intro n
  induction n with
  | zero =>
    intro σ y0 y1 y3 y4 out hF
    cases (show (none : Option _) = some out from hF)
  | succ n ih =>
    intro σ y0 y1 y3 y4 out hF hk H locs cs ss ls hM hl
    rw [lX1_crosses_96] at hF
    obtain ⟨hx, hb, hml, hown, hts⟩ := id S
    refine lv_iload hx hb dX1_crosses_96 (lv_at hl 3 rfl) ?_
    refine lv_iconst (v := (-1)) hx hb dX1_crosses_98 rfl ?_
    refine lv_icmp_eq (tgt := 197) hx hb dX1_crosses_99 (by decide) (fun c25 => ?_) (fun c25 => ?_)
    · have hF := ifp hF c25
      cases hF
      exact hk _ _ _ _ _ hM (lv_sub hl [0, 2] rfl)
    · have hF := ifn hF c25
      refine lv_iload hx hb dX1_crosses_102 (lv_at hl 3 rfl) ?_
      refine lv_iload_n hx hb dX1_crosses_104 rfl (lv_at hl 2 rfl) ?_
      refine lv_icmp_eq (tgt := 197) hx hb dX1_crosses_105 (by decide) (fun c26 => ?_) (fun c26 => ?_)
      · have hF := ifp hF c26
        cases hF
        exact hk _ _ _ _ _ hM (lv_sub hl [0, 2] rfl)
      · have hF := ifn hF c26
        refine lv_aload_n hx hb dX1_crosses_108 rfl (lv_at hl 0 rfl) ?_
        obtain ⟨a27, ea27, hF⟩ := obn hF
        refine cgn S hX hM ea27 ck_1_1_20 q344 (fun _ h => h) dX1_crosses_109 ?_
        refine lv_iload hx hb dX1_crosses_112 (lv_at hl 3 rfl) ?_
        refine lv_iconst (v := 1) hx hb dX1_crosses_114 rfl ?_
        obtain ⟨σ28, eσ28, hF⟩ := obn hF
        refine cwz S hX hM eσ28 dX1_crosses_115 (fun H locs hM => ?_)
        refine lv_iconst (v := 0) hx hb dX1_crosses_116 rfl ?_
        refine lv_istore (lv' := [(5, .int 0), (0, .ref y0), (1, .int y1), (3, .int y3), (4, .int y4)]) hx hb dX1_crosses_117 hl (by decide) rfl (fun ls hl => ?_)
        obtain ⟨q41, hq41, hF⟩ := obn hF
        refine wlX1_crosses_119 S hX F  F _ _ _ _ _ _ q41 hq41 (fun H locs cs ss ls hM hl => ?_) _ _ _ _ _ hM (lv_sub hl [1, 2, 3, 4, 0] rfl)
        refine lv_aload_n hx hb dX1_crosses_188 rfl (lv_at hl 0 rfl) ?_
        obtain ⟨z42, hF⟩ := gTe hF
        obtain ⟨r42, er42, hF⟩ := obn hF
        refine ccr (rest := []) (st1 := [.int r42]) S hX hM (metX1_nearest l F D q41 y0 r42 er42) (ci_V (C := "RugReader") (As := []) (rest := []) S q1310 q1312 qs27 q1313 hyX1_nearest (HI.cell (ci := 0) hX hM (by decide) (by omega)) hlX1_nearest rfl dX1_crosses_189) q1313 q103 (Nat.le_of_ble_eq_true rfl) (Nat.le_of_ble_eq_true rfl) hl.1 (Nat.le_of_ble_eq_true rfl) rfl (fun H locs cs ss hM => ?_)
        refine lv_istore (lv' := [(4, .int r42), (0, .ref y0), (1, .int y1), (3, .int y3)]) hx hb dX1_crosses_192 hl (by decide) rfl (fun ls hl => ?_)
        refine lv_goto (tgt := 96) hx hb dX1_crosses_194 (by decide) ?_
        exact ih _ _ _ _ _ out hF hk _ _ _ _ _ hM (lv_sub hl [1, 2, 3, 0] rfl)
set_option maxHeartbeats 4000000 in
set_option maxRecDepth 100000 in
theorem metX1_crosses (l : Launch) [NoTr l] (F : Nat) (D : va_G) (h0 : HS) (x0 : Nat) (x1 : Int32) (x2 : Int32) (x3 : Int32) (r : Int32 × HS) (hF : fX1_crosses F h0 x0 x1 x2 x3 = some r) : CMet l yX1_crosses (ws_ yX1_crosses cX1_crosses 7 (some .int)) 4 91 D [.ref x0, .int x1, .int x2, .int x3] h0 r.2 (.inr (some (.int r.1))) := by
  refine CMet.ofW (by decide) ?_
  intro p e s m below meth c s₁ B S hX hM hr hlocks hnt hin
  obtain ⟨hx, hb, hml, hown, hts⟩ := id S
  have hl := lv_entry ([.ref x0, .int x1, .int x2, .int x3]) (n := 7) (Nat.le_of_ble_eq_true rfl)
  rw [lg_entry_eq]
  generalize (lg_sl ([.ref x0, .int x1, .int x2, .int x3]) ++ List.replicate (7 - (lg_sl ([.ref x0, .int x1, .int x2, .int x3])).length) Slot.unset).toArray = ls at hl ⊢
  have hl : lv_has ls 7 [(0, .ref x0), (1, .int x1), (2, .int x2), (3, .int x3)] := hl
  unfold fX1_crosses at hF
  refine lv_aload_n hx hb dX1_crosses_0 rfl (lv_at hl 0 rfl) ?_
  refine lv_iload_n hx hb dX1_crosses_1 rfl (lv_at hl 1 rfl) ?_
  obtain ⟨z1, hF⟩ := gTe hF
  obtain ⟨r1, er1, hF⟩ := obn hF
  refine ccr (rest := []) (st1 := [.int r1]) S hX hM (metX1_isPerson l F D h0 x0 x1 r1 er1) (ci_V (C := "RugReader") (As := [.int x1]) (rest := []) S q1157 q1159 qs16 q1160 hyX1_isPerson (HI.cell (ci := 0) hX hM (by decide) (by omega)) hlX1_isPerson rfl dX1_crosses_2) q1160 q103 (Nat.le_of_ble_eq_true rfl) (Nat.le_of_ble_eq_true rfl) hl.1 (Nat.le_of_ble_eq_true rfl) rfl (fun H locs cs ss hM => ?_)
  refine lv_if_eq (tgt := 54) hx hb dX1_crosses_5 (by decide) (fun c2 => ?_) (fun c2 => ?_)
  · have hF := ifp hF c2
    refine lv_iconst (v := (-1)) hx hb dX1_crosses_54 rfl ?_
    have hz := (Option.some.inj hF)
    subst hz
    exact cri S hM hr hlocks dX1_crosses_55
  · have hF := ifn hF c2
    refine lv_aload_n hx hb dX1_crosses_8 rfl (lv_at hl 0 rfl) ?_
    obtain ⟨a3, ea3, hF⟩ := obn hF
    refine cgn S hX hM ea3 ck_1_1_3 q327 (fun _ h => h) dX1_crosses_9 ?_
    refine lv_iload_n hx hb dX1_crosses_12 rfl (lv_at hl 2 rfl) ?_
    obtain ⟨z4, hF⟩ := gTe hF
    obtain ⟨r4, er4, hF⟩ := obn hF
    refine ccr (rest := []) (st1 := [.int r4]) S hX hM (metX2_isTuft l F D h0 a3 x2 r4 er4) (ci_V (C := "RugReader$House") (As := [.int x2]) (rest := []) S q1200 q1201 q1202 q1203 hyX2_isTuft (HI.cell (ci := 1) hX hM (by decide) (by omega)) hlX2_isTuft rfl dX1_crosses_13) q1203 q104 (Nat.le_of_ble_eq_true rfl) (Nat.le_of_ble_eq_true rfl) hl.1 (Nat.le_of_ble_eq_true rfl) rfl (fun H locs cs ss hM => ?_)
    refine lv_if_eq (tgt := 54) hx hb dX1_crosses_16 (by decide) (fun c5 => ?_) (fun c5 => ?_)
    · have hF := ifp hF c5
      refine lv_iconst (v := (-1)) hx hb dX1_crosses_54 rfl ?_
      have hz := (Option.some.inj hF)
      subst hz
      exact cri S hM hr hlocks dX1_crosses_55
    · have hF := ifn hF c5
      refine lv_aload_n hx hb dX1_crosses_19 rfl (lv_at hl 0 rfl) ?_
      obtain ⟨a6, ea6, hF⟩ := obn hF
      refine cgn S hX hM ea6 ck_1_1_3 q327 (fun _ h => h) dX1_crosses_20 ?_
      refine lv_iload_n hx hb dX1_crosses_23 rfl (lv_at hl 3 rfl) ?_
      obtain ⟨z7, hF⟩ := gTe hF
      obtain ⟨r7, er7, hF⟩ := obn hF
      refine ccr (rest := []) (st1 := [.int r7]) S hX hM (metX2_isTuft l F D h0 a6 x3 r7 er7) (ci_V (C := "RugReader$House") (As := [.int x3]) (rest := []) S q1200 q1201 q1202 q1203 hyX2_isTuft (HI.cell (ci := 1) hX hM (by decide) (by omega)) hlX2_isTuft rfl dX1_crosses_24) q1203 q104 (Nat.le_of_ble_eq_true rfl) (Nat.le_of_ble_eq_true rfl) hl.1 (Nat.le_of_ble_eq_true rfl) rfl (fun H locs cs ss hM => ?_)
      refine lv_if_eq (tgt := 54) hx hb dX1_crosses_27 (by decide) (fun c8 => ?_) (fun c8 => ?_)
      · have hF := ifp hF c8
        refine lv_iconst (v := (-1)) hx hb dX1_crosses_54 rfl ?_
        have hz := (Option.some.inj hF)
        subst hz
        exact cri S hM hr hlocks dX1_crosses_55
      · have hF := ifn hF c8
        refine lv_aload_n hx hb dX1_crosses_30 rfl (lv_at hl 0 rfl) ?_
        obtain ⟨a9, ea9, hF⟩ := obn hF
        refine cgn S hX hM ea9 ck_1_1_3 q327 (fun _ h => h) dX1_crosses_31 ?_
        obtain ⟨a10, ea10, hF⟩ := obn hF
        refine cgnN S hX hM ea10 ck_2_2_8 (uq217 hX) dX1_crosses_34 ?_
        refine lv_iload_n hx hb dX1_crosses_37 rfl (lv_at hl 2 rfl) ?_
        obtain ⟨v11, ev11, hF⟩ := obn hF
        refine caz S hX hM ev11 dX1_crosses_38 ?_
        refine lv_if_ne (tgt := 54) hx hb dX1_crosses_39 (by decide) (fun c12 => ?_) (fun c12 => ?_)
        · have hF := ifn hF c12
          refine lv_iconst (v := (-1)) hx hb dX1_crosses_54 rfl ?_
          have hz := (Option.some.inj hF)
          subst hz
          exact cri S hM hr hlocks dX1_crosses_55
        · have hF := ifp hF c12
          refine lv_aload_n hx hb dX1_crosses_42 rfl (lv_at hl 0 rfl) ?_
          obtain ⟨a13, ea13, hF⟩ := obn hF
          refine cgn S hX hM ea13 ck_1_1_3 q327 (fun _ h => h) dX1_crosses_43 ?_
          obtain ⟨a14, ea14, hF⟩ := obn hF
          refine cgnN S hX hM ea14 ck_2_2_8 (uq217 hX) dX1_crosses_46 ?_
          refine lv_iload_n hx hb dX1_crosses_49 rfl (lv_at hl 3 rfl) ?_
          obtain ⟨v15, ev15, hF⟩ := obn hF
          refine caz S hX hM ev15 dX1_crosses_50 ?_
          refine lv_if_eq (tgt := 56) hx hb dX1_crosses_51 (by decide) (fun c16 => ?_) (fun c16 => ?_)
          · have hF := ifp hF c16
            refine lv_aload_n hx hb dX1_crosses_56 rfl (lv_at hl 0 rfl) ?_
            obtain ⟨a17, ea17, hF⟩ := obn hF
            refine cgn S hX hM ea17 ck_1_1_19 q343 (fun _ h => h) dX1_crosses_57 ?_
            refine lv_ldcw hx hb hown (hts _ q1301) dX1_crosses_60 ?_
            obtain ⟨r18, er18, hF⟩ := obn hF
            refine ccr (rest := []) (st1 := []) S hX hM (metJ3_fill l F D h0 a17 100000000 r18 er18) (ci_S (As := [.ref a17, .int 100000000]) (rest := []) S q1302 q298 q109 q299 hyJ3_fill hlJ3_fill rfl dX1_crosses_63) q299 q109 (Nat.le_of_ble_eq_true rfl) (Nat.le_of_ble_eq_true rfl) hl.1 (Nat.le_of_ble_eq_true rfl) rfl (fun H locs cs ss hM => ?_)
            refine lv_aload_n hx hb dX1_crosses_66 rfl (lv_at hl 0 rfl) ?_
            obtain ⟨a19, ea19, hF⟩ := obn hF
            refine cgn S hX hM ea19 ck_1_1_20 q344 (fun _ h => h) dX1_crosses_67 ?_
            refine lv_iconst (v := 0) hx hb dX1_crosses_70 rfl ?_
            obtain ⟨r20, er20, hF⟩ := obn hF
            refine ccr (rest := []) (st1 := []) S hX hM (metJ3_fill_2 l F D r18 a19 0 r20 er20) (ci_S (As := [.ref a19, .int 0]) (rest := []) S q1303 q1304 q109 q1305 hyJ3_fill_2 hlJ3_fill_2 rfl dX1_crosses_71) q1305 q109 (Nat.le_of_ble_eq_true rfl) (Nat.le_of_ble_eq_true rfl) hl.1 (Nat.le_of_ble_eq_true rfl) rfl (fun H locs cs ss hM => ?_)
            refine lv_aload_n hx hb dX1_crosses_74 rfl (lv_at hl 0 rfl) ?_
            obtain ⟨a21, ea21, hF⟩ := obn hF
            refine cgn S hX hM ea21 ck_1_1_19 q343 (fun _ h => h) dX1_crosses_75 ?_
            refine lv_iload_n hx hb dX1_crosses_78 rfl (lv_at hl 2 rfl) ?_
            refine lv_sipush (v := 1000) hx hb dX1_crosses_79 rfl ?_
            refine lv_aload_n hx hb dX1_crosses_82 rfl (lv_at hl 0 rfl) ?_
            refine lv_iload_n hx hb dX1_crosses_83 rfl (lv_at hl 1 rfl) ?_
            refine lv_iload_n hx hb dX1_crosses_84 rfl (lv_at hl 2 rfl) ?_
            obtain ⟨z22, hF⟩ := gTe hF
            obtain ⟨r22, er22, hF⟩ := obn hF
            refine ccr (rest := [.int 1000, .int x2, .ref a21]) (st1 := [.int r22, .int 1000, .int x2, .ref a21]) S hX hM (metX1_signOf l F D r20 x0 x1 x2 r22 er22) (ci_V (C := "RugReader") (As := [.int x1, .int x2]) (rest := [.int 1000, .int x2, .ref a21]) S q1306 q1308 qs26 q1309 hyX1_signOf (HI.cell (ci := 0) hX hM (by decide) (by omega)) hlX1_signOf rfl dX1_crosses_85) q1309 q103 (Nat.le_of_ble_eq_true rfl) (Nat.le_of_ble_eq_true rfl) hl.1 (Nat.le_of_ble_eq_true rfl) rfl (fun H locs cs ss hM => ?_)
            refine lv_imul hx hb dX1_crosses_88 ?_
            obtain ⟨σ23, eσ23, hF⟩ := obn hF
            refine cwi S hX hM eσ23 dX1_crosses_89 (fun H locs hM => ?_)
            refine lv_aload_n hx hb dX1_crosses_90 rfl (lv_at hl 0 rfl) ?_
            obtain ⟨z24, hF⟩ := gTe hF
            obtain ⟨r24, er24, hF⟩ := obn hF
            refine ccr (rest := []) (st1 := [.int r24]) S hX hM (metX1_nearest l F D σ23 x0 r24 er24) (ci_V (C := "RugReader") (As := []) (rest := []) S q1310 q1312 qs27 q1313 hyX1_nearest (HI.cell (ci := 0) hX hM (by decide) (by omega)) hlX1_nearest rfl dX1_crosses_91) q1313 q103 (Nat.le_of_ble_eq_true rfl) (Nat.le_of_ble_eq_true rfl) hl.1 (Nat.le_of_ble_eq_true rfl) rfl (fun H locs cs ss hM => ?_)
            refine lv_istore (lv' := [(4, .int r24), (0, .ref x0), (1, .int x1), (2, .int x2), (3, .int x3)]) hx hb dX1_crosses_94 hl (by decide) rfl (fun ls hl => ?_)
            obtain ⟨q43, hq43, hF⟩ := obn hF
            refine wlX1_crosses_96 S hX F  F _ _ _ _ _ q43 hq43 (fun H locs cs ss ls hM hl => ?_) _ _ _ _ _ hM (lv_sub hl [1, 2, 4, 0] rfl)
            refine lv_aload_n hx hb dX1_crosses_197 rfl (lv_at hl 0 rfl) ?_
            obtain ⟨a44, ea44, hF⟩ := obn hF
            refine cgn S hX hM ea44 ck_1_1_19 q343 (fun _ h => h) dX1_crosses_198 ?_
            refine lv_iload_n hx hb dX1_crosses_201 rfl (lv_at hl 1 rfl) ?_
            obtain ⟨v45, ev45, hF⟩ := obn hF
            refine cai S hX hM ev45 dX1_crosses_202 ?_
            refine lv_ldcw hx hb hown (hts _ q1301) dX1_crosses_203 ?_
            refine lv_icmp_ge (tgt := 218) hx hb dX1_crosses_206 (by decide) (fun c46 => ?_) (fun c46 => ?_)
            · have hF := ifp hF c46
              refine lv_iconst (v := (-1)) hx hb dX1_crosses_218 rfl ?_
              have hz := (Option.some.inj hF)
              subst hz
              exact cri S hM hr hlocks dX1_crosses_219
            · have hF := ifn hF c46
              refine lv_aload_n hx hb dX1_crosses_209 rfl (lv_at hl 0 rfl) ?_
              obtain ⟨a47, ea47, hF⟩ := obn hF
              refine cgn S hX hM ea47 ck_1_1_19 q343 (fun _ h => h) dX1_crosses_210 ?_
              refine lv_iload_n hx hb dX1_crosses_213 rfl (lv_at hl 1 rfl) ?_
              obtain ⟨v48, ev48, hF⟩ := obn hF
              refine cai S hX hM ev48 dX1_crosses_214 ?_
              refine lv_goto (tgt := 219) hx hb dX1_crosses_215 (by decide) ?_
              have hz := (Option.some.inj hF)
              subst hz
              exact cri S hM hr hlocks dX1_crosses_219
          · have hF := ifn hF c16
            refine lv_iconst (v := (-1)) hx hb dX1_crosses_54 rfl ?_
            have hz := (Option.some.inj hF)
            subst hz
            exact cri S hM hr hlocks dX1_crosses_55
def fX1_sign (F : Nat) (h0 : HS) (x0 : Nat) (x1 : Int32) (x2 : Int32) (x3 : Int32) : Option (Int32 × HS) := gT h0 x0 1 1 (((fX1_crosses F h0 x0 x1 x2 x3).bind fun r1 => (if r1.1 = (-1) then (some ((-1), r1.2)) else (some ((r1.1 / 1000), r1.2)))))
theorem hyX1_sign : yX1_sign.cls ≠ "java/lang/invoke/MethodHandle" ∧ yX1_sign.cls ≠ "java/lang/invoke/VarHandle" := by decide +kernel
theorem hlX1_sign : (parseMethodDescriptor yX1_sign.desc).map (fun d => d.parameters.length) = some 3 := by decide +kernel
set_option maxHeartbeats 4000000 in
set_option maxRecDepth 100000 in
theorem metX1_sign (l : Launch) [NoTr l] (F : Nat) (D : va_G) (h0 : HS) (x0 : Nat) (x1 : Int32) (x2 : Int32) (x3 : Int32) (r : Int32 × HS) (hF : fX1_sign F h0 x0 x1 x2 x3 = some r) : CMet l yX1_sign (ws_ yX1_sign cX1_sign 5 (some .int)) 5 117 D [.ref x0, .int x1, .int x2, .int x3] h0 r.2 (.inr (some (.int r.1))) := by
  refine CMet.ofW (by decide) ?_
  intro p e s m below meth c s₁ B S hX hM hr hlocks hnt hin
  obtain ⟨hx, hb, hml, hown, hts⟩ := id S
  have hl := lv_entry ([.ref x0, .int x1, .int x2, .int x3]) (n := 5) (Nat.le_of_ble_eq_true rfl)
  rw [lg_entry_eq]
  generalize (lg_sl ([.ref x0, .int x1, .int x2, .int x3]) ++ List.replicate (5 - (lg_sl ([.ref x0, .int x1, .int x2, .int x3])).length) Slot.unset).toArray = ls at hl ⊢
  have hl : lv_has ls 5 [(0, .ref x0), (1, .int x1), (2, .int x2), (3, .int x3)] := hl
  unfold fX1_sign at hF
  refine lv_aload_n hx hb dX1_sign_0 rfl (lv_at hl 0 rfl) ?_
  refine lv_iload_n hx hb dX1_sign_1 rfl (lv_at hl 1 rfl) ?_
  refine lv_iload_n hx hb dX1_sign_2 rfl (lv_at hl 2 rfl) ?_
  refine lv_iload_n hx hb dX1_sign_3 rfl (lv_at hl 3 rfl) ?_
  obtain ⟨z1, hF⟩ := gTe hF
  obtain ⟨r1, er1, hF⟩ := obn hF
  refine ccr (rest := []) (st1 := [.int r1.1]) S hX hM (metX1_crosses l F D h0 x0 x1 x2 x3 r1 er1) (ci_V (C := "RugReader") (As := [.int x1, .int x2, .int x3]) (rest := []) S q1297 q1299 qs25 q1300 hyX1_crosses (HI.cell (ci := 0) hX hM (by decide) (by omega)) hlX1_crosses rfl dX1_sign_4) q1300 q103 (Nat.le_of_ble_eq_true rfl) (Nat.le_of_ble_eq_true rfl) hl.1 (Nat.le_of_ble_eq_true rfl) rfl (fun H locs cs ss hM => ?_)
  refine lv_istore (lv' := [(4, .int r1.1), (0, .ref x0), (1, .int x1), (2, .int x2), (3, .int x3)]) hx hb dX1_sign_7 hl (by decide) rfl (fun ls hl => ?_)
  refine lv_iload hx hb dX1_sign_9 (lv_at hl 0 rfl) ?_
  refine lv_iconst (v := (-1)) hx hb dX1_sign_11 rfl ?_
  refine lv_icmp_ne (tgt := 19) hx hb dX1_sign_12 (by decide) (fun c2 => ?_) (fun c2 => ?_)
  · have hF := ifn hF c2
    refine lv_iload hx hb dX1_sign_19 (lv_at hl 0 rfl) ?_
    refine lv_sipush (v := 1000) hx hb dX1_sign_21 rfl ?_
    refine lv_idiv hx hb dX1_sign_24 (by decide) ?_
    have hz := (Option.some.inj hF)
    subst hz
    exact cri S hM hr hlocks dX1_sign_25
  · have hF := ifp hF c2
    refine lv_iconst (v := (-1)) hx hb dX1_sign_15 rfl ?_
    refine lv_goto (tgt := 25) hx hb dX1_sign_16 (by decide) ?_
    have hz := (Option.some.inj hF)
    subst hz
    exact cri S hM hr hlocks dX1_sign_25
def fX1_steps (F : Nat) (h0 : HS) (x0 : Nat) (x1 : Int32) (x2 : Int32) (x3 : Int32) : Option (Int32 × HS) := gT h0 x0 1 1 (((fX1_crosses F h0 x0 x1 x2 x3).bind fun r1 => (if r1.1 = (-1) then (some ((-1), r1.2)) else (some ((irm r1.1 1000), r1.2)))))
theorem hyX1_steps : yX1_steps.cls ≠ "java/lang/invoke/MethodHandle" ∧ yX1_steps.cls ≠ "java/lang/invoke/VarHandle" := by decide +kernel
theorem hlX1_steps : (parseMethodDescriptor yX1_steps.desc).map (fun d => d.parameters.length) = some 3 := by decide +kernel
set_option maxHeartbeats 4000000 in
set_option maxRecDepth 100000 in
theorem metX1_steps (l : Launch) [NoTr l] (F : Nat) (D : va_G) (h0 : HS) (x0 : Nat) (x1 : Int32) (x2 : Int32) (x3 : Int32) (r : Int32 × HS) (hF : fX1_steps F h0 x0 x1 x2 x3 = some r) : CMet l yX1_steps (ws_ yX1_steps cX1_steps 5 (some .int)) 5 117 D [.ref x0, .int x1, .int x2, .int x3] h0 r.2 (.inr (some (.int r.1))) := by
  refine CMet.ofW (by decide) ?_
  intro p e s m below meth c s₁ B S hX hM hr hlocks hnt hin
  obtain ⟨hx, hb, hml, hown, hts⟩ := id S
  have hl := lv_entry ([.ref x0, .int x1, .int x2, .int x3]) (n := 5) (Nat.le_of_ble_eq_true rfl)
  rw [lg_entry_eq]
  generalize (lg_sl ([.ref x0, .int x1, .int x2, .int x3]) ++ List.replicate (5 - (lg_sl ([.ref x0, .int x1, .int x2, .int x3])).length) Slot.unset).toArray = ls at hl ⊢
  have hl : lv_has ls 5 [(0, .ref x0), (1, .int x1), (2, .int x2), (3, .int x3)] := hl
  unfold fX1_steps at hF
  refine lv_aload_n hx hb dX1_steps_0 rfl (lv_at hl 0 rfl) ?_
  refine lv_iload_n hx hb dX1_steps_1 rfl (lv_at hl 1 rfl) ?_
  refine lv_iload_n hx hb dX1_steps_2 rfl (lv_at hl 2 rfl) ?_
  refine lv_iload_n hx hb dX1_steps_3 rfl (lv_at hl 3 rfl) ?_
  obtain ⟨z1, hF⟩ := gTe hF
  obtain ⟨r1, er1, hF⟩ := obn hF
  refine ccr (rest := []) (st1 := [.int r1.1]) S hX hM (metX1_crosses l F D h0 x0 x1 x2 x3 r1 er1) (ci_V (C := "RugReader") (As := [.int x1, .int x2, .int x3]) (rest := []) S q1297 q1299 qs25 q1300 hyX1_crosses (HI.cell (ci := 0) hX hM (by decide) (by omega)) hlX1_crosses rfl dX1_steps_4) q1300 q103 (Nat.le_of_ble_eq_true rfl) (Nat.le_of_ble_eq_true rfl) hl.1 (Nat.le_of_ble_eq_true rfl) rfl (fun H locs cs ss hM => ?_)
  refine lv_istore (lv' := [(4, .int r1.1), (0, .ref x0), (1, .int x1), (2, .int x2), (3, .int x3)]) hx hb dX1_steps_7 hl (by decide) rfl (fun ls hl => ?_)
  refine lv_iload hx hb dX1_steps_9 (lv_at hl 0 rfl) ?_
  refine lv_iconst (v := (-1)) hx hb dX1_steps_11 rfl ?_
  refine lv_icmp_ne (tgt := 19) hx hb dX1_steps_12 (by decide) (fun c2 => ?_) (fun c2 => ?_)
  · have hF := ifn hF c2
    refine lv_iload hx hb dX1_steps_19 (lv_at hl 0 rfl) ?_
    refine lv_sipush (v := 1000) hx hb dX1_steps_21 rfl ?_
    refine lv_irem hx hb dX1_steps_24 (by decide) ?_
    have hz := (Option.some.inj hF)
    subst hz
    exact cri S hM hr hlocks dX1_steps_25
  · have hF := ifp hF c2
    refine lv_iconst (v := (-1)) hx hb dX1_steps_15 rfl ?_
    refine lv_goto (tgt := 25) hx hb dX1_steps_16 (by decide) ?_
    have hz := (Option.some.inj hF)
    subst hz
    exact cri S hM hr hlocks dX1_steps_25
def fX12_init (F : Nat) (h0 : HS) (x0 : Nat) (x1 : Nat) (x2 : Int32) (x3 : Nat) : Option (HS) := ((fX6_init F h0 x0 x1 x2 300).bind fun r1 => ((pI r1 x0 6 6 11 (-1)).bind fun σ2 => ((pI σ2 x0 6 6 13 (-1)).bind fun σ3 => ((pI σ3 x0 6 6 16 (-1)).bind fun σ4 => ((pR σ4 x0 6 6 9 (some x3)).bind fun σ5 => some σ5)))))
theorem hyX12_init : yX12_init.cls ≠ "java/lang/invoke/MethodHandle" ∧ yX12_init.cls ≠ "java/lang/invoke/VarHandle" := by decide +kernel
theorem hlX12_init : (parseMethodDescriptor yX12_init.desc).map (fun d => d.parameters.length) = some 3 := by decide +kernel
set_option maxHeartbeats 4000000 in
set_option maxRecDepth 100000 in
theorem metX12_init (l : Launch) [NoTr l] (F : Nat) (D : va_G) (h0 : HS) (x0 : Nat) (x1 : Nat) (x2 : Int32) (x3 : Nat) (r : HS) (hF : fX12_init F h0 x0 x1 x2 x3 = some r) : CMet l yX12_init (ws_ yX12_init cX12_init 4 none) 2 43 D [.ref x0, .ref x1, .int x2, .ref x3] h0 r (.inr none) := by
  refine CMet.ofW (by decide) ?_
  intro p e s m below meth c s₁ B S hX hM hr hlocks hnt hin
  obtain ⟨hx, hb, hml, hown, hts⟩ := id S
  have hl := lv_entry ([.ref x0, .ref x1, .int x2, .ref x3]) (n := 4) (Nat.le_of_ble_eq_true rfl)
  rw [lg_entry_eq]
  generalize (lg_sl ([.ref x0, .ref x1, .int x2, .ref x3]) ++ List.replicate (4 - (lg_sl ([.ref x0, .ref x1, .int x2, .ref x3])).length) Slot.unset).toArray = ls at hl ⊢
  have hl : lv_has ls 4 [(0, .ref x0), (1, .ref x1), (2, .int x2), (3, .ref x3)] := hl
  unfold fX12_init at hF
  refine lv_aload_n hx hb dX12_init_0 rfl (lv_at hl 0 rfl) ?_
  refine lv_aload_n hx hb dX12_init_1 rfl (lv_at hl 1 rfl) ?_
  refine lv_iload_n hx hb dX12_init_2 rfl (lv_at hl 2 rfl) ?_
  refine lv_sipush (v := 300) hx hb dX12_init_3 rfl ?_
  obtain ⟨r1, er1, hF⟩ := obn hF
  refine ccr (rest := []) (st1 := []) S hX hM (metX6_init l F D h0 x0 x1 x2 300 r1 er1) (ci_I (As := [.ref x1, .int x2, .int 300]) (rest := []) S rfl q1328 q448 q449 hyX6_init hlX6_init rfl dX12_init_6) q449 q112 (Nat.le_of_ble_eq_true rfl) (Nat.le_of_ble_eq_true rfl) hl.1 (Nat.le_of_ble_eq_true rfl) rfl (fun H locs cs ss hM => ?_)
  refine lv_aload_n hx hb dX12_init_9 rfl (lv_at hl 0 rfl) ?_
  refine lv_iconst (v := (-1)) hx hb dX12_init_10 rfl ?_
  obtain ⟨σ2, eσ2, hF⟩ := obn hF
  refine cpi S hX hM eσ2 ck_6_6_11 cw_6_6_11 rfl rfl q1332 (fun _ h => h) dX12_init_11 (fun H locs hM => ?_)
  refine lv_aload_n hx hb dX12_init_14 rfl (lv_at hl 0 rfl) ?_
  refine lv_iconst (v := (-1)) hx hb dX12_init_15 rfl ?_
  obtain ⟨σ3, eσ3, hF⟩ := obn hF
  refine cpi S hX hM eσ3 ck_6_6_13 cw_6_6_13 rfl rfl q1335 (fun _ h => h) dX12_init_16 (fun H locs hM => ?_)
  refine lv_aload_n hx hb dX12_init_19 rfl (lv_at hl 0 rfl) ?_
  refine lv_iconst (v := (-1)) hx hb dX12_init_20 rfl ?_
  obtain ⟨σ4, eσ4, hF⟩ := obn hF
  refine cpi S hX hM eσ4 ck_6_6_16 cw_6_6_16 rfl rfl q1341 (fun _ h => h) dX12_init_21 (fun H locs hM => ?_)
  refine lv_aload_n hx hb dX12_init_24 rfl (lv_at hl 0 rfl) ?_
  refine lv_aload_n hx hb dX12_init_25 rfl (lv_at hl 3 rfl) ?_
  obtain ⟨σ5, eσ5, hF⟩ := obn hF
  refine cprF (v := (some x3)) S hX hM eσ5 ck_6_6_9 cw_6_6_9 rfl q1329 hin dX12_init_26 (fun H locs hM => ?_)
  have hz := (Option.some.inj hF)
  subst hz
  exact crv S hM hr hlocks dX12_init_29
def fX6_holdOne (F : Nat) (h0 : HS) (x0 : Nat) (x1 : Nat) : Option ((Nat ⊕ Int32) × HS) := gT h0 x0 5 7 (((fX6_isName F h0 x0).bind fun r1 => gT r1.2 x0 5 7 (((fX6_need F r1.2 x0 r1.1 1).bind fun r2 => thr r2.1 (fun b2 => some (.inl b2, r2.2)) fun w2 => gT r2.2 x0 5 7 (((fX6_find F r2.2 x0 x1).bind fun r3 => (if r3 = (-1) then (gT r2.2 x0 5 7 (((fX6_need F r2.2 x0 0 3).bind fun r5 => thr r5.1 (fun b5 => some (.inl b5, r5.2)) fun w5 => some (.inr r3, r5.2)))) else (gT r2.2 x0 5 7 (((fX6_need F r2.2 x0 1 3).bind fun r6 => thr r6.1 (fun b6 => some (.inl b6, r6.2)) fun w6 => some (.inr r3, r6.2)))))))))))
theorem hyX6_holdOne : yX6_holdOne.cls ≠ "java/lang/invoke/MethodHandle" ∧ yX6_holdOne.cls ≠ "java/lang/invoke/VarHandle" := by decide +kernel
theorem hlX6_holdOne : (parseMethodDescriptor yX6_holdOne.desc).map (fun d => d.parameters.length) = some 1 := by decide +kernel
set_option maxHeartbeats 4000000 in
set_option maxRecDepth 100000 in
theorem metX6_holdOne (l : Launch) [NoTr l] (F : Nat) (D : va_G) (h0 : HS) (x0 : Nat) (x1 : Nat) (r : (Nat ⊕ Int32) × HS) (hF : fX6_holdOne F h0 x0 x1 = some r) : CMet l yX6_holdOne (ws_ yX6_holdOne cX6_holdOne 3 (some .int)) 10 244 D [.ref x0, .ref x1] h0 r.2 (xi r.1) := by
  refine CMet.ofW (by decide) ?_
  intro p e s m below meth c s₁ B S hX hM hr hlocks hnt hin
  obtain ⟨hx, hb, hml, hown, hts⟩ := id S
  have hl := lv_entry ([.ref x0, .ref x1]) (n := 3) (Nat.le_of_ble_eq_true rfl)
  rw [lg_entry_eq]
  generalize (lg_sl ([.ref x0, .ref x1]) ++ List.replicate (3 - (lg_sl ([.ref x0, .ref x1])).length) Slot.unset).toArray = ls at hl ⊢
  have hl : lv_has ls 3 [(0, .ref x0), (1, .ref x1)] := hl
  unfold fX6_holdOne at hF
  refine lv_aload_n hx hb dX6_holdOne_0 rfl (lv_at hl 0 rfl) ?_
  refine lv_aload_n hx hb dX6_holdOne_1 rfl (lv_at hl 0 rfl) ?_
  obtain ⟨z1, hF⟩ := gTe hF
  obtain ⟨r1, er1, hF⟩ := obn hF
  refine ccr (rest := [.ref x0]) (st1 := [.int r1.1, .ref x0]) S hX hM (metX6_isName l F D h0 x0 r1 er1) (by
        have ez : kT h0 x0 = 5 ∨ kT h0 x0 = 6 ∨ kT h0 x0 = 7 := by omega
        rcases ez with ez | ez | ez
        · exact ci_V (C := "RugReader$HouseReader") (As := []) (rest := [.ref x0]) S q1381 q841 q2347 q842 hyX6_isName (HI.cell (ci := 4) hX hM (by decide) ez) hlX6_isName rfl dX6_holdOne_2
        · exact ci_V (C := "RugReader$WalkReader") (As := []) (rest := [.ref x0]) S q1381 q841 q2349 q842 hyX6_isName (HI.cell (ci := 5) hX hM (by decide) ez) hlX6_isName rfl dX6_holdOne_2
        · exact ci_V (C := "RugReader$SentenceReader") (As := []) (rest := [.ref x0]) S q1381 q841 q2348 q842 hyX6_isName (HI.cell (ci := 6) hX hM (by decide) ez) hlX6_isName rfl dX6_holdOne_2) q842 q112 (Nat.le_of_ble_eq_true rfl) (Nat.le_of_ble_eq_true rfl) hl.1 (Nat.le_of_ble_eq_true rfl) rfl (fun H locs cs ss hM => ?_)
  refine lv_iconst (v := 1) hx hb dX6_holdOne_5 rfl ?_
  obtain ⟨z2, hF⟩ := gTe hF
  obtain ⟨r2, er2, hF⟩ := obn hF
  refine cctv (rest := []) S hX hM (metX6_need l F D r1.2 x0 r1.1 1 r2 er2) (by
        have ez : kT r1.2 x0 = 5 ∨ kT r1.2 x0 = 6 ∨ kT r1.2 x0 = 7 := by omega
        rcases ez with ez | ez | ez
        · exact ci_V (C := "RugReader$HouseReader") (As := [.int r1.1, .int 1]) (rest := []) S q819 q739 q2327 q740 hyX6_need (HI.cell (ci := 4) hX hM (by decide) ez) hlX6_need rfl dX6_holdOne_6
        · exact ci_V (C := "RugReader$WalkReader") (As := [.int r1.1, .int 1]) (rest := []) S q819 q739 q2329 q740 hyX6_need (HI.cell (ci := 5) hX hM (by decide) ez) hlX6_need rfl dX6_holdOne_6
        · exact ci_V (C := "RugReader$SentenceReader") (As := [.int r1.1, .int 1]) (rest := []) S q819 q739 q2328 q740 hyX6_need (HI.cell (ci := 6) hX hM (by decide) ez) hlX6_need rfl dX6_holdOne_6) q740 q112 (Nat.le_of_ble_eq_true rfl) (Nat.le_of_ble_eq_true rfl) hl.1 (Nat.le_of_ble_eq_true rfl) (fun w2 ew2 H locs cs ss hM => ?_) (fun b2 eb2 H locs cs ss hM => ?_)
  · have hF := thr_r hF ew2
    refine lv_aload_n hx hb dX6_holdOne_9 rfl (lv_at hl 0 rfl) ?_
    refine lv_aload_n hx hb dX6_holdOne_10 rfl (lv_at hl 1 rfl) ?_
    obtain ⟨z3, hF⟩ := gTe hF
    obtain ⟨r3, er3, hF⟩ := obn hF
    refine ccr (rest := []) (st1 := [.int r3]) S hX hM (metX6_find l F D r2.2 x0 x1 r3 er3) (by
          have ez : kT r2.2 x0 = 5 ∨ kT r2.2 x0 = 6 ∨ kT r2.2 x0 = 7 := by omega
          rcases ez with ez | ez | ez
          · exact ci_V (C := "RugReader$HouseReader") (As := [.ref x1]) (rest := []) S q1382 q921 q2351 q922 hyX6_find (HI.cell (ci := 4) hX hM (by decide) ez) hlX6_find rfl dX6_holdOne_11
          · exact ci_V (C := "RugReader$WalkReader") (As := [.ref x1]) (rest := []) S q1382 q921 q2353 q922 hyX6_find (HI.cell (ci := 5) hX hM (by decide) ez) hlX6_find rfl dX6_holdOne_11
          · exact ci_V (C := "RugReader$SentenceReader") (As := [.ref x1]) (rest := []) S q1382 q921 q2352 q922 hyX6_find (HI.cell (ci := 6) hX hM (by decide) ez) hlX6_find rfl dX6_holdOne_11) q922 q112 (Nat.le_of_ble_eq_true rfl) (Nat.le_of_ble_eq_true rfl) hl.1 (Nat.le_of_ble_eq_true rfl) rfl (fun H locs cs ss hM => ?_)
    refine lv_istore_n (lv' := [(2, .int r3), (0, .ref x0), (1, .ref x1)]) hx hb dX6_holdOne_14 rfl hl (by decide) rfl (fun ls hl => ?_)
    refine lv_aload_n hx hb dX6_holdOne_15 rfl (lv_at hl 1 rfl) ?_
    refine lv_iload_n hx hb dX6_holdOne_16 rfl (lv_at hl 0 rfl) ?_
    refine lv_iconst (v := (-1)) hx hb dX6_holdOne_17 rfl ?_
    refine lv_icmp_eq (tgt := 25) hx hb dX6_holdOne_18 (by decide) (fun c4 => ?_) (fun c4 => ?_)
    · have hF := ifp hF c4
      refine lv_iconst (v := 0) hx hb dX6_holdOne_25 rfl ?_
      refine lv_iconst (v := 3) hx hb dX6_holdOne_26 rfl ?_
      obtain ⟨z5, hF⟩ := gTe hF
      obtain ⟨r5, er5, hF⟩ := obn hF
      refine cctv (rest := []) S hX hM (metX6_need l F D r2.2 x0 0 3 r5 er5) (by
            have ez : kT r2.2 x0 = 5 ∨ kT r2.2 x0 = 6 ∨ kT r2.2 x0 = 7 := by omega
            rcases ez with ez | ez | ez
            · exact ci_V (C := "RugReader$HouseReader") (As := [.int 0, .int 3]) (rest := []) S q819 q739 q2327 q740 hyX6_need (HI.cell (ci := 4) hX hM (by decide) ez) hlX6_need rfl dX6_holdOne_27
            · exact ci_V (C := "RugReader$WalkReader") (As := [.int 0, .int 3]) (rest := []) S q819 q739 q2329 q740 hyX6_need (HI.cell (ci := 5) hX hM (by decide) ez) hlX6_need rfl dX6_holdOne_27
            · exact ci_V (C := "RugReader$SentenceReader") (As := [.int 0, .int 3]) (rest := []) S q819 q739 q2328 q740 hyX6_need (HI.cell (ci := 6) hX hM (by decide) ez) hlX6_need rfl dX6_holdOne_27) q740 q112 (Nat.le_of_ble_eq_true rfl) (Nat.le_of_ble_eq_true rfl) hl.1 (Nat.le_of_ble_eq_true rfl) (fun w5 ew5 H locs cs ss hM => ?_) (fun b5 eb5 H locs cs ss hM => ?_)
      · have hF := thr_r hF ew5
        refine lv_iload_n hx hb dX6_holdOne_30 rfl (lv_at hl 0 rfl) ?_
        have hz := (Option.some.inj hF)
        subst hz
        exact cri S hM hr hlocks dX6_holdOne_31
      · have hF := thr_q hF eb5
        have hz := (Option.some.inj hF)
        subst hz
        exact cxout hM (fun x hx => (hnt x hx).elim) hlocks
    · have hF := ifn hF c4
      refine lv_iconst (v := 1) hx hb dX6_holdOne_21 rfl ?_
      refine lv_goto (tgt := 26) hx hb dX6_holdOne_22 (by decide) ?_
      refine lv_iconst (v := 3) hx hb dX6_holdOne_26 rfl ?_
      obtain ⟨z6, hF⟩ := gTe hF
      obtain ⟨r6, er6, hF⟩ := obn hF
      refine cctv (rest := []) S hX hM (metX6_need l F D r2.2 x0 1 3 r6 er6) (by
            have ez : kT r2.2 x0 = 5 ∨ kT r2.2 x0 = 6 ∨ kT r2.2 x0 = 7 := by omega
            rcases ez with ez | ez | ez
            · exact ci_V (C := "RugReader$HouseReader") (As := [.int 1, .int 3]) (rest := []) S q819 q739 q2327 q740 hyX6_need (HI.cell (ci := 4) hX hM (by decide) ez) hlX6_need rfl dX6_holdOne_27
            · exact ci_V (C := "RugReader$WalkReader") (As := [.int 1, .int 3]) (rest := []) S q819 q739 q2329 q740 hyX6_need (HI.cell (ci := 5) hX hM (by decide) ez) hlX6_need rfl dX6_holdOne_27
            · exact ci_V (C := "RugReader$SentenceReader") (As := [.int 1, .int 3]) (rest := []) S q819 q739 q2328 q740 hyX6_need (HI.cell (ci := 6) hX hM (by decide) ez) hlX6_need rfl dX6_holdOne_27) q740 q112 (Nat.le_of_ble_eq_true rfl) (Nat.le_of_ble_eq_true rfl) hl.1 (Nat.le_of_ble_eq_true rfl) (fun w6 ew6 H locs cs ss hM => ?_) (fun b6 eb6 H locs cs ss hM => ?_)
      · have hF := thr_r hF ew6
        refine lv_iload_n hx hb dX6_holdOne_30 rfl (lv_at hl 0 rfl) ?_
        have hz := (Option.some.inj hF)
        subst hz
        exact cri S hM hr hlocks dX6_holdOne_31
      · have hF := thr_q hF eb6
        have hz := (Option.some.inj hF)
        subst hz
        exact cxout hM (fun x hx => (hnt x hx).elim) hlocks
  · have hF := thr_q hF eb2
    have hz := (Option.some.inj hF)
    subst hz
    exact cxout hM (fun x hx => (hnt x hx).elim) hlocks
def fX12_judge (F : Nat) (h0 : HS) (x0 : Nat) (x1 : Int32) : Option (HS) := ((pI h0 x0 6 6 10 x1).bind fun σ1 => ((oI σ1 x0 6 6 12).bind fun v2 => ((pI σ1 x0 6 6 11 v2).bind fun σ3 => some σ3)))
theorem hyX12_judge : yX12_judge.cls ≠ "java/lang/invoke/MethodHandle" ∧ yX12_judge.cls ≠ "java/lang/invoke/VarHandle" := by decide +kernel
theorem hlX12_judge : (parseMethodDescriptor yX12_judge.desc).map (fun d => d.parameters.length) = some 1 := by decide +kernel
set_option maxHeartbeats 4000000 in
set_option maxRecDepth 100000 in
theorem metX12_judge (l : Launch) [NoTr l] (F : Nat) (D : va_G) (h0 : HS) (x0 : Nat) (x1 : Int32) (r : HS) (hF : fX12_judge F h0 x0 x1 = some r) : CMet l yX12_judge (ws_ yX12_judge cX12_judge 2 none) 0 0 D [.ref x0, .int x1] h0 r (.inr none) := by
  refine CMet.ofW (by decide) ?_
  intro p e s m below meth c s₁ B S hX hM hr hlocks hnt hin
  obtain ⟨hx, hb, hml, hown, hts⟩ := id S
  have hl := lv_entry ([.ref x0, .int x1]) (n := 2) (Nat.le_of_ble_eq_true rfl)
  rw [lg_entry_eq]
  generalize (lg_sl ([.ref x0, .int x1]) ++ List.replicate (2 - (lg_sl ([.ref x0, .int x1])).length) Slot.unset).toArray = ls at hl ⊢
  have hl : lv_has ls 2 [(0, .ref x0), (1, .int x1)] := hl
  unfold fX12_judge at hF
  refine lv_aload_n hx hb dX12_judge_0 rfl (lv_at hl 0 rfl) ?_
  refine lv_iload_n hx hb dX12_judge_1 rfl (lv_at hl 1 rfl) ?_
  obtain ⟨σ1, eσ1, hF⟩ := obn hF
  refine cpi S hX hM eσ1 ck_6_6_10 cw_6_6_10 rfl rfl q1330 (fun _ h => h) dX12_judge_2 (fun H locs hM => ?_)
  refine lv_aload_n hx hb dX12_judge_5 rfl (lv_at hl 0 rfl) ?_
  refine lv_aload_n hx hb dX12_judge_6 rfl (lv_at hl 0 rfl) ?_
  obtain ⟨v2, ev2, hF⟩ := obn hF
  refine cgi S hX hM ev2 ck_6_6_12 q1334 (fun _ h => h) dX12_judge_7 ?_
  obtain ⟨σ3, eσ3, hF⟩ := obn hF
  refine cpi S hX hM eσ3 ck_6_6_11 cw_6_6_11 rfl rfl q1332 (fun _ h => h) dX12_judge_10 (fun H locs hM => ?_)
  have hz := (Option.some.inj hF)
  subst hz
  exact crv S hM hr hlocks dX12_judge_13
def lX12_goes_9 (F : Nat) (σ : HS) : Nat → Nat → Nat → Int32 → Int32 → Int32 → Int32 → Int32 → Option (Int32)
  | 0, _, _, _, _, _, _, _ => none
  | n + 1, y0, y1, y2, y3, y4, y5, y6 => (if y3 ≤ y6 then (some y5) else (if y5 = (-1) then (some y5) else ((fR σ y0 6 6 9).bind fun a4 => gT σ a4 2 2 (((fX2_open F σ a4 y5 y2).bind fun r5 => lX12_goes_9 F σ n y0 y1 y2 y3 y4 r5 (y6 + 1))))))
def fX12_goes (F : Nat) (h0 : HS) (x0 : Nat) (x1 : Nat) (x2 : Int32) (x3 : Int32) (x4 : Int32) : Option (HS) := ((oI h0 x0 6 6 13).bind fun v1 => ((lX12_goes_9 F h0 F x0 x1 x2 x3 x4 v1 0).bind fun q6 => (if q6 = (-1) then (gT h0 x0 6 6 (((fX12_judge F h0 x0 1).bind fun r50 => ((oI r50 x0 6 6 10).bind fun v51 => (if v51 = 0 then ((pI r50 x0 6 6 13 q6).bind fun σ53 => ((oI σ53 x0 6 6 14).bind fun v54 => ((pI σ53 x0 6 6 14 (v54 + x3)).bind fun σ55 => ((oI σ55 x0 6 6 15).bind fun v56 => ((pI σ55 x0 6 6 15 (v56 + x4)).bind fun σ57 => ((pI σ57 x0 6 6 16 x2).bind fun σ58 => some σ58)))))) else (some r50)))))) else ((oI h0 x1 9 9 3).bind fun v8 => (if x3 ≤ (v8 * x4) then ((oI h0 x0 6 6 16).bind fun v10 => ((if v10 = (-1) then (some true) else ((oI h0 x0 6 6 16).bind fun v13 => (if x2 = (irm (v13 + 2) 4) then (some false) else (some true)))).bind fun q11 => (if q11 = true then ((oI h0 x0 6 6 10).bind fun v15 => (if v15 = 0 then ((pI h0 x0 6 6 13 q6).bind fun σ17 => ((oI σ17 x0 6 6 14).bind fun v18 => ((pI σ17 x0 6 6 14 (v18 + x3)).bind fun σ19 => ((oI σ19 x0 6 6 15).bind fun v20 => ((pI σ19 x0 6 6 15 (v20 + x4)).bind fun σ21 => ((pI σ21 x0 6 6 16 x2).bind fun σ22 => some σ22)))))) else (some h0))) else (if x4 = 1 then (gT h0 x0 6 6 (((fX12_judge F h0 x0 3).bind fun r32 => ((oI r32 x0 6 6 10).bind fun v33 => (if v33 = 0 then ((pI r32 x0 6 6 13 q6).bind fun σ35 => ((oI σ35 x0 6 6 14).bind fun v36 => ((pI σ35 x0 6 6 14 (v36 + x3)).bind fun σ37 => ((oI σ37 x0 6 6 15).bind fun v38 => ((pI σ37 x0 6 6 15 (v38 + x4)).bind fun σ39 => ((pI σ39 x0 6 6 16 x2).bind fun σ40 => some σ40)))))) else (some r32)))))) else ((oI h0 x0 6 6 10).bind fun v24 => (if v24 = 0 then ((pI h0 x0 6 6 13 q6).bind fun σ26 => ((oI σ26 x0 6 6 14).bind fun v27 => ((pI σ26 x0 6 6 14 (v27 + x3)).bind fun σ28 => ((oI σ28 x0 6 6 15).bind fun v29 => ((pI σ28 x0 6 6 15 (v29 + x4)).bind fun σ30 => ((pI σ30 x0 6 6 16 x2).bind fun σ31 => some σ31)))))) else (some h0))))))) else (gT h0 x0 6 6 (((fX12_judge F h0 x0 2).bind fun r41 => ((oI r41 x0 6 6 10).bind fun v42 => (if v42 = 0 then ((pI r41 x0 6 6 13 q6).bind fun σ44 => ((oI σ44 x0 6 6 14).bind fun v45 => ((pI σ44 x0 6 6 14 (v45 + x3)).bind fun σ46 => ((oI σ46 x0 6 6 15).bind fun v47 => ((pI σ46 x0 6 6 15 (v47 + x4)).bind fun σ48 => ((pI σ48 x0 6 6 16 x2).bind fun σ49 => some σ49)))))) else (some r41)))))))))))
theorem hyX12_goes : yX12_goes.cls ≠ "java/lang/invoke/MethodHandle" ∧ yX12_goes.cls ≠ "java/lang/invoke/VarHandle" := by decide +kernel
theorem hlX12_goes : (parseMethodDescriptor yX12_goes.desc).map (fun d => d.parameters.length) = some 4 := by decide +kernel
set_option maxHeartbeats 4000000 in
set_option maxRecDepth 100000 in
theorem wlX12_goes_9 {p : Program} {l : Launch} [NoTr l] {e : Env} {s : State} {m : MethodId} {args : Array Value} {below : List Frame} {meth : Method} {c : Code} {D : va_G} {h0 : HS} (S : CallFix p m c cX12_goes 7 s args lw_all RX12) (hX : CX D (kG h0) s) (σ : HS) (F : Nat) {Q : State → Prop} : ∀ (n : Nat) (y0 : Nat) (y1 : Nat) (y2 : Int32) (y3 : Int32) (y4 : Int32) (y5 : Int32) (y6 : Int32) (out : Int32), lX12_goes_9 F σ n y0 y1 y2 y3 y4 y5 y6 = some out → (∀ (H : Heap) (locs : List Loc) (cs ss : Nat) (ls : Array Slot), HI D h0 σ s.heap H locs cs ss → lv_has ls 7 [(0, .ref y0), (1, .ref y1), (2, .int y2), (3, .int y3), (4, .int y4), (5, .int out)] → W p l e (cR 4 91 h0) s m args below meth c H locs cs ss Q (F0 m 39 ls [])) → ∀ (H : Heap) (locs : List Loc) (cs ss : Nat) (ls : Array Slot), HI D h0 σ s.heap H locs cs ss → lv_has ls 7 [(0, .ref y0), (1, .ref y1), (2, .int y2), (3, .int y3), (4, .int y4), (5, .int y5), (6, .int y6)] → W p l e (cR 4 91 h0) s m args below meth c H locs cs ss Q (F0 m 9 ls []) := by
  intro n
  induction n with
  | zero =>
    intro y0 y1 y2 y3 y4 y5 y6 out hF
    cases (show (none : Option _) = some out from hF)
  | succ n ih =>
    intro y0 y1 y2 y3 y4 y5 y6 out hF hk H locs cs ss ls hM hl
    rw [lX12_goes_9] at hF
    obtain ⟨hx, hb, hml, hown, hts⟩ := id S
    refine lv_iload hx hb dX12_goes_9 (lv_at hl 6 rfl) ?_
    refine lv_iload_n hx hb dX12_goes_11 rfl (lv_at hl 3 rfl) ?_
    refine lv_icmp_ge (tgt := 39) hx hb dX12_goes_12 (by decide) (fun c2 => ?_) (fun c2 => ?_)
    · have hF := ifp hF c2
      cases hF
      exact hk _ _ _ _ _ hM (lv_sub hl [0, 1, 2, 3, 4, 5] rfl)
    · have hF := ifn hF c2
      refine lv_iload hx hb dX12_goes_15 (lv_at hl 5 rfl) ?_
      refine lv_iconst (v := (-1)) hx hb dX12_goes_17 rfl ?_
      refine lv_icmp_eq (tgt := 39) hx hb dX12_goes_18 (by decide) (fun c3 => ?_) (fun c3 => ?_)
      · have hF := ifp hF c3
        cases hF
        exact hk _ _ _ _ _ hM (lv_sub hl [0, 1, 2, 3, 4, 5] rfl)
      · have hF := ifn hF c3
        refine lv_aload_n hx hb dX12_goes_21 rfl (lv_at hl 0 rfl) ?_
        obtain ⟨a4, ea4, hF⟩ := obn hF
        refine cgn S hX hM ea4 ck_6_6_9 q1329 (fun _ h => h) dX12_goes_22 ?_
        refine lv_iload hx hb dX12_goes_25 (lv_at hl 5 rfl) ?_
        refine lv_iload_n hx hb dX12_goes_27 rfl (lv_at hl 2 rfl) ?_
        obtain ⟨z5, hF⟩ := gTe hF
        obtain ⟨r5, er5, hF⟩ := obn hF
        refine ccr (rest := []) (st1 := [.int r5]) S hX hM (metX2_open l F D σ a4 y5 y2 r5 er5) (ci_V (C := "RugReader$House") (As := [.int y5, .int y2]) (rest := []) S q1408 q1106 q1107 q1108 hyX2_open (HI.cell (ci := 1) hX hM (by decide) (by omega)) hlX2_open rfl dX12_goes_28) q1108 q104 (Nat.le_of_ble_eq_true rfl) (Nat.le_of_ble_eq_true rfl) hl.1 (Nat.le_of_ble_eq_true rfl) rfl (fun H locs cs ss hM => ?_)
        refine lv_istore (lv' := [(5, .int r5), (0, .ref y0), (1, .ref y1), (2, .int y2), (3, .int y3), (4, .int y4), (6, .int y6)]) hx hb dX12_goes_31 hl (by decide) rfl (fun ls hl => ?_)
        refine lv_iinc (v := y6 + 1) (lv' := [(6, .int (y6 + 1)), (5, .int r5), (0, .ref y0), (1, .ref y1), (2, .int y2), (3, .int y3), (4, .int y4)]) hx hb dX12_goes_33 hl (k := 6) rfl rfl (by decide) rfl (fun ls hl => ?_)
        refine lv_goto (tgt := 9) hx hb dX12_goes_36 (by decide) ?_
        exact ih _ _ _ _ _ _ _ out hF hk _ _ _ _ _ hM (lv_sub hl [2, 3, 4, 5, 6, 1, 0] rfl)
set_option maxHeartbeats 4000000 in
set_option maxRecDepth 100000 in
theorem metX12_goes (l : Launch) [NoTr l] (F : Nat) (D : va_G) (h0 : HS) (x0 : Nat) (x1 : Nat) (x2 : Int32) (x3 : Int32) (x4 : Int32) (r : HS) (hF : fX12_goes F h0 x0 x1 x2 x3 x4 = some r) : CMet l yX12_goes (ws_ yX12_goes cX12_goes 7 none) 4 91 D [.ref x0, .ref x1, .int x2, .int x3, .int x4] h0 r (.inr none) := by
  refine CMet.ofW (by decide) ?_
  intro p e s m below meth c s₁ B S hX hM hr hlocks hnt hin
  obtain ⟨hx, hb, hml, hown, hts⟩ := id S
  have hl := lv_entry ([.ref x0, .ref x1, .int x2, .int x3, .int x4]) (n := 7) (Nat.le_of_ble_eq_true rfl)
  rw [lg_entry_eq]
  generalize (lg_sl ([.ref x0, .ref x1, .int x2, .int x3, .int x4]) ++ List.replicate (7 - (lg_sl ([.ref x0, .ref x1, .int x2, .int x3, .int x4])).length) Slot.unset).toArray = ls at hl ⊢
  have hl : lv_has ls 7 [(0, .ref x0), (1, .ref x1), (2, .int x2), (3, .int x3), (4, .int x4)] := hl
  unfold fX12_goes at hF
  refine lv_aload_n hx hb dX12_goes_0 rfl (lv_at hl 0 rfl) ?_
  obtain ⟨v1, ev1, hF⟩ := obn hF
  refine cgi S hX hM ev1 ck_6_6_13 q1335 (fun _ h => h) dX12_goes_1 ?_
  refine lv_istore (lv' := [(5, .int v1), (0, .ref x0), (1, .ref x1), (2, .int x2), (3, .int x3), (4, .int x4)]) hx hb dX12_goes_4 hl (by decide) rfl (fun ls hl => ?_)
  refine lv_iconst (v := 0) hx hb dX12_goes_6 rfl ?_
  refine lv_istore (lv' := [(6, .int 0), (5, .int v1), (0, .ref x0), (1, .ref x1), (2, .int x2), (3, .int x3), (4, .int x4)]) hx hb dX12_goes_7 hl (by decide) rfl (fun ls hl => ?_)
  obtain ⟨q6, hq6, hF⟩ := obn hF
  refine wlX12_goes_9 S hX _ F  F _ _ _ _ _ _ _ q6 hq6 (fun H locs cs ss ls hM hl => ?_) _ _ _ _ _ hM (lv_sub hl [2, 3, 4, 5, 6, 1, 0] rfl)
  refine lv_iload hx hb dX12_goes_39 (lv_at hl 5 rfl) ?_
  refine lv_iconst (v := (-1)) hx hb dX12_goes_41 rfl ?_
  refine lv_icmp_ne (tgt := 53) hx hb dX12_goes_42 (by decide) (fun c7 => ?_) (fun c7 => ?_)
  · have hF := ifn hF c7
    refine lv_iload_n hx hb dX12_goes_53 rfl (lv_at hl 3 rfl) ?_
    refine lv_aload_n hx hb dX12_goes_54 rfl (lv_at hl 1 rfl) ?_
    obtain ⟨v8, ev8, hF⟩ := obn hF
    refine cgiN S hX hM ev8 ck_9_9_3 (uq956 hX) dX12_goes_55 ?_
    refine lv_iload hx hb dX12_goes_58 (lv_at hl 4 rfl) ?_
    refine lv_imul hx hb dX12_goes_60 ?_
    refine lv_icmp_le (tgt := 72) hx hb dX12_goes_61 (by decide) (fun c9 => ?_) (fun c9 => ?_)
    · have hF := ifp hF c9
      refine lv_aload_n hx hb dX12_goes_72 rfl (lv_at hl 0 rfl) ?_
      obtain ⟨v10, ev10, hF⟩ := obn hF
      refine cgi S hX hM ev10 ck_6_6_16 q1341 (fun _ h => h) dX12_goes_73 ?_
      refine lv_iconst (v := (-1)) hx hb dX12_goes_76 rfl ?_
      obtain ⟨q11, hq11, hF⟩ := obn hF
      refine cjnc (C := q11 = true) (I := HI D h0 h0 s.heap) (nJ := 7) (lvJ := [(0, .ref x0), (2, .int x2), (3, .int x3), (4, .int x4), (5, .int q6)]) (J := 103) (stJ := []) ?_ ?_
      · intro cq11 H locs cs ss ls hM hl
        have hF := ifp hF cq11
        refine lv_aload_n hx hb dX12_goes_103 rfl (lv_at hl 0 rfl) ?_
        obtain ⟨v15, ev15, hF⟩ := obn hF
        refine cgi S hX hM ev15 ck_6_6_10 q1330 (fun _ h => h) dX12_goes_104 ?_
        refine lv_if_eq (tgt := 111) hx hb dX12_goes_107 (by decide) (fun c16 => ?_) (fun c16 => ?_)
        · have hF := ifp hF c16
          refine lv_aload_n hx hb dX12_goes_111 rfl (lv_at hl 0 rfl) ?_
          refine lv_iload hx hb dX12_goes_112 (lv_at hl 4 rfl) ?_
          obtain ⟨σ17, eσ17, hF⟩ := obn hF
          refine cpi S hX hM eσ17 ck_6_6_13 cw_6_6_13 rfl rfl q1335 (fun _ h => h) dX12_goes_114 (fun H locs hM => ?_)
          refine lv_aload_n hx hb dX12_goes_117 rfl (lv_at hl 0 rfl) ?_
          refine lv_dup hx hb dX12_goes_118 rfl ?_
          obtain ⟨v18, ev18, hF⟩ := obn hF
          refine cgi S hX hM ev18 ck_6_6_14 q1337 (fun _ h => h) dX12_goes_119 ?_
          refine lv_iload_n hx hb dX12_goes_122 rfl (lv_at hl 2 rfl) ?_
          refine lv_iadd hx hb dX12_goes_123 ?_
          obtain ⟨σ19, eσ19, hF⟩ := obn hF
          refine cpi S hX hM eσ19 ck_6_6_14 cw_6_6_14 rfl rfl q1337 (fun _ h => h) dX12_goes_124 (fun H locs hM => ?_)
          refine lv_aload_n hx hb dX12_goes_127 rfl (lv_at hl 0 rfl) ?_
          refine lv_dup hx hb dX12_goes_128 rfl ?_
          obtain ⟨v20, ev20, hF⟩ := obn hF
          refine cgi S hX hM ev20 ck_6_6_15 q1339 (fun _ h => h) dX12_goes_129 ?_
          refine lv_iload hx hb dX12_goes_132 (lv_at hl 3 rfl) ?_
          refine lv_iadd hx hb dX12_goes_134 ?_
          obtain ⟨σ21, eσ21, hF⟩ := obn hF
          refine cpi S hX hM eσ21 ck_6_6_15 cw_6_6_15 rfl rfl q1339 (fun _ h => h) dX12_goes_135 (fun H locs hM => ?_)
          refine lv_aload_n hx hb dX12_goes_138 rfl (lv_at hl 0 rfl) ?_
          refine lv_iload_n hx hb dX12_goes_139 rfl (lv_at hl 1 rfl) ?_
          obtain ⟨σ22, eσ22, hF⟩ := obn hF
          refine cpi S hX hM eσ22 ck_6_6_16 cw_6_6_16 rfl rfl q1341 (fun _ h => h) dX12_goes_140 (fun H locs hM => ?_)
          have hz := (Option.some.inj hF)
          subst hz
          exact crv S hM hr hlocks dX12_goes_143
        · have hF := ifn hF c16
          have hz := (Option.some.inj hF)
          subst hz
          exact crv S hM hr hlocks dX12_goes_110
      · intro hAq11
        refine cjnc (C := q11 = false) (I := HI D h0 h0 s.heap) (nJ := 7) (lvJ := [(0, .ref x0), (2, .int x2), (3, .int x3), (4, .int x4), (5, .int q6)]) (J := 92) (stJ := []) ?_ ?_
        · intro cq11 H locs cs ss ls hM hl
          have hF := ifn hF (by rw [cq11]; decide)
          refine lv_iload hx hb dX12_goes_92 (lv_at hl 3 rfl) ?_
          refine lv_iconst (v := 1) hx hb dX12_goes_94 rfl ?_
          refine lv_icmp_ne (tgt := 103) hx hb dX12_goes_95 (by decide) (fun c23 => ?_) (fun c23 => ?_)
          · have hF := ifn hF c23
            refine lv_aload_n hx hb dX12_goes_103 rfl (lv_at hl 0 rfl) ?_
            obtain ⟨v24, ev24, hF⟩ := obn hF
            refine cgi S hX hM ev24 ck_6_6_10 q1330 (fun _ h => h) dX12_goes_104 ?_
            refine lv_if_eq (tgt := 111) hx hb dX12_goes_107 (by decide) (fun c25 => ?_) (fun c25 => ?_)
            · have hF := ifp hF c25
              refine lv_aload_n hx hb dX12_goes_111 rfl (lv_at hl 0 rfl) ?_
              refine lv_iload hx hb dX12_goes_112 (lv_at hl 4 rfl) ?_
              obtain ⟨σ26, eσ26, hF⟩ := obn hF
              refine cpi S hX hM eσ26 ck_6_6_13 cw_6_6_13 rfl rfl q1335 (fun _ h => h) dX12_goes_114 (fun H locs hM => ?_)
              refine lv_aload_n hx hb dX12_goes_117 rfl (lv_at hl 0 rfl) ?_
              refine lv_dup hx hb dX12_goes_118 rfl ?_
              obtain ⟨v27, ev27, hF⟩ := obn hF
              refine cgi S hX hM ev27 ck_6_6_14 q1337 (fun _ h => h) dX12_goes_119 ?_
              refine lv_iload_n hx hb dX12_goes_122 rfl (lv_at hl 2 rfl) ?_
              refine lv_iadd hx hb dX12_goes_123 ?_
              obtain ⟨σ28, eσ28, hF⟩ := obn hF
              refine cpi S hX hM eσ28 ck_6_6_14 cw_6_6_14 rfl rfl q1337 (fun _ h => h) dX12_goes_124 (fun H locs hM => ?_)
              refine lv_aload_n hx hb dX12_goes_127 rfl (lv_at hl 0 rfl) ?_
              refine lv_dup hx hb dX12_goes_128 rfl ?_
              obtain ⟨v29, ev29, hF⟩ := obn hF
              refine cgi S hX hM ev29 ck_6_6_15 q1339 (fun _ h => h) dX12_goes_129 ?_
              refine lv_iload hx hb dX12_goes_132 (lv_at hl 3 rfl) ?_
              refine lv_iadd hx hb dX12_goes_134 ?_
              obtain ⟨σ30, eσ30, hF⟩ := obn hF
              refine cpi S hX hM eσ30 ck_6_6_15 cw_6_6_15 rfl rfl q1339 (fun _ h => h) dX12_goes_135 (fun H locs hM => ?_)
              refine lv_aload_n hx hb dX12_goes_138 rfl (lv_at hl 0 rfl) ?_
              refine lv_iload_n hx hb dX12_goes_139 rfl (lv_at hl 1 rfl) ?_
              obtain ⟨σ31, eσ31, hF⟩ := obn hF
              refine cpi S hX hM eσ31 ck_6_6_16 cw_6_6_16 rfl rfl q1341 (fun _ h => h) dX12_goes_140 (fun H locs hM => ?_)
              have hz := (Option.some.inj hF)
              subst hz
              exact crv S hM hr hlocks dX12_goes_143
            · have hF := ifn hF c25
              have hz := (Option.some.inj hF)
              subst hz
              exact crv S hM hr hlocks dX12_goes_110
          · have hF := ifp hF c23
            refine lv_aload_n hx hb dX12_goes_98 rfl (lv_at hl 0 rfl) ?_
            refine lv_iconst (v := 3) hx hb dX12_goes_99 rfl ?_
            obtain ⟨z32, hF⟩ := gTe hF
            obtain ⟨r32, er32, hF⟩ := obn hF
            refine ccr (rest := []) (st1 := []) S hX hM (metX12_judge l F D h0 x0 3 r32 er32) (ci_V (C := "RugReader$WalkReader") (As := [.int 3]) (rest := []) S q1391 q1393 qs28 q1394 hyX12_judge (HI.cell (ci := 5) hX hM (by decide) (by omega)) hlX12_judge rfl dX12_goes_100) q1394 q135 (Nat.le_of_ble_eq_true rfl) (Nat.le_of_ble_eq_true rfl) hl.1 (Nat.le_of_ble_eq_true rfl) rfl (fun H locs cs ss hM => ?_)
            refine lv_aload_n hx hb dX12_goes_103 rfl (lv_at hl 0 rfl) ?_
            obtain ⟨v33, ev33, hF⟩ := obn hF
            refine cgi S hX hM ev33 ck_6_6_10 q1330 (fun _ h => h) dX12_goes_104 ?_
            refine lv_if_eq (tgt := 111) hx hb dX12_goes_107 (by decide) (fun c34 => ?_) (fun c34 => ?_)
            · have hF := ifp hF c34
              refine lv_aload_n hx hb dX12_goes_111 rfl (lv_at hl 0 rfl) ?_
              refine lv_iload hx hb dX12_goes_112 (lv_at hl 4 rfl) ?_
              obtain ⟨σ35, eσ35, hF⟩ := obn hF
              refine cpi S hX hM eσ35 ck_6_6_13 cw_6_6_13 rfl rfl q1335 (fun _ h => h) dX12_goes_114 (fun H locs hM => ?_)
              refine lv_aload_n hx hb dX12_goes_117 rfl (lv_at hl 0 rfl) ?_
              refine lv_dup hx hb dX12_goes_118 rfl ?_
              obtain ⟨v36, ev36, hF⟩ := obn hF
              refine cgi S hX hM ev36 ck_6_6_14 q1337 (fun _ h => h) dX12_goes_119 ?_
              refine lv_iload_n hx hb dX12_goes_122 rfl (lv_at hl 2 rfl) ?_
              refine lv_iadd hx hb dX12_goes_123 ?_
              obtain ⟨σ37, eσ37, hF⟩ := obn hF
              refine cpi S hX hM eσ37 ck_6_6_14 cw_6_6_14 rfl rfl q1337 (fun _ h => h) dX12_goes_124 (fun H locs hM => ?_)
              refine lv_aload_n hx hb dX12_goes_127 rfl (lv_at hl 0 rfl) ?_
              refine lv_dup hx hb dX12_goes_128 rfl ?_
              obtain ⟨v38, ev38, hF⟩ := obn hF
              refine cgi S hX hM ev38 ck_6_6_15 q1339 (fun _ h => h) dX12_goes_129 ?_
              refine lv_iload hx hb dX12_goes_132 (lv_at hl 3 rfl) ?_
              refine lv_iadd hx hb dX12_goes_134 ?_
              obtain ⟨σ39, eσ39, hF⟩ := obn hF
              refine cpi S hX hM eσ39 ck_6_6_15 cw_6_6_15 rfl rfl q1339 (fun _ h => h) dX12_goes_135 (fun H locs hM => ?_)
              refine lv_aload_n hx hb dX12_goes_138 rfl (lv_at hl 0 rfl) ?_
              refine lv_iload_n hx hb dX12_goes_139 rfl (lv_at hl 1 rfl) ?_
              obtain ⟨σ40, eσ40, hF⟩ := obn hF
              refine cpi S hX hM eσ40 ck_6_6_16 cw_6_6_16 rfl rfl q1341 (fun _ h => h) dX12_goes_140 (fun H locs hM => ?_)
              have hz := (Option.some.inj hF)
              subst hz
              exact crv S hM hr hlocks dX12_goes_143
            · have hF := ifn hF c34
              have hz := (Option.some.inj hF)
              subst hz
              exact crv S hM hr hlocks dX12_goes_110
        · intro hBq11
          refine lv_icmp_eq (tgt := 103) hx hb dX12_goes_77 (by decide) (fun c12 => ?_) (fun c12 => ?_)
          · have hq11 := ifp hq11 c12
            cases hq11
            exact hAq11 rfl _ _ _ _ _ hM (lv_sub hl [0, 2, 3, 4, 5] rfl)
          · have hq11 := ifn hq11 c12
            refine lv_iload_n hx hb dX12_goes_80 rfl (lv_at hl 2 rfl) ?_
            refine lv_aload_n hx hb dX12_goes_81 rfl (lv_at hl 0 rfl) ?_
            obtain ⟨v13, ev13, hq11⟩ := obn hq11
            refine cgi S hX hM ev13 ck_6_6_16 q1341 (fun _ h => h) dX12_goes_82 ?_
            refine lv_iconst (v := 2) hx hb dX12_goes_85 rfl ?_
            refine lv_iadd hx hb dX12_goes_86 ?_
            refine lv_iconst (v := 4) hx hb dX12_goes_87 rfl ?_
            refine lv_irem hx hb dX12_goes_88 (by decide) ?_
            refine lv_icmp_ne (tgt := 103) hx hb dX12_goes_89 (by decide) (fun c14 => ?_) (fun c14 => ?_)
            · have hq11 := ifn hq11 c14
              cases hq11
              exact hAq11 rfl _ _ _ _ _ hM (lv_sub hl [0, 2, 3, 4, 5] rfl)
            · have hq11 := ifp hq11 c14
              cases hq11
              exact hBq11 rfl _ _ _ _ _ hM (lv_sub hl [0, 2, 3, 4, 5] rfl)
    · have hF := ifn hF c9
      refine lv_aload_n hx hb dX12_goes_64 rfl (lv_at hl 0 rfl) ?_
      refine lv_iconst (v := 2) hx hb dX12_goes_65 rfl ?_
      obtain ⟨z41, hF⟩ := gTe hF
      obtain ⟨r41, er41, hF⟩ := obn hF
      refine ccr (rest := []) (st1 := []) S hX hM (metX12_judge l F D h0 x0 2 r41 er41) (ci_V (C := "RugReader$WalkReader") (As := [.int 2]) (rest := []) S q1391 q1393 qs28 q1394 hyX12_judge (HI.cell (ci := 5) hX hM (by decide) (by omega)) hlX12_judge rfl dX12_goes_66) q1394 q135 (Nat.le_of_ble_eq_true rfl) (Nat.le_of_ble_eq_true rfl) hl.1 (Nat.le_of_ble_eq_true rfl) rfl (fun H locs cs ss hM => ?_)
      refine lv_goto (tgt := 103) hx hb dX12_goes_69 (by decide) ?_
      refine lv_aload_n hx hb dX12_goes_103 rfl (lv_at hl 0 rfl) ?_
      obtain ⟨v42, ev42, hF⟩ := obn hF
      refine cgi S hX hM ev42 ck_6_6_10 q1330 (fun _ h => h) dX12_goes_104 ?_
      refine lv_if_eq (tgt := 111) hx hb dX12_goes_107 (by decide) (fun c43 => ?_) (fun c43 => ?_)
      · have hF := ifp hF c43
        refine lv_aload_n hx hb dX12_goes_111 rfl (lv_at hl 0 rfl) ?_
        refine lv_iload hx hb dX12_goes_112 (lv_at hl 5 rfl) ?_
        obtain ⟨σ44, eσ44, hF⟩ := obn hF
        refine cpi S hX hM eσ44 ck_6_6_13 cw_6_6_13 rfl rfl q1335 (fun _ h => h) dX12_goes_114 (fun H locs hM => ?_)
        refine lv_aload_n hx hb dX12_goes_117 rfl (lv_at hl 0 rfl) ?_
        refine lv_dup hx hb dX12_goes_118 rfl ?_
        obtain ⟨v45, ev45, hF⟩ := obn hF
        refine cgi S hX hM ev45 ck_6_6_14 q1337 (fun _ h => h) dX12_goes_119 ?_
        refine lv_iload_n hx hb dX12_goes_122 rfl (lv_at hl 3 rfl) ?_
        refine lv_iadd hx hb dX12_goes_123 ?_
        obtain ⟨σ46, eσ46, hF⟩ := obn hF
        refine cpi S hX hM eσ46 ck_6_6_14 cw_6_6_14 rfl rfl q1337 (fun _ h => h) dX12_goes_124 (fun H locs hM => ?_)
        refine lv_aload_n hx hb dX12_goes_127 rfl (lv_at hl 0 rfl) ?_
        refine lv_dup hx hb dX12_goes_128 rfl ?_
        obtain ⟨v47, ev47, hF⟩ := obn hF
        refine cgi S hX hM ev47 ck_6_6_15 q1339 (fun _ h => h) dX12_goes_129 ?_
        refine lv_iload hx hb dX12_goes_132 (lv_at hl 4 rfl) ?_
        refine lv_iadd hx hb dX12_goes_134 ?_
        obtain ⟨σ48, eσ48, hF⟩ := obn hF
        refine cpi S hX hM eσ48 ck_6_6_15 cw_6_6_15 rfl rfl q1339 (fun _ h => h) dX12_goes_135 (fun H locs hM => ?_)
        refine lv_aload_n hx hb dX12_goes_138 rfl (lv_at hl 0 rfl) ?_
        refine lv_iload_n hx hb dX12_goes_139 rfl (lv_at hl 2 rfl) ?_
        obtain ⟨σ49, eσ49, hF⟩ := obn hF
        refine cpi S hX hM eσ49 ck_6_6_16 cw_6_6_16 rfl rfl q1341 (fun _ h => h) dX12_goes_140 (fun H locs hM => ?_)
        have hz := (Option.some.inj hF)
        subst hz
        exact crv S hM hr hlocks dX12_goes_143
      · have hF := ifn hF c43
        have hz := (Option.some.inj hF)
        subst hz
        exact crv S hM hr hlocks dX12_goes_110
  · have hF := ifp hF c7
    refine lv_aload_n hx hb dX12_goes_45 rfl (lv_at hl 0 rfl) ?_
    refine lv_iconst (v := 1) hx hb dX12_goes_46 rfl ?_
    obtain ⟨z50, hF⟩ := gTe hF
    obtain ⟨r50, er50, hF⟩ := obn hF
    refine ccr (rest := []) (st1 := []) S hX hM (metX12_judge l F D h0 x0 1 r50 er50) (ci_V (C := "RugReader$WalkReader") (As := [.int 1]) (rest := []) S q1391 q1393 qs28 q1394 hyX12_judge (HI.cell (ci := 5) hX hM (by decide) (by omega)) hlX12_judge rfl dX12_goes_47) q1394 q135 (Nat.le_of_ble_eq_true rfl) (Nat.le_of_ble_eq_true rfl) hl.1 (Nat.le_of_ble_eq_true rfl) rfl (fun H locs cs ss hM => ?_)
    refine lv_goto (tgt := 103) hx hb dX12_goes_50 (by decide) ?_
    refine lv_aload_n hx hb dX12_goes_103 rfl (lv_at hl 0 rfl) ?_
    obtain ⟨v51, ev51, hF⟩ := obn hF
    refine cgi S hX hM ev51 ck_6_6_10 q1330 (fun _ h => h) dX12_goes_104 ?_
    refine lv_if_eq (tgt := 111) hx hb dX12_goes_107 (by decide) (fun c52 => ?_) (fun c52 => ?_)
    · have hF := ifp hF c52
      refine lv_aload_n hx hb dX12_goes_111 rfl (lv_at hl 0 rfl) ?_
      refine lv_iload hx hb dX12_goes_112 (lv_at hl 5 rfl) ?_
      obtain ⟨σ53, eσ53, hF⟩ := obn hF
      refine cpi S hX hM eσ53 ck_6_6_13 cw_6_6_13 rfl rfl q1335 (fun _ h => h) dX12_goes_114 (fun H locs hM => ?_)
      refine lv_aload_n hx hb dX12_goes_117 rfl (lv_at hl 0 rfl) ?_
      refine lv_dup hx hb dX12_goes_118 rfl ?_
      obtain ⟨v54, ev54, hF⟩ := obn hF
      refine cgi S hX hM ev54 ck_6_6_14 q1337 (fun _ h => h) dX12_goes_119 ?_
      refine lv_iload_n hx hb dX12_goes_122 rfl (lv_at hl 3 rfl) ?_
      refine lv_iadd hx hb dX12_goes_123 ?_
      obtain ⟨σ55, eσ55, hF⟩ := obn hF
      refine cpi S hX hM eσ55 ck_6_6_14 cw_6_6_14 rfl rfl q1337 (fun _ h => h) dX12_goes_124 (fun H locs hM => ?_)
      refine lv_aload_n hx hb dX12_goes_127 rfl (lv_at hl 0 rfl) ?_
      refine lv_dup hx hb dX12_goes_128 rfl ?_
      obtain ⟨v56, ev56, hF⟩ := obn hF
      refine cgi S hX hM ev56 ck_6_6_15 q1339 (fun _ h => h) dX12_goes_129 ?_
      refine lv_iload hx hb dX12_goes_132 (lv_at hl 4 rfl) ?_
      refine lv_iadd hx hb dX12_goes_134 ?_
      obtain ⟨σ57, eσ57, hF⟩ := obn hF
      refine cpi S hX hM eσ57 ck_6_6_15 cw_6_6_15 rfl rfl q1339 (fun _ h => h) dX12_goes_135 (fun H locs hM => ?_)
      refine lv_aload_n hx hb dX12_goes_138 rfl (lv_at hl 0 rfl) ?_
      refine lv_iload_n hx hb dX12_goes_139 rfl (lv_at hl 2 rfl) ?_
      obtain ⟨σ58, eσ58, hF⟩ := obn hF
      refine cpi S hX hM eσ58 ck_6_6_16 cw_6_6_16 rfl rfl q1341 (fun _ h => h) dX12_goes_140 (fun H locs hM => ?_)
      have hz := (Option.some.inj hF)
      subst hz
      exact crv S hM hr hlocks dX12_goes_143
    · have hF := ifn hF c52
      have hz := (Option.some.inj hF)
      subst hz
      exact crv S hM hr hlocks dX12_goes_110
def lX12_read_85 (F : Nat) : Nat → HS → Nat → Nat → Option ((HS) ⊕ ((Nat ⊕ Nat) × HS))
  | 0, _, _, _ => none
  | n + 1, σ, y0, y1 => ((oI σ y0 6 6 4).bind fun v21 => (if v21 = 0 then (some (.inl σ)) else (gT σ y0 6 6 (((fX6_direction F σ y0).bind fun r23 => (lt_ (if r23 = (-1) then 0 else 1) fun q24 => gT σ y0 6 6 (((fX6_need F σ y0 q24 1).bind fun r26 => thr r26.1 (fun b26 => some (.inr (.inl b26, r26.2))) fun w26 => ((oI r26.2 y0 6 6 12).bind fun v27 => (lt_ (if 30 < v27 then 0 else 1) fun q28 => gT r26.2 y0 6 6 (((fX6_need F r26.2 y0 q28 4).bind fun r30 => thr r30.1 (fun b30 => some (.inr (.inl b30, r30.2))) fun w30 => gT r30.2 y0 6 6 (((fX6_go F r30.2 y0).bind fun r31 => gT r31 y0 6 6 (((fX6_number F r31 y0 1 11).bind fun r32 => thr r32.1 (fun b32 => some (.inr (.inl b32, r32.2))) fun w32 => gT r32.2 y0 6 6 (((fX6_number F r32.2 y0 1 99).bind fun r33 => thr r33.1 (fun b33 => some (.inr (.inl b33, r33.2))) fun w33 => gT r33.2 y0 6 6 (((fX6_end F r33.2 y0).bind fun r34 => thr r34.1 (fun b34 => some (.inr (.inl b34, r34.2))) fun w34 => ((oI r34.2 y0 6 6 10).bind fun v35 => ((if v35 = 0 then (gT r34.2 y0 6 6 (((fX12_goes F r34.2 y0 y1 r23 w32 w33).bind fun r38 => some r38))) else (some r34.2)).bind fun q36 => ((oI q36 y0 6 6 12).bind fun v39 => ((pI q36 y0 6 6 12 (v39 + 1)).bind fun σ40 => lX12_read_85 F n σ40 y0 y1))))))))))))))))))))))))
def fX12_read (F : Nat) (h0 : HS) (x0 : Nat) : Option ((Nat ⊕ Nat) × HS) := gT h0 x0 6 6 (((fX6_go F h0 x0).bind fun r1 => ((fR r1 x0 6 6 9).bind fun a2 => ((fR r1 a2 2 2 5).bind fun a3 => ((fR r1 x0 6 6 9).bind fun a4 => ((fR r1 a4 2 2 5).bind fun a5 => gT r1 x0 6 6 (((fX6_holdOne F r1 x0 a5).bind fun r6 => thr r6.1 (fun b6 => some (.inl b6, r6.2)) fun w6 => gT r6.2 a3 15 15 (((fJ2_get F r6.2 a3 w6).bind fun r7 => gT r6.2 r7 9 9 (gT r6.2 x0 6 6 (((fX6_go F r6.2 x0).bind fun r9 => ((fR r9 x0 6 6 9).bind fun a10 => gT r9 x0 6 6 (((fX6_holdTuft F r9 x0 a10).bind fun r11 => thr r11.1 (fun b11 => some (.inl b11, r11.2)) fun w11 => gT r11.2 x0 6 6 (((fX6_go F r11.2 x0).bind fun r12 => gT r12 x0 6 6 (((fX6_end F r12 x0).bind fun r13 => thr r13.1 (fun b13 => some (.inl b13, r13.2)) fun w13 => ((fR r13.2 x0 6 6 9).bind fun a14 => ((fR r13.2 a14 2 2 8).bind fun a15 => ((aI r13.2 a15 33 w11).bind fun v16 => (if v16 = 0 then ((pI r13.2 x0 6 6 13 w11).bind fun σ18 => ((oI σ18 x0 6 6 12).bind fun v19 => ((pI σ18 x0 6 6 12 (v19 + 1)).bind fun σ20 => (osm (lX12_read_85 F F σ20 x0 r7) id fun q41 => some (.inr x0, q41))))) else (gT r13.2 x0 6 6 (((fX12_judge F r13.2 x0 1).bind fun r42 => ((oI r42 x0 6 6 12).bind fun v43 => ((pI r42 x0 6 6 12 (v43 + 1)).bind fun σ44 => (osm (lX12_read_85 F F σ44 x0 r7) id fun q45 => some (.inr x0, q45)))))))))))))))))))))))))))))))
theorem hyX12_read : yX12_read.cls ≠ "java/lang/invoke/MethodHandle" ∧ yX12_read.cls ≠ "java/lang/invoke/VarHandle" := by decide +kernel
theorem hlX12_read : (parseMethodDescriptor yX12_read.desc).map (fun d => d.parameters.length) = some 0 := by decide +kernel
set_option maxHeartbeats 4000000 in
set_option maxRecDepth 100000 in
theorem wlX12_read_85 {p : Program} {l : Launch} [NoTr l] {e : Env} {s : State} {m : MethodId} {args : Array Value} {below : List Frame} {meth : Method} {c : Code} {D : va_G} {h0 : HS} (S : CallFix p m c cX12_read 6 s args lw_all RX12) (hX : CX D (kG h0) s) (hr : meth.sig.returnType = (some (.object "RugReader$WalkReader"))) (hlocks : meth.locks = false) (hnt : ∀ x ∈ c.exceptionTable.toList, False) (F : Nat) (res : (Nat ⊕ Nat) × HS) : ∀ (n : Nat) (σ : HS) (y0 : Nat) (y1 : Nat) (out : (HS) ⊕ ((Nat ⊕ Nat) × HS)), lX12_read_85 F n σ y0 y1 = some out → (∀ v, out = .inr v → v = res) → (∀ o, out = .inl o → ∀ (H : Heap) (locs : List Loc) (cs ss : Nat) (ls : Array Slot), HI D h0 o s.heap H locs cs ss → lv_has ls 6 [(0, .ref y0)] → W p l e (cR 13 311 h0) s m args below meth c H locs cs ss (cMQ below D h0 res.2 (xr res.1) args s) (F0 m 187 ls [])) → ∀ (H : Heap) (locs : List Loc) (cs ss : Nat) (ls : Array Slot), HI D h0 σ s.heap H locs cs ss → lv_has ls 6 [(0, .ref y0), (1, .ref y1)] → W p l e (cR 13 311 h0) s m args below meth c H locs cs ss (cMQ below D h0 res.2 (xr res.1) args s) (F0 m 85 ls []) := by
  intro n
  induction n with
  | zero =>
    intro σ y0 y1 out hF
    cases (show (none : Option _) = some out from hF)
  | succ n ih =>
    intro σ y0 y1 out hF hv hk H locs cs ss ls hM hl
    rw [lX12_read_85] at hF
    obtain ⟨hx, hb, hml, hown, hts⟩ := id S
    refine lv_aload_n hx hb dX12_read_85 rfl (lv_at hl 0 rfl) ?_
    obtain ⟨v21, ev21, hF⟩ := obn hF
    refine cgi S hX hM ev21 ck_6_6_4 q464 (u_same (hts _ q465)) dX12_read_86 ?_
    refine lv_if_eq (tgt := 187) hx hb dX12_read_89 (by decide) (fun c22 => ?_) (fun c22 => ?_)
    · have hF := ifp hF c22
      cases hF
      exact hk _ rfl _ _ _ _ _ hM (lv_sub hl [0] rfl)
    · have hF := ifn hF c22
      refine lv_aload_n hx hb dX12_read_92 rfl (lv_at hl 0 rfl) ?_
      obtain ⟨z23, hF⟩ := gTe hF
      obtain ⟨r23, er23, hF⟩ := obn hF
      refine ccr (rest := []) (st1 := [.int r23]) S hX hM (metX6_direction l F D σ y0 r23 er23) (ci_U (C := "RugReader$WalkReader") (As := []) (rest := []) S q1395 q1396 rfl q1090 q1397 q1091 hyX6_direction (HI.cell (ci := 5) hX hM (by decide) (by omega)) hlX6_direction rfl dX12_read_93) q1091 q112 (Nat.le_of_ble_eq_true rfl) (Nat.le_of_ble_eq_true rfl) hl.1 (Nat.le_of_ble_eq_true rfl) rfl (fun H locs cs ss hM => ?_)
      refine lv_istore_n (lv' := [(3, .int r23), (0, .ref y0), (1, .ref y1)]) hx hb dX12_read_96 rfl hl (by decide) rfl (fun ls hl => ?_)
      refine lv_aload_n hx hb dX12_read_97 rfl (lv_at hl 1 rfl) ?_
      refine lv_iload_n hx hb dX12_read_98 rfl (lv_at hl 0 rfl) ?_
      refine lv_iconst (v := (-1)) hx hb dX12_read_99 rfl ?_
      obtain ⟨q24, hq24, hF⟩ := lte hF
      refine cjn (I := HI D h0 σ s.heap) (nJ := 6) (lvJ := [(0, .ref y0), (1, .ref y1), (3, .int r23)]) (J := 108) (stJ := [.int q24, .ref y0]) ?_ ?_
      · intro H locs cs ss ls hM hl
        refine lv_iconst (v := 1) hx hb dX12_read_108 rfl ?_
        obtain ⟨z26, hF⟩ := gTe hF
        obtain ⟨r26, er26, hF⟩ := obn hF
        refine cctv (rest := []) S hX hM (metX6_need l F D σ y0 q24 1 r26 er26) (ci_U (C := "RugReader$WalkReader") (As := [.int q24, .int 1]) (rest := []) S q1398 q1399 rfl q739 q1400 q740 hyX6_need (HI.cell (ci := 5) hX hM (by decide) (by omega)) hlX6_need rfl dX12_read_109) q740 q112 (Nat.le_of_ble_eq_true rfl) (Nat.le_of_ble_eq_true rfl) hl.1 (Nat.le_of_ble_eq_true rfl) (fun w26 ew26 H locs cs ss hM => ?_) (fun b26 eb26 H locs cs ss hM => ?_)
        · have hF := thr_r hF ew26
          refine lv_aload_n hx hb dX12_read_112 rfl (lv_at hl 0 rfl) ?_
          refine lv_aload_n hx hb dX12_read_113 rfl (lv_at hl 0 rfl) ?_
          obtain ⟨v27, ev27, hF⟩ := obn hF
          refine cgi S hX hM ev27 ck_6_6_12 q1334 (fun _ h => h) dX12_read_114 ?_
          refine lv_bipush (v := 30) hx hb dX12_read_117 rfl ?_
          obtain ⟨q28, hq28, hF⟩ := lte hF
          refine cjn (I := HI D h0 r26.2 s.heap) (nJ := 6) (lvJ := [(0, .ref y0), (1, .ref y1), (3, .int r23)]) (J := 127) (stJ := [.int q28, .ref y0]) ?_ ?_
          · intro H locs cs ss ls hM hl
            refine lv_iconst (v := 4) hx hb dX12_read_127 rfl ?_
            obtain ⟨z30, hF⟩ := gTe hF
            obtain ⟨r30, er30, hF⟩ := obn hF
            refine cctv (rest := []) S hX hM (metX6_need l F D r26.2 y0 q28 4 r30 er30) (ci_U (C := "RugReader$WalkReader") (As := [.int q28, .int 4]) (rest := []) S q1398 q1399 rfl q739 q1400 q740 hyX6_need (HI.cell (ci := 5) hX hM (by decide) (by omega)) hlX6_need rfl dX12_read_128) q740 q112 (Nat.le_of_ble_eq_true rfl) (Nat.le_of_ble_eq_true rfl) hl.1 (Nat.le_of_ble_eq_true rfl) (fun w30 ew30 H locs cs ss hM => ?_) (fun b30 eb30 H locs cs ss hM => ?_)
            · have hF := thr_r hF ew30
              refine lv_aload_n hx hb dX12_read_131 rfl (lv_at hl 0 rfl) ?_
              obtain ⟨z31, hF⟩ := gTe hF
              obtain ⟨r31, er31, hF⟩ := obn hF
              refine ccr (rest := []) (st1 := []) S hX hM (metX6_go l F D r30.2 y0 r31 er31) (ci_U (C := "RugReader$WalkReader") (As := []) (rest := []) S q1372 q1373 rfl q506 q1374 q507 hyX6_go (HI.cell (ci := 5) hX hM (by decide) (by omega)) hlX6_go rfl dX12_read_132) q507 q112 (Nat.le_of_ble_eq_true rfl) (Nat.le_of_ble_eq_true rfl) hl.1 (Nat.le_of_ble_eq_true rfl) rfl (fun H locs cs ss hM => ?_)
              refine lv_aload_n hx hb dX12_read_135 rfl (lv_at hl 0 rfl) ?_
              refine lv_iconst (v := 1) hx hb dX12_read_136 rfl ?_
              refine lv_bipush (v := 11) hx hb dX12_read_137 rfl ?_
              obtain ⟨z32, hF⟩ := gTe hF
              obtain ⟨r32, er32, hF⟩ := obn hF
              refine ccti (rest := []) S hX hM (metX6_number l F D r31 y0 1 11 r32 er32) (ci_U (C := "RugReader$WalkReader") (As := [.int 1, .int 11]) (rest := []) S q1401 q1402 rfl q810 q1403 q811 hyX6_number (HI.cell (ci := 5) hX hM (by decide) (by omega)) hlX6_number rfl dX12_read_139) q811 q112 (Nat.le_of_ble_eq_true rfl) (Nat.le_of_ble_eq_true rfl) hl.1 (Nat.le_of_ble_eq_true rfl) (fun w32 ew32 H locs cs ss hM => ?_) (fun b32 eb32 H locs cs ss hM => ?_)
              · have hF := thr_r hF ew32
                refine lv_istore (lv' := [(4, .int w32), (0, .ref y0), (1, .ref y1), (3, .int r23)]) hx hb dX12_read_142 hl (by decide) rfl (fun ls hl => ?_)
                refine lv_aload_n hx hb dX12_read_144 rfl (lv_at hl 1 rfl) ?_
                refine lv_iconst (v := 1) hx hb dX12_read_145 rfl ?_
                refine lv_bipush (v := 99) hx hb dX12_read_146 rfl ?_
                obtain ⟨z33, hF⟩ := gTe hF
                obtain ⟨r33, er33, hF⟩ := obn hF
                refine ccti (rest := []) S hX hM (metX6_number l F D r32.2 y0 1 99 r33 er33) (ci_U (C := "RugReader$WalkReader") (As := [.int 1, .int 99]) (rest := []) S q1401 q1402 rfl q810 q1403 q811 hyX6_number (HI.cell (ci := 5) hX hM (by decide) (by omega)) hlX6_number rfl dX12_read_148) q811 q112 (Nat.le_of_ble_eq_true rfl) (Nat.le_of_ble_eq_true rfl) hl.1 (Nat.le_of_ble_eq_true rfl) (fun w33 ew33 H locs cs ss hM => ?_) (fun b33 eb33 H locs cs ss hM => ?_)
                · have hF := thr_r hF ew33
                  refine lv_istore (lv' := [(5, .int w33), (4, .int w32), (0, .ref y0), (1, .ref y1), (3, .int r23)]) hx hb dX12_read_151 hl (by decide) rfl (fun ls hl => ?_)
                  refine lv_aload_n hx hb dX12_read_153 rfl (lv_at hl 2 rfl) ?_
                  obtain ⟨z34, hF⟩ := gTe hF
                  obtain ⟨r34, er34, hF⟩ := obn hF
                  refine cctv (rest := []) S hX hM (metX6_end l F D r33.2 y0 r34 er34) (ci_U (C := "RugReader$WalkReader") (As := []) (rest := []) S q1388 q1389 rfl q1135 q1390 q1136 hyX6_end (HI.cell (ci := 5) hX hM (by decide) (by omega)) hlX6_end rfl dX12_read_154) q1136 q112 (Nat.le_of_ble_eq_true rfl) (Nat.le_of_ble_eq_true rfl) hl.1 (Nat.le_of_ble_eq_true rfl) (fun w34 ew34 H locs cs ss hM => ?_) (fun b34 eb34 H locs cs ss hM => ?_)
                  · have hF := thr_r hF ew34
                    refine lv_aload_n hx hb dX12_read_157 rfl (lv_at hl 2 rfl) ?_
                    obtain ⟨v35, ev35, hF⟩ := obn hF
                    refine cgi S hX hM ev35 ck_6_6_10 q1330 (fun _ h => h) dX12_read_158 ?_
                    obtain ⟨q36, hq36, hF⟩ := obn hF
                    refine cjn (I := HI D h0 q36 s.heap) (nJ := 6) (lvJ := [(0, .ref y0), (1, .ref y1)]) (J := 174) (stJ := []) ?_ ?_
                    · intro H locs cs ss ls hM hl
                      refine lv_aload_n hx hb dX12_read_174 rfl (lv_at hl 0 rfl) ?_
                      refine lv_dup hx hb dX12_read_175 rfl ?_
                      obtain ⟨v39, ev39, hF⟩ := obn hF
                      refine cgi S hX hM ev39 ck_6_6_12 q1334 (fun _ h => h) dX12_read_176 ?_
                      refine lv_iconst (v := 1) hx hb dX12_read_179 rfl ?_
                      refine lv_iadd hx hb dX12_read_180 ?_
                      obtain ⟨σ40, eσ40, hF⟩ := obn hF
                      refine cpi S hX hM eσ40 ck_6_6_12 cw_6_6_12 rfl rfl q1334 (fun _ h => h) dX12_read_181 (fun H locs hM => ?_)
                      refine lv_goto (tgt := 85) hx hb dX12_read_184 (by decide) ?_
                      exact ih _ _ _ out hF hv hk _ _ _ _ _ hM (lv_sub hl [0, 1] rfl)
                    · intro hJq36
                      refine lv_if_ne (tgt := 174) hx hb dX12_read_161 (by decide) (fun c37 => ?_) (fun c37 => ?_)
                      · have hq36 := ifn hq36 c37
                        cases hq36
                        exact hJq36 _ _ _ _ _ hM (lv_sub hl [2, 3] rfl)
                      · have hq36 := ifp hq36 c37
                        refine lv_aload_n hx hb dX12_read_164 rfl (lv_at hl 2 rfl) ?_
                        refine lv_aload_n hx hb dX12_read_165 rfl (lv_at hl 3 rfl) ?_
                        refine lv_iload_n hx hb dX12_read_166 rfl (lv_at hl 4 rfl) ?_
                        refine lv_iload hx hb dX12_read_167 (lv_at hl 1 rfl) ?_
                        refine lv_iload hx hb dX12_read_169 (lv_at hl 0 rfl) ?_
                        obtain ⟨z38, hq36⟩ := gTe hq36
                        obtain ⟨r38, er38, hq36⟩ := obn hq36
                        refine ccr (rest := []) (st1 := []) S hX hM (metX12_goes l F D r34.2 y0 y1 r23 w32 w33 r38 er38) (ci_V (C := "RugReader$WalkReader") (As := [.ref y1, .int r23, .int w32, .int w33]) (rest := []) S q1404 q1406 qs29 q1407 hyX12_goes (HI.cell (ci := 5) hX hM (by decide) (by omega)) hlX12_goes rfl dX12_read_171) q1407 q135 (Nat.le_of_ble_eq_true rfl) (Nat.le_of_ble_eq_true rfl) hl.1 (Nat.le_of_ble_eq_true rfl) rfl (fun H locs cs ss hM => ?_)
                        cases hq36
                        exact hJq36 _ _ _ _ _ hM (lv_sub hl [2, 3] rfl)
                  · have hF := thr_q hF eb34
                    have hz := (hv _ ((Option.some.inj hF)).symm)
                    subst hz
                    exact cxout hM (fun x hx => (hnt x hx).elim) hlocks
                · have hF := thr_q hF eb33
                  have hz := (hv _ ((Option.some.inj hF)).symm)
                  subst hz
                  exact cxout hM (fun x hx => (hnt x hx).elim) hlocks
              · have hF := thr_q hF eb32
                have hz := (hv _ ((Option.some.inj hF)).symm)
                subst hz
                exact cxout hM (fun x hx => (hnt x hx).elim) hlocks
            · have hF := thr_q hF eb30
              have hz := (hv _ ((Option.some.inj hF)).symm)
              subst hz
              exact cxout hM (fun x hx => (hnt x hx).elim) hlocks
          · intro hJq28
            refine lv_icmp_gt (tgt := 126) hx hb dX12_read_119 (by decide) (fun c29 => ?_) (fun c29 => ?_)
            · have hq28 := ifp hq28 c29
              refine lv_iconst (v := 0) hx hb dX12_read_126 rfl ?_
              subst hq28
              exact hJq28 _ _ _ _ _ hM (lv_sub hl [0, 1, 2] rfl)
            · have hq28 := ifn hq28 c29
              refine lv_iconst (v := 1) hx hb dX12_read_122 rfl ?_
              refine lv_goto (tgt := 127) hx hb dX12_read_123 (by decide) ?_
              subst hq28
              exact hJq28 _ _ _ _ _ hM (lv_sub hl [0, 1, 2] rfl)
        · have hF := thr_q hF eb26
          have hz := (hv _ ((Option.some.inj hF)).symm)
          subst hz
          exact cxout hM (fun x hx => (hnt x hx).elim) hlocks
      · intro hJq24
        refine lv_icmp_eq (tgt := 107) hx hb dX12_read_100 (by decide) (fun c25 => ?_) (fun c25 => ?_)
        · have hq24 := ifp hq24 c25
          refine lv_iconst (v := 0) hx hb dX12_read_107 rfl ?_
          subst hq24
          exact hJq24 _ _ _ _ _ hM (lv_sub hl [1, 2, 0] rfl)
        · have hq24 := ifn hq24 c25
          refine lv_iconst (v := 1) hx hb dX12_read_103 rfl ?_
          refine lv_goto (tgt := 108) hx hb dX12_read_104 (by decide) ?_
          subst hq24
          exact hJq24 _ _ _ _ _ hM (lv_sub hl [1, 2, 0] rfl)
set_option maxHeartbeats 4000000 in
set_option maxRecDepth 100000 in
theorem metX12_read (l : Launch) [NoTr l] (F : Nat) (D : va_G) (h0 : HS) (x0 : Nat) (r : (Nat ⊕ Nat) × HS) (hF : fX12_read F h0 x0 = some r) : CMet l yX12_read (ws_ yX12_read cX12_read 6 (some (.object "RugReader$WalkReader"))) 13 311 D [.ref x0] h0 r.2 (xr r.1) := by
  refine CMet.ofW (by decide) ?_
  intro p e s m below meth c s₁ B S hX hM hr hlocks hnt hin
  obtain ⟨hx, hb, hml, hown, hts⟩ := id S
  have hl := lv_entry ([.ref x0]) (n := 6) (Nat.le_of_ble_eq_true rfl)
  rw [lg_entry_eq]
  generalize (lg_sl ([.ref x0]) ++ List.replicate (6 - (lg_sl ([.ref x0])).length) Slot.unset).toArray = ls at hl ⊢
  have hl : lv_has ls 6 [(0, .ref x0)] := hl
  unfold fX12_read at hF
  refine lv_aload_n hx hb dX12_read_0 rfl (lv_at hl 0 rfl) ?_
  obtain ⟨z1, hF⟩ := gTe hF
  obtain ⟨r1, er1, hF⟩ := obn hF
  refine ccr (rest := []) (st1 := []) S hX hM (metX6_go l F D h0 x0 r1 er1) (ci_U (C := "RugReader$WalkReader") (As := []) (rest := []) S q1372 q1373 rfl q506 q1374 q507 hyX6_go (HI.cell (ci := 5) hX hM (by decide) (by omega)) hlX6_go rfl dX12_read_1) q507 q112 (Nat.le_of_ble_eq_true rfl) (Nat.le_of_ble_eq_true rfl) hl.1 (Nat.le_of_ble_eq_true rfl) rfl (fun H locs cs ss hM => ?_)
  refine lv_aload_n hx hb dX12_read_4 rfl (lv_at hl 0 rfl) ?_
  obtain ⟨a2, ea2, hF⟩ := obn hF
  refine cgn S hX hM ea2 ck_6_6_9 q1329 (fun _ h => h) dX12_read_5 ?_
  obtain ⟨a3, ea3, hF⟩ := obn hF
  refine cgnN S hX hM ea3 ck_2_2_5 (uq201 hX) dX12_read_8 ?_
  refine lv_aload_n hx hb dX12_read_11 rfl (lv_at hl 0 rfl) ?_
  refine lv_aload_n hx hb dX12_read_12 rfl (lv_at hl 0 rfl) ?_
  obtain ⟨a4, ea4, hF⟩ := obn hF
  refine cgn S hX hM ea4 ck_6_6_9 q1329 (fun _ h => h) dX12_read_13 ?_
  obtain ⟨a5, ea5, hF⟩ := obn hF
  refine cgnN S hX hM ea5 ck_2_2_5 (uq201 hX) dX12_read_16 ?_
  obtain ⟨z6, hF⟩ := gTe hF
  obtain ⟨r6, er6, hF⟩ := obn hF
  refine ccti (rest := [.ref a3]) S hX hM (metX6_holdOne l F D r1 x0 a5 r6 er6) (ci_U (C := "RugReader$WalkReader") (As := [.ref a5]) (rest := [.ref a3]) S q1375 q1376 rfl q1379 q1378 q1380 hyX6_holdOne (HI.cell (ci := 5) hX hM (by decide) (by omega)) hlX6_holdOne rfl dX12_read_19) q1380 q112 (Nat.le_of_ble_eq_true rfl) (Nat.le_of_ble_eq_true rfl) hl.1 (Nat.le_of_ble_eq_true rfl) (fun w6 ew6 H locs cs ss hM => ?_) (fun b6 eb6 H locs cs ss hM => ?_)
  · have hF := thr_r hF ew6
    obtain ⟨z7, hF⟩ := gTe hF
    obtain ⟨r7, er7, hF⟩ := obn hF
    refine ccr (rest := []) (st1 := [.ref r7]) S hX hM (metJ2_get l F D r6.2 a3 w6 r7 er7) (ci_V (C := "java/util/ArrayList") (As := [.int w6]) (rest := []) S q1383 q925 q926 q927 hyJ2_get (HI.cell (ci := 14) hX hM (by decide) (by omega)) hlJ2_get rfl dX12_read_22) q927 q107 (Nat.le_of_ble_eq_true rfl) (Nat.le_of_ble_eq_true rfl) hl.1 (Nat.le_of_ble_eq_true rfl) rfl (fun H locs cs ss hM => ?_)
    obtain ⟨z8, hF⟩ := gTe hF
    refine ccs (ci := 8) S hX hM (by decide) (by omega) q1384 dX12_read_25 ?_
    refine lv_astore_n (lv' := [(1, .ref r7), (0, .ref x0)]) hx hb dX12_read_28 rfl hl (by decide) rfl (fun ls hl => ?_)
    refine lv_aload_n hx hb dX12_read_29 rfl (lv_at hl 1 rfl) ?_
    obtain ⟨z9, hF⟩ := gTe hF
    obtain ⟨r9, er9, hF⟩ := obn hF
    refine ccr (rest := []) (st1 := []) S hX hM (metX6_go l F D r6.2 x0 r9 er9) (ci_U (C := "RugReader$WalkReader") (As := []) (rest := []) S q1372 q1373 rfl q506 q1374 q507 hyX6_go (HI.cell (ci := 5) hX hM (by decide) (by omega)) hlX6_go rfl dX12_read_30) q507 q112 (Nat.le_of_ble_eq_true rfl) (Nat.le_of_ble_eq_true rfl) hl.1 (Nat.le_of_ble_eq_true rfl) rfl (fun H locs cs ss hM => ?_)
    refine lv_aload_n hx hb dX12_read_33 rfl (lv_at hl 1 rfl) ?_
    refine lv_aload_n hx hb dX12_read_34 rfl (lv_at hl 1 rfl) ?_
    obtain ⟨a10, ea10, hF⟩ := obn hF
    refine cgn S hX hM ea10 ck_6_6_9 q1329 (fun _ h => h) dX12_read_35 ?_
    obtain ⟨z11, hF⟩ := gTe hF
    obtain ⟨r11, er11, hF⟩ := obn hF
    refine ccti (rest := []) S hX hM (metX6_holdTuft l F D r9 x0 a10 r11 er11) (ci_U (C := "RugReader$WalkReader") (As := [.ref a10]) (rest := []) S q1385 q1386 rfl q1030 q1387 q1031 hyX6_holdTuft (HI.cell (ci := 5) hX hM (by decide) (by omega)) hlX6_holdTuft rfl dX12_read_38) q1031 q112 (Nat.le_of_ble_eq_true rfl) (Nat.le_of_ble_eq_true rfl) hl.1 (Nat.le_of_ble_eq_true rfl) (fun w11 ew11 H locs cs ss hM => ?_) (fun b11 eb11 H locs cs ss hM => ?_)
    · have hF := thr_r hF ew11
      refine lv_istore_n (lv' := [(2, .int w11), (1, .ref r7), (0, .ref x0)]) hx hb dX12_read_41 rfl hl (by decide) rfl (fun ls hl => ?_)
      refine lv_aload_n hx hb dX12_read_42 rfl (lv_at hl 2 rfl) ?_
      obtain ⟨z12, hF⟩ := gTe hF
      obtain ⟨r12, er12, hF⟩ := obn hF
      refine ccr (rest := []) (st1 := []) S hX hM (metX6_go l F D r11.2 x0 r12 er12) (ci_U (C := "RugReader$WalkReader") (As := []) (rest := []) S q1372 q1373 rfl q506 q1374 q507 hyX6_go (HI.cell (ci := 5) hX hM (by decide) (by omega)) hlX6_go rfl dX12_read_43) q507 q112 (Nat.le_of_ble_eq_true rfl) (Nat.le_of_ble_eq_true rfl) hl.1 (Nat.le_of_ble_eq_true rfl) rfl (fun H locs cs ss hM => ?_)
      refine lv_aload_n hx hb dX12_read_46 rfl (lv_at hl 2 rfl) ?_
      obtain ⟨z13, hF⟩ := gTe hF
      obtain ⟨r13, er13, hF⟩ := obn hF
      refine cctv (rest := []) S hX hM (metX6_end l F D r12 x0 r13 er13) (ci_U (C := "RugReader$WalkReader") (As := []) (rest := []) S q1388 q1389 rfl q1135 q1390 q1136 hyX6_end (HI.cell (ci := 5) hX hM (by decide) (by omega)) hlX6_end rfl dX12_read_47) q1136 q112 (Nat.le_of_ble_eq_true rfl) (Nat.le_of_ble_eq_true rfl) hl.1 (Nat.le_of_ble_eq_true rfl) (fun w13 ew13 H locs cs ss hM => ?_) (fun b13 eb13 H locs cs ss hM => ?_)
      · have hF := thr_r hF ew13
        refine lv_aload_n hx hb dX12_read_50 rfl (lv_at hl 2 rfl) ?_
        obtain ⟨a14, ea14, hF⟩ := obn hF
        refine cgn S hX hM ea14 ck_6_6_9 q1329 (fun _ h => h) dX12_read_51 ?_
        obtain ⟨a15, ea15, hF⟩ := obn hF
        refine cgnN S hX hM ea15 ck_2_2_8 (uq215 hX) dX12_read_54 ?_
        refine lv_iload_n hx hb dX12_read_57 rfl (lv_at hl 0 rfl) ?_
        obtain ⟨v16, ev16, hF⟩ := obn hF
        refine caz S hX hM ev16 dX12_read_58 ?_
        refine lv_if_eq (tgt := 70) hx hb dX12_read_59 (by decide) (fun c17 => ?_) (fun c17 => ?_)
        · have hF := ifp hF c17
          refine lv_aload_n hx hb dX12_read_70 rfl (lv_at hl 2 rfl) ?_
          refine lv_iload_n hx hb dX12_read_71 rfl (lv_at hl 0 rfl) ?_
          obtain ⟨σ18, eσ18, hF⟩ := obn hF
          refine cpi S hX hM eσ18 ck_6_6_13 cw_6_6_13 rfl rfl q1335 (fun _ h => h) dX12_read_72 (fun H locs hM => ?_)
          refine lv_aload_n hx hb dX12_read_75 rfl (lv_at hl 2 rfl) ?_
          refine lv_dup hx hb dX12_read_76 rfl ?_
          obtain ⟨v19, ev19, hF⟩ := obn hF
          refine cgi S hX hM ev19 ck_6_6_12 q1334 (fun _ h => h) dX12_read_77 ?_
          refine lv_iconst (v := 1) hx hb dX12_read_80 rfl ?_
          refine lv_iadd hx hb dX12_read_81 ?_
          obtain ⟨σ20, eσ20, hF⟩ := obn hF
          refine cpi S hX hM eσ20 ck_6_6_12 cw_6_6_12 rfl rfl q1334 (fun _ h => h) dX12_read_82 (fun H locs hM => ?_)
          obtain ⟨oq41, hq41, h1q41, h2q41⟩ := osx hF
          refine wlX12_read_85 S hX hr hlocks hnt F _  F _ _ _ oq41 hq41 (fun v e => (h2q41 v e)) (fun q41 eq41 H locs cs ss ls hM hl => ?_) _ _ _ _ _ hM (lv_sub hl [2, 1] rfl)
          have hF := h1q41 _ eq41
          refine lv_aload_n hx hb dX12_read_187 rfl (lv_at hl 0 rfl) ?_
          have hz := (Option.some.inj hF)
          subst hz
          exact cra S hM hr (Or.inl ⟨_, rfl⟩) hlocks dX12_read_188
        · have hF := ifn hF c17
          refine lv_aload_n hx hb dX12_read_62 rfl (lv_at hl 2 rfl) ?_
          refine lv_iconst (v := 1) hx hb dX12_read_63 rfl ?_
          obtain ⟨z42, hF⟩ := gTe hF
          obtain ⟨r42, er42, hF⟩ := obn hF
          refine ccr (rest := []) (st1 := []) S hX hM (metX12_judge l F D r13.2 x0 1 r42 er42) (ci_V (C := "RugReader$WalkReader") (As := [.int 1]) (rest := []) S q1391 q1393 qs28 q1394 hyX12_judge (HI.cell (ci := 5) hX hM (by decide) (by omega)) hlX12_judge rfl dX12_read_64) q1394 q135 (Nat.le_of_ble_eq_true rfl) (Nat.le_of_ble_eq_true rfl) hl.1 (Nat.le_of_ble_eq_true rfl) rfl (fun H locs cs ss hM => ?_)
          refine lv_goto (tgt := 75) hx hb dX12_read_67 (by decide) ?_
          refine lv_aload_n hx hb dX12_read_75 rfl (lv_at hl 2 rfl) ?_
          refine lv_dup hx hb dX12_read_76 rfl ?_
          obtain ⟨v43, ev43, hF⟩ := obn hF
          refine cgi S hX hM ev43 ck_6_6_12 q1334 (fun _ h => h) dX12_read_77 ?_
          refine lv_iconst (v := 1) hx hb dX12_read_80 rfl ?_
          refine lv_iadd hx hb dX12_read_81 ?_
          obtain ⟨σ44, eσ44, hF⟩ := obn hF
          refine cpi S hX hM eσ44 ck_6_6_12 cw_6_6_12 rfl rfl q1334 (fun _ h => h) dX12_read_82 (fun H locs hM => ?_)
          obtain ⟨oq45, hq45, h1q45, h2q45⟩ := osx hF
          refine wlX12_read_85 S hX hr hlocks hnt F _  F _ _ _ oq45 hq45 (fun v e => (h2q45 v e)) (fun q45 eq45 H locs cs ss ls hM hl => ?_) _ _ _ _ _ hM (lv_sub hl [2, 1] rfl)
          have hF := h1q45 _ eq45
          refine lv_aload_n hx hb dX12_read_187 rfl (lv_at hl 0 rfl) ?_
          have hz := (Option.some.inj hF)
          subst hz
          exact cra S hM hr (Or.inl ⟨_, rfl⟩) hlocks dX12_read_188
      · have hF := thr_q hF eb13
        have hz := (Option.some.inj hF)
        subst hz
        exact cxout hM (fun x hx => (hnt x hx).elim) hlocks
    · have hF := thr_q hF eb11
      have hz := (Option.some.inj hF)
      subst hz
      exact cxout hM (fun x hx => (hnt x hx).elim) hlocks
  · have hF := thr_q hF eb6
    have hz := (Option.some.inj hF)
    subst hz
    exact cxout hM (fun x hx => (hnt x hx).elim) hlocks
def fX1_walk (F : Nat) (h0 : HS) (x0 : Nat) : Option (Int32 × HS) := gT h0 x0 1 1 (((fX1_take F h0 x0).bind fun r1 => ((pI r1.2 x0 1 1 2 0).bind fun σ2 => ((nO σ2 6 17).bind fun r3 => ((fR r3.2 x0 1 1 0).bind fun a4 => ((fR r3.2 x0 1 1 3).bind fun a5 => ((fX12_init F r3.2 r3.1 a4 r1.1 a5).bind fun r6 => gT r6 r3.1 6 6 (((fX12_read F r6 r3.1).bind fun r7 => thr r7.1 (fun b7 => gT r7.2 b7 8 8 (((oI r7.2 b7 8 8 0).bind fun v21 => ((pI r7.2 x0 1 1 2 v21).bind fun σ22 => ((oI σ22 b7 8 8 1).bind fun v23 => some (((-2) - v23), σ22)))))) fun w7 => ((fR r7.2 x0 1 1 21).bind fun a8 => ((oI r7.2 w7 6 6 10).bind fun v9 => ((wI r7.2 a8 31 0 v9).bind fun σ10 => ((fR σ10 x0 1 1 21).bind fun a11 => ((oI σ10 w7 6 6 14).bind fun v12 => ((wI σ10 a11 31 1 v12).bind fun σ13 => ((fR σ13 x0 1 1 21).bind fun a14 => ((oI σ13 w7 6 6 15).bind fun v15 => ((wI σ13 a14 31 2 v15).bind fun σ16 => ((fR σ16 x0 1 1 21).bind fun a17 => ((oI σ16 w7 6 6 13).bind fun v18 => ((wI σ16 a17 31 3 v18).bind fun σ19 => ((oI σ19 w7 6 6 11).bind fun v20 => some (v20, σ19)))))))))))))))))))))))
theorem hyX1_walk : yX1_walk.cls ≠ "java/lang/invoke/MethodHandle" ∧ yX1_walk.cls ≠ "java/lang/invoke/VarHandle" := by decide +kernel
theorem hlX1_walk : (parseMethodDescriptor yX1_walk.desc).map (fun d => d.parameters.length) = some 0 := by decide +kernel
set_option maxHeartbeats 4000000 in
set_option maxRecDepth 100000 in
theorem metX1_walk (l : Launch) [NoTr l] (F : Nat) (D : va_G) (h0 : HS) (x0 : Nat) (r : Int32 × HS) (hF : fX1_walk F h0 x0 = some r) : CMet l yX1_walk (wsW_ yX1_walk cX1_walk 3 (some .int) [(10, 74, 75, 136)]) 14 336 D [.ref x0] h0 r.2 (.inr (some (.int r.1))) := by
  refine CMet.ofWH (by decide) ?_
  intro p e s m below meth c s₁ B S hX hM hr hlocks hnt hin
  obtain ⟨hx, hb, hml, hown, hts⟩ := id S
  have hl := lv_entry ([.ref x0]) (n := 3) (Nat.le_of_ble_eq_true rfl)
  rw [lg_entry_eq]
  generalize (lg_sl ([.ref x0]) ++ List.replicate (3 - (lg_sl ([.ref x0])).length) Slot.unset).toArray = ls at hl ⊢
  have hl : lv_has ls 3 [(0, .ref x0)] := hl
  unfold fX1_walk at hF
  refine lv_aload_n hx hb dX1_walk_0 rfl (lv_at hl 0 rfl) ?_
  obtain ⟨z1, hF⟩ := gTe hF
  obtain ⟨r1, er1, hF⟩ := obn hF
  refine ccr (rest := []) (st1 := [.int r1.1]) S hX hM (metX1_take l F D h0 x0 r1 er1) (ci_V (C := "RugReader") (As := []) (rest := []) S q438 q440 qs1 q441 hyX1_take (HI.cell (ci := 0) hX hM (by decide) (by omega)) hlX1_take rfl dX1_walk_1) q441 q103 (Nat.le_of_ble_eq_true rfl) (Nat.le_of_ble_eq_true rfl) hl.1 (Nat.le_of_ble_eq_true rfl) rfl (fun H locs cs ss hM => ?_)
  refine lv_istore_n (lv' := [(1, .int r1.1), (0, .ref x0)]) hx hb dX1_walk_4 rfl hl (by decide) rfl (fun ls hl => ?_)
  refine lv_aload_n hx hb dX1_walk_5 rfl (lv_at hl 1 rfl) ?_
  refine lv_iconst (v := 0) hx hb dX1_walk_6 rfl ?_
  obtain ⟨σ2, eσ2, hF⟩ := obn hF
  refine cpi S hX hM eσ2 ck_1_1_2 cw_1_1_2 rfl rfl q326 (fun _ h => h) dX1_walk_7 (fun H locs hM => ?_)
  obtain ⟨r3, er3, hF⟩ := obn hF
  refine cno (ci := 5) S hX hM er3 (by decide) q1323 q1324 q135 dX1_walk_10 (fun H cs ss hM => ?_)
  refine lv_dup hx hb dX1_walk_13 rfl ?_
  refine lv_aload_n hx hb dX1_walk_14 rfl (lv_at hl 1 rfl) ?_
  obtain ⟨a4, ea4, hF⟩ := obn hF
  refine cgn S hX hM ea4 ck_1_1_0 q324 (fun _ h => h) dX1_walk_15 ?_
  refine lv_iload_n hx hb dX1_walk_18 rfl (lv_at hl 0 rfl) ?_
  refine lv_aload_n hx hb dX1_walk_19 rfl (lv_at hl 1 rfl) ?_
  obtain ⟨a5, ea5, hF⟩ := obn hF
  refine cgn S hX hM ea5 ck_1_1_3 q327 (fun _ h => h) dX1_walk_20 ?_
  obtain ⟨r6, er6, hF⟩ := obn hF
  refine ccr (rest := [.ref r3.1]) (st1 := [.ref r3.1]) S hX hM (metX12_init l F D r3.2 r3.1 a4 r1.1 a5 r6 er6) (ci_I (As := [.ref a4, .int r1.1, .ref a5]) (rest := [.ref r3.1]) S rfl q1325 q1326 q1327 hyX12_init hlX12_init rfl dX1_walk_23) q1327 q135 (Nat.le_of_ble_eq_true rfl) (Nat.le_of_ble_eq_true rfl) hl.1 (Nat.le_of_ble_eq_true rfl) rfl (fun H locs cs ss hM => ?_)
  obtain ⟨z7, hF⟩ := gTe hF
  obtain ⟨r7, er7, hF⟩ := obn hF
  refine cctr (rest := []) S hX hM (metX12_read l F D r6 r3.1 r7 er7) (ci_V (C := "RugReader$WalkReader") (As := []) (rest := []) S q1368 q1369 q1370 q1371 hyX12_read (HI.cell (ci := 5) hX hM (by decide) (by omega)) hlX12_read rfl dX1_walk_26) q1371 q135 (Nat.le_of_ble_eq_true rfl) (Nat.le_of_ble_eq_true rfl) hl.1 (Nat.le_of_ble_eq_true rfl) (fun w7 ew7 H locs cs ss hM => ?_) (fun b7 eb7 H locs cs ss hM => ?_)
  · have hF := thr_r hF ew7
    refine lv_astore_n (lv' := [(2, .ref w7), (1, .int r1.1), (0, .ref x0)]) hx hb dX1_walk_29 rfl hl (by decide) rfl (fun ls hl => ?_)
    refine lv_aload_n hx hb dX1_walk_30 rfl (lv_at hl 2 rfl) ?_
    obtain ⟨a8, ea8, hF⟩ := obn hF
    refine cgn S hX hM ea8 ck_1_1_21 q345 (fun _ h => h) dX1_walk_31 ?_
    refine lv_iconst (v := 0) hx hb dX1_walk_34 rfl ?_
    refine lv_aload_n hx hb dX1_walk_35 rfl (lv_at hl 0 rfl) ?_
    obtain ⟨v9, ev9, hF⟩ := obn hF
    refine cgiN S hX hM ev9 ck_6_6_10 (uq1331 hX) dX1_walk_36 ?_
    obtain ⟨σ10, eσ10, hF⟩ := obn hF
    refine cwi S hX hM eσ10 dX1_walk_39 (fun H locs hM => ?_)
    refine lv_aload_n hx hb dX1_walk_40 rfl (lv_at hl 2 rfl) ?_
    obtain ⟨a11, ea11, hF⟩ := obn hF
    refine cgn S hX hM ea11 ck_1_1_21 q345 (fun _ h => h) dX1_walk_41 ?_
    refine lv_iconst (v := 1) hx hb dX1_walk_44 rfl ?_
    refine lv_aload_n hx hb dX1_walk_45 rfl (lv_at hl 0 rfl) ?_
    obtain ⟨v12, ev12, hF⟩ := obn hF
    refine cgiN S hX hM ev12 ck_6_6_14 (uq1338 hX) dX1_walk_46 ?_
    obtain ⟨σ13, eσ13, hF⟩ := obn hF
    refine cwi S hX hM eσ13 dX1_walk_49 (fun H locs hM => ?_)
    refine lv_aload_n hx hb dX1_walk_50 rfl (lv_at hl 2 rfl) ?_
    obtain ⟨a14, ea14, hF⟩ := obn hF
    refine cgn S hX hM ea14 ck_1_1_21 q345 (fun _ h => h) dX1_walk_51 ?_
    refine lv_iconst (v := 2) hx hb dX1_walk_54 rfl ?_
    refine lv_aload_n hx hb dX1_walk_55 rfl (lv_at hl 0 rfl) ?_
    obtain ⟨v15, ev15, hF⟩ := obn hF
    refine cgiN S hX hM ev15 ck_6_6_15 (uq1340 hX) dX1_walk_56 ?_
    obtain ⟨σ16, eσ16, hF⟩ := obn hF
    refine cwi S hX hM eσ16 dX1_walk_59 (fun H locs hM => ?_)
    refine lv_aload_n hx hb dX1_walk_60 rfl (lv_at hl 2 rfl) ?_
    obtain ⟨a17, ea17, hF⟩ := obn hF
    refine cgn S hX hM ea17 ck_1_1_21 q345 (fun _ h => h) dX1_walk_61 ?_
    refine lv_iconst (v := 3) hx hb dX1_walk_64 rfl ?_
    refine lv_aload_n hx hb dX1_walk_65 rfl (lv_at hl 0 rfl) ?_
    obtain ⟨v18, ev18, hF⟩ := obn hF
    refine cgiN S hX hM ev18 ck_6_6_13 (uq1336 hX) dX1_walk_66 ?_
    obtain ⟨σ19, eσ19, hF⟩ := obn hF
    refine cwi S hX hM eσ19 dX1_walk_69 (fun H locs hM => ?_)
    refine lv_aload_n hx hb dX1_walk_70 rfl (lv_at hl 0 rfl) ?_
    obtain ⟨v20, ev20, hF⟩ := obn hF
    refine cgiN S hX hM ev20 ck_6_6_11 (uq1333 hX) dX1_walk_71 ?_
    have hz := (Option.some.inj hF)
    subst hz
    exact cri S hM hr hlocks dX1_walk_74
  · have hF := thr_q hF eb7
    obtain ⟨zb7, hF⟩ := gTe hF
    refine cxcatch (ci := 7) (nm := "") S hX hM (by decide) (by omega) hnt (by decide) (by decide) q437 ?_
    refine lv_astore_n (lv' := [(2, .ref b7), (1, .int r1.1), (0, .ref x0)]) hx hb dX1_walk_75 rfl hl (by decide) rfl (fun ls hl => ?_)
    refine lv_aload_n hx hb dX1_walk_76 rfl (lv_at hl 2 rfl) ?_
    refine lv_aload_n hx hb dX1_walk_77 rfl (lv_at hl 0 rfl) ?_
    obtain ⟨v21, ev21, hF⟩ := obn hF
    refine cgiN S hX hM ev21 ck_8_8_0 (uq787 hX) dX1_walk_78 ?_
    obtain ⟨σ22, eσ22, hF⟩ := obn hF
    refine cpi S hX hM eσ22 ck_1_1_2 cw_1_1_2 rfl rfl q326 (fun _ h => h) dX1_walk_81 (fun H locs hM => ?_)
    refine lv_bipush (v := (-2)) hx hb dX1_walk_84 rfl ?_
    refine lv_aload_n hx hb dX1_walk_86 rfl (lv_at hl 0 rfl) ?_
    obtain ⟨v23, ev23, hF⟩ := obn hF
    refine cgiN S hX hM ev23 ck_8_8_1 (uq789 hX) dX1_walk_87 ?_
    refine lv_isub hx hb dX1_walk_90 ?_
    have hz := (Option.some.inj hF)
    subst hz
    exact cri S hM hr hlocks dX1_walk_91
def fX1_walked (F : Nat) (h0 : HS) (x0 : Nat) (x1 : Int32) : Option (Int32) := (if (fX1_isIn x1 0 3) = 0 then (some (-1)) else ((fR h0 x0 1 1 21).bind fun a3 => ((aI h0 a3 31 x1).bind fun v4 => some v4)))
theorem hyX1_walked : yX1_walked.cls ≠ "java/lang/invoke/MethodHandle" ∧ yX1_walked.cls ≠ "java/lang/invoke/VarHandle" := by decide +kernel
theorem hlX1_walked : (parseMethodDescriptor yX1_walked.desc).map (fun d => d.parameters.length) = some 1 := by decide +kernel
set_option maxHeartbeats 4000000 in
set_option maxRecDepth 100000 in
theorem metX1_walked (l : Launch) [NoTr l] (F : Nat) (D : va_G) (h0 : HS) (x0 : Nat) (x1 : Int32) (r : Int32) (hF : fX1_walked F h0 x0 x1 = some r) : CMet l yX1_walked (ws_ yX1_walked cX1_walked 2 (some .int)) 1 22 D [.ref x0, .int x1] h0 h0 (.inr (some (.int r))) := by
  refine CMet.ofW (by decide) ?_
  intro p e s m below meth c s₁ B S hX hM hr hlocks hnt hin
  obtain ⟨hx, hb, hml, hown, hts⟩ := id S
  have hl := lv_entry ([.ref x0, .int x1]) (n := 2) (Nat.le_of_ble_eq_true rfl)
  rw [lg_entry_eq]
  generalize (lg_sl ([.ref x0, .int x1]) ++ List.replicate (2 - (lg_sl ([.ref x0, .int x1])).length) Slot.unset).toArray = ls at hl ⊢
  have hl : lv_has ls 2 [(0, .ref x0), (1, .int x1)] := hl
  unfold fX1_walked at hF
  refine lv_iload_n hx hb dX1_walked_0 rfl (lv_at hl 1 rfl) ?_
  refine lv_iconst (v := 0) hx hb dX1_walked_1 rfl ?_
  refine lv_iconst (v := 3) hx hb dX1_walked_2 rfl ?_
  refine ccr (rest := []) (st1 := [.int (fX1_isIn x1 0 3)]) S hX hM (metX1_isIn l D h0 x1 0 3 _ rfl) (ci_S (As := [.int x1, .int 0, .int 3]) (rest := []) S q1150 q821 q103 q822 hyX1_isIn hlX1_isIn rfl dX1_walked_3) q822 q103 (Nat.le_of_ble_eq_true rfl) (Nat.le_of_ble_eq_true rfl) hl.1 (Nat.le_of_ble_eq_true rfl) rfl (fun H locs cs ss hM => ?_)
  refine lv_if_eq (tgt := 18) hx hb dX1_walked_6 (by decide) (fun c2 => ?_) (fun c2 => ?_)
  · have hF := ifp hF c2
    refine lv_iconst (v := (-1)) hx hb dX1_walked_18 rfl ?_
    have hz := (Option.some.inj hF)
    subst hz
    exact cri S hM hr hlocks dX1_walked_19
  · have hF := ifn hF c2
    refine lv_aload_n hx hb dX1_walked_9 rfl (lv_at hl 0 rfl) ?_
    obtain ⟨a3, ea3, hF⟩ := obn hF
    refine cgn S hX hM ea3 ck_1_1_21 q345 (fun _ h => h) dX1_walked_10 ?_
    refine lv_iload_n hx hb dX1_walked_13 rfl (lv_at hl 1 rfl) ?_
    obtain ⟨v4, ev4, hF⟩ := obn hF
    refine cai S hX hM ev4 dX1_walked_14 ?_
    refine lv_goto (tgt := 19) hx hb dX1_walked_15 (by decide) ?_
    have hz := (Option.some.inj hF)
    subst hz
    exact cri S hM hr hlocks dX1_walked_19
def fJ16_intValue (F : Nat) (h0 : HS) (x0 : Nat) : Option (Int32) := ((oI h0 x0 18 18 0).bind fun v1 => some v1)
theorem hyJ16_intValue : yJ16_intValue.cls ≠ "java/lang/invoke/MethodHandle" ∧ yJ16_intValue.cls ≠ "java/lang/invoke/VarHandle" := by decide +kernel
theorem hlJ16_intValue : (parseMethodDescriptor yJ16_intValue.desc).map (fun d => d.parameters.length) = some 0 := by decide +kernel
set_option maxHeartbeats 4000000 in
set_option maxRecDepth 100000 in
theorem metJ16_intValue (l : Launch) [NoTr l] (F : Nat) (D : va_G) (h0 : HS) (x0 : Nat) (r : Int32) (hF : fJ16_intValue F h0 x0 = some r) : CMet l yJ16_intValue (ws_ yJ16_intValue cJ16_intValue 1 (some .int)) 0 0 D [.ref x0] h0 h0 (.inr (some (.int r))) := by
  refine CMet.ofW (by decide) ?_
  intro p e s m below meth c s₁ B S hX hM hr hlocks hnt hin
  obtain ⟨hx, hb, hml, hown, hts⟩ := id S
  have hl := lv_entry ([.ref x0]) (n := 1) (Nat.le_of_ble_eq_true rfl)
  rw [lg_entry_eq]
  generalize (lg_sl ([.ref x0]) ++ List.replicate (1 - (lg_sl ([.ref x0])).length) Slot.unset).toArray = ls at hl ⊢
  have hl : lv_has ls 1 [(0, .ref x0)] := hl
  unfold fJ16_intValue at hF
  refine lv_aload_n hx hb dJ16_intValue_0 rfl (lv_at hl 0 rfl) ?_
  obtain ⟨v1, ev1, hF⟩ := obn hF
  refine cgi S hX hM ev1 ck_18_18_0 q1054 (fun _ h => h) dJ16_intValue_1 ?_
  have hz := (Option.some.inj hF)
  subst hz
  exact cri S hM hr hlocks dJ16_intValue_4
def fX1_look (F : Nat) (h0 : HS) (x0 : Nat) (x1 : Int32) (x2 : Int32) : Option (HS) := ((fR h0 x0 1 1 25).bind fun a1 => ((aI h0 a1 31 x1).bind fun v2 => (if v2 = (-1) then ((fR h0 x0 1 1 25).bind fun a4 => ((wI h0 a4 31 x1 x2).bind fun σ5 => ((fR σ5 x0 1 1 26).bind fun a6 => ((oI σ5 x0 1 1 27).bind fun v7 => ((wI σ5 a6 31 v7 x1).bind fun σ8 => ((oI σ8 x0 1 1 27).bind fun v9 => ((pI σ8 x0 1 1 27 (v9 + 1)).bind fun σ10 => some σ10))))))) else (some h0))))
theorem hyX1_look : yX1_look.cls ≠ "java/lang/invoke/MethodHandle" ∧ yX1_look.cls ≠ "java/lang/invoke/VarHandle" := by decide +kernel
theorem hlX1_look : (parseMethodDescriptor yX1_look.desc).map (fun d => d.parameters.length) = some 2 := by decide +kernel
set_option maxHeartbeats 4000000 in
set_option maxRecDepth 100000 in
theorem metX1_look (l : Launch) [NoTr l] (F : Nat) (D : va_G) (h0 : HS) (x0 : Nat) (x1 : Int32) (x2 : Int32) (r : HS) (hF : fX1_look F h0 x0 x1 x2 = some r) : CMet l yX1_look (ws_ yX1_look cX1_look 3 none) 0 0 D [.ref x0, .int x1, .int x2] h0 r (.inr none) := by
  refine CMet.ofW (by decide) ?_
  intro p e s m below meth c s₁ B S hX hM hr hlocks hnt hin
  obtain ⟨hx, hb, hml, hown, hts⟩ := id S
  have hl := lv_entry ([.ref x0, .int x1, .int x2]) (n := 3) (Nat.le_of_ble_eq_true rfl)
  rw [lg_entry_eq]
  generalize (lg_sl ([.ref x0, .int x1, .int x2]) ++ List.replicate (3 - (lg_sl ([.ref x0, .int x1, .int x2])).length) Slot.unset).toArray = ls at hl ⊢
  have hl : lv_has ls 3 [(0, .ref x0), (1, .int x1), (2, .int x2)] := hl
  unfold fX1_look at hF
  refine lv_aload_n hx hb dX1_look_0 rfl (lv_at hl 0 rfl) ?_
  obtain ⟨a1, ea1, hF⟩ := obn hF
  refine cgn S hX hM ea1 ck_1_1_25 q349 (fun _ h => h) dX1_look_1 ?_
  refine lv_iload_n hx hb dX1_look_4 rfl (lv_at hl 1 rfl) ?_
  obtain ⟨v2, ev2, hF⟩ := obn hF
  refine cai S hX hM ev2 dX1_look_5 ?_
  refine lv_iconst (v := (-1)) hx hb dX1_look_6 rfl ?_
  refine lv_icmp_eq (tgt := 11) hx hb dX1_look_7 (by decide) (fun c3 => ?_) (fun c3 => ?_)
  · have hF := ifp hF c3
    refine lv_aload_n hx hb dX1_look_11 rfl (lv_at hl 0 rfl) ?_
    obtain ⟨a4, ea4, hF⟩ := obn hF
    refine cgn S hX hM ea4 ck_1_1_25 q349 (fun _ h => h) dX1_look_12 ?_
    refine lv_iload_n hx hb dX1_look_15 rfl (lv_at hl 1 rfl) ?_
    refine lv_iload_n hx hb dX1_look_16 rfl (lv_at hl 2 rfl) ?_
    obtain ⟨σ5, eσ5, hF⟩ := obn hF
    refine cwi S hX hM eσ5 dX1_look_17 (fun H locs hM => ?_)
    refine lv_aload_n hx hb dX1_look_18 rfl (lv_at hl 0 rfl) ?_
    obtain ⟨a6, ea6, hF⟩ := obn hF
    refine cgn S hX hM ea6 ck_1_1_26 q350 (fun _ h => h) dX1_look_19 ?_
    refine lv_aload_n hx hb dX1_look_22 rfl (lv_at hl 0 rfl) ?_
    obtain ⟨v7, ev7, hF⟩ := obn hF
    refine cgi S hX hM ev7 ck_1_1_27 q351 (fun _ h => h) dX1_look_23 ?_
    refine lv_iload_n hx hb dX1_look_26 rfl (lv_at hl 1 rfl) ?_
    obtain ⟨σ8, eσ8, hF⟩ := obn hF
    refine cwi S hX hM eσ8 dX1_look_27 (fun H locs hM => ?_)
    refine lv_aload_n hx hb dX1_look_28 rfl (lv_at hl 0 rfl) ?_
    refine lv_dup hx hb dX1_look_29 rfl ?_
    obtain ⟨v9, ev9, hF⟩ := obn hF
    refine cgi S hX hM ev9 ck_1_1_27 q351 (fun _ h => h) dX1_look_30 ?_
    refine lv_iconst (v := 1) hx hb dX1_look_33 rfl ?_
    refine lv_iadd hx hb dX1_look_34 ?_
    obtain ⟨σ10, eσ10, hF⟩ := obn hF
    refine cpi S hX hM eσ10 ck_1_1_27 cw_1_1_27 rfl rfl q351 (fun _ h => h) dX1_look_35 (fun H locs hM => ?_)
    have hz := (Option.some.inj hF)
    subst hz
    exact crv S hM hr hlocks dX1_look_38
  · have hF := ifn hF c3
    have hz := (Option.some.inj hF)
    subst hz
    exact crv S hM hr hlocks dX1_look_10
def lX1_entered_19 (F : Nat) : Nat → HS → Nat → Int32 → Int32 → Int32 → Option (HS)
  | 0, _, _, _, _, _ => none
  | n + 1, σ, y0, y1, y2, y3 => (if 4 ≤ y3 then (some σ) else ((fR σ y0 1 1 3).bind fun a5 => gT σ a5 2 2 (((fX2_beside F σ a5 y1 y3).bind fun r6 => (if r6 = (-1) then (lX1_entered_19 F n σ y0 y1 y2 (y3 + 1)) else ((fR σ y0 1 1 24).bind fun a8 => ((fA σ a8 38 r6).bind fun a9 => ((aI σ a9 33 (irm (y3 + 2) 4)).bind fun v10 => (if v10 = 0 then (lX1_entered_19 F n σ y0 y1 y2 (y3 + 1)) else (gT σ y0 1 1 (((fX1_look F σ y0 ((2 * r6) + 1) y2).bind fun r12 => lX1_entered_19 F n r12 y0 y1 y2 (y3 + 1)))))))))))))
def fX1_entered (F : Nat) (h0 : HS) (x0 : Nat) (x1 : Int32) (x2 : Int32) : Option (HS) := ((fR h0 x0 1 1 23).bind fun a1 => ((aI h0 a1 33 x1).bind fun v2 => (if v2 = 0 then (gT h0 x0 1 1 (((fX1_look F h0 x0 (x2 + 1) x2).bind fun r14 => ((lX1_entered_19 F F r14 x0 x1 x2 0).bind fun q15 => some q15)))) else ((lX1_entered_19 F F h0 x0 x1 x2 0).bind fun q13 => some q13))))
theorem hyX1_entered : yX1_entered.cls ≠ "java/lang/invoke/MethodHandle" ∧ yX1_entered.cls ≠ "java/lang/invoke/VarHandle" := by decide +kernel
theorem hlX1_entered : (parseMethodDescriptor yX1_entered.desc).map (fun d => d.parameters.length) = some 2 := by decide +kernel
set_option maxHeartbeats 4000000 in
set_option maxRecDepth 100000 in
theorem wlX1_entered_19 {p : Program} {l : Launch} [NoTr l] {e : Env} {s : State} {m : MethodId} {args : Array Value} {below : List Frame} {meth : Method} {c : Code} {D : va_G} {h0 : HS} (S : CallFix p m c cX1_entered 5 s args lw_all RX1) (hX : CX D (kG h0) s) (F : Nat) {Q : State → Prop} : ∀ (n : Nat) (σ : HS) (y0 : Nat) (y1 : Int32) (y2 : Int32) (y3 : Int32) (out : HS), lX1_entered_19 F n σ y0 y1 y2 y3 = some out → (∀ (H : Heap) (locs : List Loc) (cs ss : Nat) (ls : Array Slot), HI D h0 out s.heap H locs cs ss → lv_has ls 5 [] → W p l e (cR 3 68 h0) s m args below meth c H locs cs ss Q (F0 m 74 ls [])) → ∀ (H : Heap) (locs : List Loc) (cs ss : Nat) (ls : Array Slot), HI D h0 σ s.heap H locs cs ss → lv_has ls 5 [(0, .ref y0), (1, .int y1), (2, .int y2), (3, .int y3)] → W p l e (cR 3 68 h0) s m args below meth c H locs cs ss Q (F0 m 19 ls []) := by
  intro n
  induction n with
  | zero =>
    intro σ y0 y1 y2 y3 out hF
    cases (show (none : Option _) = some out from hF)
  | succ n ih =>
    intro σ y0 y1 y2 y3 out hF hk H locs cs ss ls hM hl
    rw [lX1_entered_19] at hF
    obtain ⟨hx, hb, hml, hown, hts⟩ := id S
    refine lv_iload_n hx hb dX1_entered_19 rfl (lv_at hl 3 rfl) ?_
    refine lv_iconst (v := 4) hx hb dX1_entered_20 rfl ?_
    refine lv_icmp_ge (tgt := 74) hx hb dX1_entered_21 (by decide) (fun c4 => ?_) (fun c4 => ?_)
    · have hF := ifp hF c4
      cases hF
      exact hk _ _ _ _ _ hM (lv_sub hl [] rfl)
    · have hF := ifn hF c4
      refine lv_aload_n hx hb dX1_entered_24 rfl (lv_at hl 0 rfl) ?_
      obtain ⟨a5, ea5, hF⟩ := obn hF
      refine cgn S hX hM ea5 ck_1_1_3 q327 (fun _ h => h) dX1_entered_25 ?_
      refine lv_iload_n hx hb dX1_entered_28 rfl (lv_at hl 1 rfl) ?_
      refine lv_iload_n hx hb dX1_entered_29 rfl (lv_at hl 3 rfl) ?_
      obtain ⟨z6, hF⟩ := gTe hF
      obtain ⟨r6, er6, hF⟩ := obn hF
      refine ccr (rest := []) (st1 := [.int r6]) S hX hM (metX2_beside l F D σ a5 y1 y3 r6 er6) (ci_V (C := "RugReader$House") (As := [.int y1, .int y3]) (rest := []) S q1422 q1110 q1111 q1112 hyX2_beside (HI.cell (ci := 1) hX hM (by decide) (by omega)) hlX2_beside rfl dX1_entered_30) q1112 q104 (Nat.le_of_ble_eq_true rfl) (Nat.le_of_ble_eq_true rfl) hl.1 (Nat.le_of_ble_eq_true rfl) rfl (fun H locs cs ss hM => ?_)
      refine lv_istore (lv' := [(4, .int r6), (0, .ref y0), (1, .int y1), (2, .int y2), (3, .int y3)]) hx hb dX1_entered_33 hl (by decide) rfl (fun ls hl => ?_)
      refine lv_iload hx hb dX1_entered_35 (lv_at hl 0 rfl) ?_
      refine lv_iconst (v := (-1)) hx hb dX1_entered_37 rfl ?_
      refine lv_icmp_eq (tgt := 68) hx hb dX1_entered_38 (by decide) (fun c7 => ?_) (fun c7 => ?_)
      · have hF := ifp hF c7
        refine lv_iinc (v := y3 + 1) (lv' := [(3, .int (y3 + 1)), (4, .int r6), (0, .ref y0), (1, .int y1), (2, .int y2)]) hx hb dX1_entered_68 hl (k := 4) rfl rfl (by decide) rfl (fun ls hl => ?_)
        refine lv_goto (tgt := 19) hx hb dX1_entered_71 (by decide) ?_
        exact ih _ _ _ _ _ out hF hk _ _ _ _ _ hM (lv_sub hl [2, 3, 4, 0] rfl)
      · have hF := ifn hF c7
        refine lv_aload_n hx hb dX1_entered_41 rfl (lv_at hl 1 rfl) ?_
        obtain ⟨a8, ea8, hF⟩ := obn hF
        refine cgn S hX hM ea8 ck_1_1_24 q348 (fun _ h => h) dX1_entered_42 ?_
        refine lv_iload hx hb dX1_entered_45 (lv_at hl 0 rfl) ?_
        obtain ⟨a9, ea9, hF⟩ := obn hF
        refine can38 S hX hM ea9 dX1_entered_47 ?_
        refine lv_iload_n hx hb dX1_entered_48 rfl (lv_at hl 4 rfl) ?_
        refine lv_iconst (v := 2) hx hb dX1_entered_49 rfl ?_
        refine lv_iadd hx hb dX1_entered_50 ?_
        refine lv_iconst (v := 4) hx hb dX1_entered_51 rfl ?_
        refine lv_irem hx hb dX1_entered_52 (by decide) ?_
        obtain ⟨v10, ev10, hF⟩ := obn hF
        refine caz S hX hM ev10 dX1_entered_53 ?_
        refine lv_if_eq (tgt := 68) hx hb dX1_entered_54 (by decide) (fun c11 => ?_) (fun c11 => ?_)
        · have hF := ifp hF c11
          refine lv_iinc (v := y3 + 1) (lv' := [(3, .int (y3 + 1)), (4, .int r6), (0, .ref y0), (1, .int y1), (2, .int y2)]) hx hb dX1_entered_68 hl (k := 4) rfl rfl (by decide) rfl (fun ls hl => ?_)
          refine lv_goto (tgt := 19) hx hb dX1_entered_71 (by decide) ?_
          exact ih _ _ _ _ _ out hF hk _ _ _ _ _ hM (lv_sub hl [2, 3, 4, 0] rfl)
        · have hF := ifn hF c11
          refine lv_aload_n hx hb dX1_entered_57 rfl (lv_at hl 1 rfl) ?_
          refine lv_iconst (v := 2) hx hb dX1_entered_58 rfl ?_
          refine lv_iload hx hb dX1_entered_59 (lv_at hl 0 rfl) ?_
          refine lv_imul hx hb dX1_entered_61 ?_
          refine lv_iconst (v := 1) hx hb dX1_entered_62 rfl ?_
          refine lv_iadd hx hb dX1_entered_63 ?_
          refine lv_iload_n hx hb dX1_entered_64 rfl (lv_at hl 3 rfl) ?_
          obtain ⟨z12, hF⟩ := gTe hF
          obtain ⟨r12, er12, hF⟩ := obn hF
          refine ccr (rest := []) (st1 := []) S hX hM (metX1_look l F D σ y0 ((2 * r6) + 1) y2 r12 er12) (ci_V (C := "RugReader") (As := [.int ((2 * r6) + 1), .int y2]) (rest := []) S q1431 q1433 qs32 q1434 hyX1_look (HI.cell (ci := 0) hX hM (by decide) (by omega)) hlX1_look rfl dX1_entered_65) q1434 q103 (Nat.le_of_ble_eq_true rfl) (Nat.le_of_ble_eq_true rfl) hl.1 (Nat.le_of_ble_eq_true rfl) rfl (fun H locs cs ss hM => ?_)
          refine lv_iinc (v := y3 + 1) (lv' := [(3, .int (y3 + 1)), (4, .int r6), (0, .ref y0), (1, .int y1), (2, .int y2)]) hx hb dX1_entered_68 hl (k := 4) rfl rfl (by decide) rfl (fun ls hl => ?_)
          refine lv_goto (tgt := 19) hx hb dX1_entered_71 (by decide) ?_
          exact ih _ _ _ _ _ out hF hk _ _ _ _ _ hM (lv_sub hl [2, 3, 4, 0] rfl)
set_option maxHeartbeats 4000000 in
set_option maxRecDepth 100000 in
theorem metX1_entered (l : Launch) [NoTr l] (F : Nat) (D : va_G) (h0 : HS) (x0 : Nat) (x1 : Int32) (x2 : Int32) (r : HS) (hF : fX1_entered F h0 x0 x1 x2 = some r) : CMet l yX1_entered (ws_ yX1_entered cX1_entered 5 none) 3 68 D [.ref x0, .int x1, .int x2] h0 r (.inr none) := by
  refine CMet.ofW (by decide) ?_
  intro p e s m below meth c s₁ B S hX hM hr hlocks hnt hin
  obtain ⟨hx, hb, hml, hown, hts⟩ := id S
  have hl := lv_entry ([.ref x0, .int x1, .int x2]) (n := 5) (Nat.le_of_ble_eq_true rfl)
  rw [lg_entry_eq]
  generalize (lg_sl ([.ref x0, .int x1, .int x2]) ++ List.replicate (5 - (lg_sl ([.ref x0, .int x1, .int x2])).length) Slot.unset).toArray = ls at hl ⊢
  have hl : lv_has ls 5 [(0, .ref x0), (1, .int x1), (2, .int x2)] := hl
  unfold fX1_entered at hF
  refine lv_aload_n hx hb dX1_entered_0 rfl (lv_at hl 0 rfl) ?_
  obtain ⟨a1, ea1, hF⟩ := obn hF
  refine cgn S hX hM ea1 ck_1_1_23 q347 (fun _ h => h) dX1_entered_1 ?_
  refine lv_iload_n hx hb dX1_entered_4 rfl (lv_at hl 1 rfl) ?_
  obtain ⟨v2, ev2, hF⟩ := obn hF
  refine caz S hX hM ev2 dX1_entered_5 ?_
  refine lv_if_ne (tgt := 17) hx hb dX1_entered_6 (by decide) (fun c3 => ?_) (fun c3 => ?_)
  · have hF := ifn hF c3
    refine lv_iconst (v := 0) hx hb dX1_entered_17 rfl ?_
    refine lv_istore_n (lv' := [(3, .int 0), (0, .ref x0), (1, .int x1), (2, .int x2)]) hx hb dX1_entered_18 rfl hl (by decide) rfl (fun ls hl => ?_)
    obtain ⟨q13, hq13, hF⟩ := obn hF
    refine wlX1_entered_19 S hX F  F _ _ _ _ _ q13 hq13 (fun H locs cs ss ls hM hl => ?_) _ _ _ _ _ hM (lv_sub hl [1, 2, 3, 0] rfl)
    have hz := (Option.some.inj hF)
    subst hz
    exact crv S hM hr hlocks dX1_entered_74
  · have hF := ifp hF c3
    refine lv_aload_n hx hb dX1_entered_9 rfl (lv_at hl 0 rfl) ?_
    refine lv_iload_n hx hb dX1_entered_10 rfl (lv_at hl 2 rfl) ?_
    refine lv_iconst (v := 1) hx hb dX1_entered_11 rfl ?_
    refine lv_iadd hx hb dX1_entered_12 ?_
    refine lv_iload_n hx hb dX1_entered_13 rfl (lv_at hl 2 rfl) ?_
    obtain ⟨z14, hF⟩ := gTe hF
    obtain ⟨r14, er14, hF⟩ := obn hF
    refine ccr (rest := []) (st1 := []) S hX hM (metX1_look l F D h0 x0 (x2 + 1) x2 r14 er14) (ci_V (C := "RugReader") (As := [.int (x2 + 1), .int x2]) (rest := []) S q1431 q1433 qs32 q1434 hyX1_look (HI.cell (ci := 0) hX hM (by decide) (by omega)) hlX1_look rfl dX1_entered_14) q1434 q103 (Nat.le_of_ble_eq_true rfl) (Nat.le_of_ble_eq_true rfl) hl.1 (Nat.le_of_ble_eq_true rfl) rfl (fun H locs cs ss hM => ?_)
    refine lv_iconst (v := 0) hx hb dX1_entered_17 rfl ?_
    refine lv_istore_n (lv' := [(3, .int 0), (0, .ref x0), (1, .int x1), (2, .int x2)]) hx hb dX1_entered_18 rfl hl (by decide) rfl (fun ls hl => ?_)
    obtain ⟨q15, hq15, hF⟩ := obn hF
    refine wlX1_entered_19 S hX F  F _ _ _ _ _ q15 hq15 (fun H locs cs ss ls hM hl => ?_) _ _ _ _ _ hM (lv_sub hl [1, 2, 3, 0] rfl)
    have hz := (Option.some.inj hF)
    subst hz
    exact crv S hM hr hlocks dX1_entered_74
def lX1_layRow_88 (F : Nat) (σ : HS) : Nat → Nat → Int32 → Int32 → Int32 → Int32 → Int32 → Option (Int32)
  | 0, _, _, _, _, _, _ => none
  | n + 1, y0, y2, y3, y7, y8, y9 => ((fR σ y0 1 1 3).bind fun a9 => gT σ a9 2 2 (((fX2_beside F σ a9 y8 y7).bind fun r10 => (if r10 = y9 then (some y7) else (lX1_layRow_88 F σ n y0 y2 y3 (y7 + 1) y8 y9)))))
def lX1_layRow_2 (F : Nat) : Nat → HS → Nat → Int32 → Int32 → Option (HS)
  | 0, _, _, _, _ => none
  | n + 1, σ, y0, y2, y3 => (if y3 = y2 then (some σ) else ((fR σ y0 1 1 25).bind fun a2 => ((aI σ a2 31 y3).bind fun v3 => (if (y3 / 2) = (v3 / 2) then ((fR σ y0 1 1 23).bind fun a20 => (lt_ (if (irm y3 2) = 1 then 1 else 0) fun q21 => ((wI σ a20 33 (y3 / 2) (vp_nar .boolean q21)).bind fun σ23 => ((fR σ23 y0 1 1 25).bind fun a24 => ((aI σ23 a24 31 y3).bind fun v25 => lX1_layRow_2 F n σ23 y0 y2 v25))))) else (lt_ (if (irm y3 2) = 0 then (v3 / 2) else (y3 / 2)) fun q5 => (lt_ (if (irm y3 2) = 0 then (y3 / 2) else (v3 / 2)) fun q7 => ((lX1_layRow_88 F σ F y0 y2 y3 0 q5 q7).bind fun q12 => ((fR σ y0 1 1 24).bind fun a13 => ((fA σ a13 38 q5).bind fun a14 => (lt_ (if (irm y3 2) = 0 then 1 else 0) fun q15 => ((wI σ a14 33 q12 (vp_nar .boolean q15)).bind fun σ17 => ((fR σ17 y0 1 1 25).bind fun a18 => ((aI σ17 a18 31 y3).bind fun v19 => lX1_layRow_2 F n σ17 y0 y2 v19)))))))))))))
def fX1_layRow (F : Nat) (h0 : HS) (x0 : Nat) (x1 : Int32) (x2 : Int32) : Option (HS) := ((lX1_layRow_2 F F h0 x0 x2 x1).bind fun q26 => some q26)
theorem hyX1_layRow : yX1_layRow.cls ≠ "java/lang/invoke/MethodHandle" ∧ yX1_layRow.cls ≠ "java/lang/invoke/VarHandle" := by decide +kernel
theorem hlX1_layRow : (parseMethodDescriptor yX1_layRow.desc).map (fun d => d.parameters.length) = some 2 := by decide +kernel
set_option maxHeartbeats 4000000 in
set_option maxRecDepth 100000 in
theorem wlX1_layRow_88 {p : Program} {l : Launch} [NoTr l] {e : Env} {s : State} {m : MethodId} {args : Array Value} {below : List Frame} {meth : Method} {c : Code} {D : va_G} {h0 : HS} (S : CallFix p m c cX1_layRow 10 s args lw_all RX1) (hX : CX D (kG h0) s) (σ : HS) (F : Nat) {Q : State → Prop} : ∀ (n : Nat) (y0 : Nat) (y2 : Int32) (y3 : Int32) (y7 : Int32) (y8 : Int32) (y9 : Int32) (out : Int32), lX1_layRow_88 F σ n y0 y2 y3 y7 y8 y9 = some out → (∀ (H : Heap) (locs : List Loc) (cs ss : Nat) (ls : Array Slot), HI D h0 σ s.heap H locs cs ss → lv_has ls 10 [(0, .ref y0), (2, .int y2), (3, .int y3), (7, .int out), (8, .int y8)] → W p l e (cR 3 68 h0) s m args below meth c H locs cs ss Q (F0 m 110 ls [])) → ∀ (H : Heap) (locs : List Loc) (cs ss : Nat) (ls : Array Slot), HI D h0 σ s.heap H locs cs ss → lv_has ls 10 [(0, .ref y0), (2, .int y2), (3, .int y3), (7, .int y7), (8, .int y8), (9, .int y9)] → W p l e (cR 3 68 h0) s m args below meth c H locs cs ss Q (F0 m 88 ls []) := by
  intro n
  induction n with
  | zero =>
    intro y0 y2 y3 y7 y8 y9 out hF
    cases (show (none : Option _) = some out from hF)
  | succ n ih =>
    intro y0 y2 y3 y7 y8 y9 out hF hk H locs cs ss ls hM hl
    rw [lX1_layRow_88] at hF
    obtain ⟨hx, hb, hml, hown, hts⟩ := id S
    refine lv_aload_n hx hb dX1_layRow_88 rfl (lv_at hl 0 rfl) ?_
    obtain ⟨a9, ea9, hF⟩ := obn hF
    refine cgn S hX hM ea9 ck_1_1_3 q327 (fun _ h => h) dX1_layRow_89 ?_
    refine lv_iload hx hb dX1_layRow_92 (lv_at hl 4 rfl) ?_
    refine lv_iload hx hb dX1_layRow_94 (lv_at hl 3 rfl) ?_
    obtain ⟨z10, hF⟩ := gTe hF
    obtain ⟨r10, er10, hF⟩ := obn hF
    refine ccr (rest := []) (st1 := [.int r10]) S hX hM (metX2_beside l F D σ a9 y8 y7 r10 er10) (ci_V (C := "RugReader$House") (As := [.int y8, .int y7]) (rest := []) S q1422 q1110 q1111 q1112 hyX2_beside (HI.cell (ci := 1) hX hM (by decide) (by omega)) hlX2_beside rfl dX1_layRow_96) q1112 q104 (Nat.le_of_ble_eq_true rfl) (Nat.le_of_ble_eq_true rfl) hl.1 (Nat.le_of_ble_eq_true rfl) rfl (fun H locs cs ss hM => ?_)
    refine lv_iload hx hb dX1_layRow_99 (lv_at hl 5 rfl) ?_
    refine lv_icmp_eq (tgt := 110) hx hb dX1_layRow_101 (by decide) (fun c11 => ?_) (fun c11 => ?_)
    · have hF := ifp hF c11
      cases hF
      exact hk _ _ _ _ _ hM (lv_sub hl [0, 1, 2, 3, 4] rfl)
    · have hF := ifn hF c11
      refine lv_iinc (v := y7 + 1) (lv' := [(7, .int (y7 + 1)), (0, .ref y0), (2, .int y2), (3, .int y3), (8, .int y8), (9, .int y9)]) hx hb dX1_layRow_104 hl (k := 3) rfl rfl (by decide) rfl (fun ls hl => ?_)
      refine lv_goto (tgt := 88) hx hb dX1_layRow_107 (by decide) ?_
      exact ih _ _ _ _ _ _ out hF hk _ _ _ _ _ hM (lv_sub hl [1, 2, 3, 0, 4, 5] rfl)
set_option maxHeartbeats 4000000 in
set_option maxRecDepth 100000 in
theorem wlX1_layRow_2 {p : Program} {l : Launch} [NoTr l] {e : Env} {s : State} {m : MethodId} {args : Array Value} {below : List Frame} {meth : Method} {c : Code} {D : va_G} {h0 : HS} (S : CallFix p m c cX1_layRow 10 s args lw_all RX1) (hX : CX D (kG h0) s) (F : Nat) {Q : State → Prop} : ∀ (n : Nat) (σ : HS) (y0 : Nat) (y2 : Int32) (y3 : Int32) (out : HS), lX1_layRow_2 F n σ y0 y2 y3 = some out → (∀ (H : Heap) (locs : List Loc) (cs ss : Nat) (ls : Array Slot), HI D h0 out s.heap H locs cs ss → lv_has ls 10 [] → W p l e (cR 3 68 h0) s m args below meth c H locs cs ss Q (F0 m 141 ls [])) → ∀ (H : Heap) (locs : List Loc) (cs ss : Nat) (ls : Array Slot), HI D h0 σ s.heap H locs cs ss → lv_has ls 10 [(0, .ref y0), (2, .int y2), (3, .int y3)] → W p l e (cR 3 68 h0) s m args below meth c H locs cs ss Q (F0 m 2 ls []) := by
  intro n
  induction n with
  | zero =>
    intro σ y0 y2 y3 out hF
    cases (show (none : Option _) = some out from hF)
  | succ n ih =>
    intro σ y0 y2 y3 out hF hk H locs cs ss ls hM hl
    rw [lX1_layRow_2] at hF
    obtain ⟨hx, hb, hml, hown, hts⟩ := id S
    refine lv_iload_n hx hb dX1_layRow_2 rfl (lv_at hl 2 rfl) ?_
    refine lv_iload_n hx hb dX1_layRow_3 rfl (lv_at hl 1 rfl) ?_
    refine lv_icmp_eq (tgt := 141) hx hb dX1_layRow_4 (by decide) (fun c1 => ?_) (fun c1 => ?_)
    · have hF := ifp hF c1
      cases hF
      exact hk _ _ _ _ _ hM (lv_sub hl [] rfl)
    · have hF := ifn hF c1
      refine lv_aload_n hx hb dX1_layRow_7 rfl (lv_at hl 0 rfl) ?_
      obtain ⟨a2, ea2, hF⟩ := obn hF
      refine cgn S hX hM ea2 ck_1_1_25 q349 (fun _ h => h) dX1_layRow_8 ?_
      refine lv_iload_n hx hb dX1_layRow_11 rfl (lv_at hl 2 rfl) ?_
      obtain ⟨v3, ev3, hF⟩ := obn hF
      refine cai S hX hM ev3 dX1_layRow_12 ?_
      refine lv_istore (lv' := [(4, .int v3), (0, .ref y0), (2, .int y2), (3, .int y3)]) hx hb dX1_layRow_13 hl (by decide) rfl (fun ls hl => ?_)
      refine lv_iload_n hx hb dX1_layRow_15 rfl (lv_at hl 3 rfl) ?_
      refine lv_iconst (v := 2) hx hb dX1_layRow_16 rfl ?_
      refine lv_idiv hx hb dX1_layRow_17 (by decide) ?_
      refine lv_istore (lv' := [(5, .int (y3 / 2)), (4, .int v3), (0, .ref y0), (2, .int y2), (3, .int y3)]) hx hb dX1_layRow_18 hl (by decide) rfl (fun ls hl => ?_)
      refine lv_iload hx hb dX1_layRow_20 (lv_at hl 1 rfl) ?_
      refine lv_iconst (v := 2) hx hb dX1_layRow_22 rfl ?_
      refine lv_idiv hx hb dX1_layRow_23 (by decide) ?_
      refine lv_istore (lv' := [(6, .int (v3 / 2)), (5, .int (y3 / 2)), (4, .int v3), (0, .ref y0), (2, .int y2), (3, .int y3)]) hx hb dX1_layRow_24 hl (by decide) rfl (fun ls hl => ?_)
      refine lv_iload hx hb dX1_layRow_26 (lv_at hl 1 rfl) ?_
      refine lv_iload hx hb dX1_layRow_28 (lv_at hl 0 rfl) ?_
      refine lv_icmp_ne (tgt := 55) hx hb dX1_layRow_30 (by decide) (fun c4 => ?_) (fun c4 => ?_)
      · have hF := ifn hF c4
        refine lv_iconst (v := 0) hx hb dX1_layRow_55 rfl ?_
        refine lv_istore (lv' := [(7, .int 0), (6, .int (v3 / 2)), (5, .int (y3 / 2)), (4, .int v3), (0, .ref y0), (2, .int y2), (3, .int y3)]) hx hb dX1_layRow_56 hl (by decide) rfl (fun ls hl => ?_)
        refine lv_iload_n hx hb dX1_layRow_58 rfl (lv_at hl 6 rfl) ?_
        refine lv_iconst (v := 2) hx hb dX1_layRow_59 rfl ?_
        refine lv_irem hx hb dX1_layRow_60 (by decide) ?_
        obtain ⟨q5, hq5, hF⟩ := lte hF
        refine cjn (I := HI D h0 σ s.heap) (nJ := 10) (lvJ := [(0, .ref y0), (2, .int y2), (3, .int y3), (5, .int (y3 / 2)), (6, .int (v3 / 2)), (7, .int 0)]) (J := 71) (stJ := [.int q5]) ?_ ?_
        · intro H locs cs ss ls hM hl
          refine lv_istore (lv' := [(8, .int q5), (0, .ref y0), (2, .int y2), (3, .int y3), (5, .int (y3 / 2)), (6, .int (v3 / 2)), (7, .int 0)]) hx hb dX1_layRow_71 hl (by decide) rfl (fun ls hl => ?_)
          refine lv_iload_n hx hb dX1_layRow_73 rfl (lv_at hl 3 rfl) ?_
          refine lv_iconst (v := 2) hx hb dX1_layRow_74 rfl ?_
          refine lv_irem hx hb dX1_layRow_75 (by decide) ?_
          obtain ⟨q7, hq7, hF⟩ := lte hF
          refine cjn (I := HI D h0 σ s.heap) (nJ := 10) (lvJ := [(0, .ref y0), (2, .int y2), (3, .int y3), (7, .int 0), (8, .int q5)]) (J := 86) (stJ := [.int q7]) ?_ ?_
          · intro H locs cs ss ls hM hl
            refine lv_istore (lv' := [(9, .int q7), (0, .ref y0), (2, .int y2), (3, .int y3), (7, .int 0), (8, .int q5)]) hx hb dX1_layRow_86 hl (by decide) rfl (fun ls hl => ?_)
            obtain ⟨q12, hq12, hF⟩ := obn hF
            refine wlX1_layRow_88 S hX _ F  F _ _ _ _ _ _ q12 hq12 (fun H locs cs ss ls hM hl => ?_) _ _ _ _ _ hM (lv_sub hl [1, 2, 3, 4, 5, 0] rfl)
            refine lv_aload_n hx hb dX1_layRow_110 rfl (lv_at hl 0 rfl) ?_
            obtain ⟨a13, ea13, hF⟩ := obn hF
            refine cgn S hX hM ea13 ck_1_1_24 q348 (fun _ h => h) dX1_layRow_111 ?_
            refine lv_iload hx hb dX1_layRow_114 (lv_at hl 4 rfl) ?_
            obtain ⟨a14, ea14, hF⟩ := obn hF
            refine can38 S hX hM ea14 dX1_layRow_116 ?_
            refine lv_iload hx hb dX1_layRow_117 (lv_at hl 3 rfl) ?_
            refine lv_iload_n hx hb dX1_layRow_119 rfl (lv_at hl 2 rfl) ?_
            refine lv_iconst (v := 2) hx hb dX1_layRow_120 rfl ?_
            refine lv_irem hx hb dX1_layRow_121 (by decide) ?_
            obtain ⟨q15, hq15, hF⟩ := lte hF
            refine cjn (I := HI D h0 σ s.heap) (nJ := 10) (lvJ := [(0, .ref y0), (2, .int y2), (3, .int y3)]) (J := 130) (stJ := [.int q15, .int q12, .ref a14]) ?_ ?_
            · intro H locs cs ss ls hM hl
              obtain ⟨σ17, eσ17, hF⟩ := obn hF
              refine cwz S hX hM eσ17 dX1_layRow_130 (fun H locs hM => ?_)
              refine lv_aload_n hx hb dX1_layRow_131 rfl (lv_at hl 0 rfl) ?_
              obtain ⟨a18, ea18, hF⟩ := obn hF
              refine cgn S hX hM ea18 ck_1_1_25 q349 (fun _ h => h) dX1_layRow_132 ?_
              refine lv_iload_n hx hb dX1_layRow_135 rfl (lv_at hl 2 rfl) ?_
              obtain ⟨v19, ev19, hF⟩ := obn hF
              refine cai S hX hM ev19 dX1_layRow_136 ?_
              refine lv_istore_n (lv' := [(3, .int v19), (0, .ref y0), (2, .int y2)]) hx hb dX1_layRow_137 rfl hl (by decide) rfl (fun ls hl => ?_)
              refine lv_goto (tgt := 2) hx hb dX1_layRow_138 (by decide) ?_
              exact ih _ _ _ _ out hF hk _ _ _ _ _ hM (lv_sub hl [1, 2, 0] rfl)
            · intro hJq15
              refine lv_if_ne (tgt := 129) hx hb dX1_layRow_122 (by decide) (fun c16 => ?_) (fun c16 => ?_)
              · have hq15 := ifn hq15 c16
                refine lv_iconst (v := 0) hx hb dX1_layRow_129 rfl ?_
                subst hq15
                exact hJq15 _ _ _ _ _ hM (lv_sub hl [0, 1, 2] rfl)
              · have hq15 := ifp hq15 c16
                refine lv_iconst (v := 1) hx hb dX1_layRow_125 rfl ?_
                refine lv_goto (tgt := 130) hx hb dX1_layRow_126 (by decide) ?_
                subst hq15
                exact hJq15 _ _ _ _ _ hM (lv_sub hl [0, 1, 2] rfl)
          · intro hJq7
            refine lv_if_ne (tgt := 84) hx hb dX1_layRow_76 (by decide) (fun c8 => ?_) (fun c8 => ?_)
            · have hq7 := ifn hq7 c8
              refine lv_iload hx hb dX1_layRow_84 (lv_at hl 5 rfl) ?_
              subst hq7
              exact hJq7 _ _ _ _ _ hM (lv_sub hl [1, 2, 3, 6, 0] rfl)
            · have hq7 := ifp hq7 c8
              refine lv_iload hx hb dX1_layRow_79 (lv_at hl 4 rfl) ?_
              refine lv_goto (tgt := 86) hx hb dX1_layRow_81 (by decide) ?_
              subst hq7
              exact hJq7 _ _ _ _ _ hM (lv_sub hl [1, 2, 3, 6, 0] rfl)
        · intro hJq5
          refine lv_if_ne (tgt := 69) hx hb dX1_layRow_61 (by decide) (fun c6 => ?_) (fun c6 => ?_)
          · have hq5 := ifn hq5 c6
            refine lv_iload hx hb dX1_layRow_69 (lv_at hl 2 rfl) ?_
            subst hq5
            exact hJq5 _ _ _ _ _ hM (lv_sub hl [4, 5, 6, 2, 1, 0] rfl)
          · have hq5 := ifp hq5 c6
            refine lv_iload hx hb dX1_layRow_64 (lv_at hl 1 rfl) ?_
            refine lv_goto (tgt := 71) hx hb dX1_layRow_66 (by decide) ?_
            subst hq5
            exact hJq5 _ _ _ _ _ hM (lv_sub hl [4, 5, 6, 2, 1, 0] rfl)
      · have hF := ifp hF c4
        refine lv_aload_n hx hb dX1_layRow_33 rfl (lv_at hl 3 rfl) ?_
        obtain ⟨a20, ea20, hF⟩ := obn hF
        refine cgn S hX hM ea20 ck_1_1_23 q347 (fun _ h => h) dX1_layRow_34 ?_
        refine lv_iload hx hb dX1_layRow_37 (lv_at hl 1 rfl) ?_
        refine lv_iload_n hx hb dX1_layRow_39 rfl (lv_at hl 5 rfl) ?_
        refine lv_iconst (v := 2) hx hb dX1_layRow_40 rfl ?_
        refine lv_irem hx hb dX1_layRow_41 (by decide) ?_
        refine lv_iconst (v := 1) hx hb dX1_layRow_42 rfl ?_
        obtain ⟨q21, hq21, hF⟩ := lte hF
        refine cjn (I := HI D h0 σ s.heap) (nJ := 10) (lvJ := [(0, .ref y0), (2, .int y2), (3, .int y3)]) (J := 51) (stJ := [.int q21, .int (y3 / 2), .ref a20]) ?_ ?_
        · intro H locs cs ss ls hM hl
          obtain ⟨σ23, eσ23, hF⟩ := obn hF
          refine cwz S hX hM eσ23 dX1_layRow_51 (fun H locs hM => ?_)
          refine lv_goto (tgt := 131) hx hb dX1_layRow_52 (by decide) ?_
          refine lv_aload_n hx hb dX1_layRow_131 rfl (lv_at hl 0 rfl) ?_
          obtain ⟨a24, ea24, hF⟩ := obn hF
          refine cgn S hX hM ea24 ck_1_1_25 q349 (fun _ h => h) dX1_layRow_132 ?_
          refine lv_iload_n hx hb dX1_layRow_135 rfl (lv_at hl 2 rfl) ?_
          obtain ⟨v25, ev25, hF⟩ := obn hF
          refine cai S hX hM ev25 dX1_layRow_136 ?_
          refine lv_istore_n (lv' := [(3, .int v25), (0, .ref y0), (2, .int y2)]) hx hb dX1_layRow_137 rfl hl (by decide) rfl (fun ls hl => ?_)
          refine lv_goto (tgt := 2) hx hb dX1_layRow_138 (by decide) ?_
          exact ih _ _ _ _ out hF hk _ _ _ _ _ hM (lv_sub hl [1, 2, 0] rfl)
        · intro hJq21
          refine lv_icmp_ne (tgt := 50) hx hb dX1_layRow_43 (by decide) (fun c22 => ?_) (fun c22 => ?_)
          · have hq21 := ifn hq21 c22
            refine lv_iconst (v := 0) hx hb dX1_layRow_50 rfl ?_
            subst hq21
            exact hJq21 _ _ _ _ _ hM (lv_sub hl [3, 4, 5] rfl)
          · have hq21 := ifp hq21 c22
            refine lv_iconst (v := 1) hx hb dX1_layRow_46 rfl ?_
            refine lv_goto (tgt := 51) hx hb dX1_layRow_47 (by decide) ?_
            subst hq21
            exact hJq21 _ _ _ _ _ hM (lv_sub hl [3, 4, 5] rfl)
set_option maxHeartbeats 4000000 in
set_option maxRecDepth 100000 in
theorem metX1_layRow (l : Launch) [NoTr l] (F : Nat) (D : va_G) (h0 : HS) (x0 : Nat) (x1 : Int32) (x2 : Int32) (r : HS) (hF : fX1_layRow F h0 x0 x1 x2 = some r) : CMet l yX1_layRow (ws_ yX1_layRow cX1_layRow 10 none) 3 68 D [.ref x0, .int x1, .int x2] h0 r (.inr none) := by
  refine CMet.ofW (by decide) ?_
  intro p e s m below meth c s₁ B S hX hM hr hlocks hnt hin
  obtain ⟨hx, hb, hml, hown, hts⟩ := id S
  have hl := lv_entry ([.ref x0, .int x1, .int x2]) (n := 10) (Nat.le_of_ble_eq_true rfl)
  rw [lg_entry_eq]
  generalize (lg_sl ([.ref x0, .int x1, .int x2]) ++ List.replicate (10 - (lg_sl ([.ref x0, .int x1, .int x2])).length) Slot.unset).toArray = ls at hl ⊢
  have hl : lv_has ls 10 [(0, .ref x0), (1, .int x1), (2, .int x2)] := hl
  unfold fX1_layRow at hF
  refine lv_iload_n hx hb dX1_layRow_0 rfl (lv_at hl 1 rfl) ?_
  refine lv_istore_n (lv' := [(3, .int x1), (0, .ref x0), (1, .int x1), (2, .int x2)]) hx hb dX1_layRow_1 rfl hl (by decide) rfl (fun ls hl => ?_)
  obtain ⟨q26, hq26, hF⟩ := obn hF
  refine wlX1_layRow_2 S hX F  F _ _ _ _ q26 hq26 (fun H locs cs ss ls hM hl => ?_) _ _ _ _ _ hM (lv_sub hl [1, 3, 0] rfl)
  have hz := (Option.some.inj hF)
  subst hz
  exact crv S hM hr hlocks dX1_layRow_141
def lX1_isMore_72 (F : Nat) : Nat → HS → Nat → Int32 → Int32 → Int32 → Int32 → Int32 → Int32 → Option ((HS) ⊕ (Int32 × HS))
  | 0, _, _, _, _, _, _, _, _ => none
  | n + 1, σ, y0, y1, y2, y3, y4, y5, y6 => (if 4 ≤ y6 then (some (.inl σ)) else ((fR σ y0 1 1 3).bind fun a11 => gT σ a11 2 2 (((fX2_open F σ a11 y5 y6).bind fun r12 => (if r12 = (-1) then (lX1_isMore_72 F n σ y0 y1 y2 y3 y4 y5 (y6 + 1)) else ((fR σ y0 1 1 22).bind fun a14 => ((aI σ a14 33 r12).bind fun v15 => (if v15 = 0 then (if r12 = y1 then (lX1_isMore_72 F n σ y0 y1 y2 y3 y4 y5 (y6 + 1)) else ((fR σ y0 1 1 24).bind fun a18 => ((fA σ a18 38 y5).bind fun a19 => ((aI σ a19 33 y6).bind fun v20 => (if v20 = 0 then (if r12 = y2 then ((fR σ y0 1 1 24).bind fun a24 => ((fA σ a24 38 y5).bind fun a25 => ((wI σ a25 33 y6 (vp_nar .boolean 1)).bind fun σ26 => gT σ26 y0 1 1 (((fX1_layRow F σ26 y0 y4 ((2 * y1) + 1)).bind fun r27 => some (.inr (1, r27))))))) else (gT σ y0 1 1 (((fX1_look F σ y0 (2 * r12) y4).bind fun r23 => lX1_isMore_72 F n r23 y0 y1 y2 y3 y4 y5 (y6 + 1))))) else (lX1_isMore_72 F n σ y0 y1 y2 y3 y4 y5 (y6 + 1))))))) else (lX1_isMore_72 F n σ y0 y1 y2 y3 y4 y5 (y6 + 1))))))))))
def lX1_isMore_29 (F : Nat) : Nat → HS → Nat → Int32 → Int32 → Int32 → Option ((HS) ⊕ (Int32 × HS))
  | 0, _, _, _, _, _ => none
  | n + 1, σ, y0, y1, y2, y3 => ((oI σ y0 1 1 27).bind fun v5 => (if v5 ≤ y3 then (some (.inl σ)) else ((fR σ y0 1 1 26).bind fun a7 => ((aI σ a7 31 y3).bind fun v8 => (if (irm v8 2) = 0 then (gT σ y0 1 1 (((fX1_entered F σ y0 (v8 / 2) v8).bind fun r33 => lX1_isMore_29 F n r33 y0 y1 y2 (y3 + 1)))) else (osm (lX1_isMore_72 F F σ y0 y1 y2 y3 v8 (v8 / 2) 0) Sum.inr fun q28 => ((fR q28 y0 1 1 23).bind fun a29 => ((aI q28 a29 33 (v8 / 2)).bind fun v30 => (if v30 = 0 then (lX1_isMore_29 F n q28 y0 y1 y2 (y3 + 1)) else (gT q28 y0 1 1 (((fX1_look F q28 y0 (2 * (v8 / 2)) v8).bind fun r32 => lX1_isMore_29 F n r32 y0 y1 y2 (y3 + 1)))))))))))))
def fX1_isMore (F : Nat) (h0 : HS) (x0 : Nat) (x1 : Int32) (x2 : Int32) : Option (Int32 × HS) := ((fR h0 x0 1 1 25).bind fun a1 => ((fJ3_fill F h0 a1 (-1)).bind fun r2 => ((pI r2 x0 1 1 27 0).bind fun σ3 => gT σ3 x0 1 1 (((fX1_look F σ3 x0 ((2 * x1) + 1) ((2 * x1) + 1)).bind fun r4 => (osm (lX1_isMore_29 F F r4 x0 x1 x2 0) id fun q34 => some (0, q34)))))))
theorem hyX1_isMore : yX1_isMore.cls ≠ "java/lang/invoke/MethodHandle" ∧ yX1_isMore.cls ≠ "java/lang/invoke/VarHandle" := by decide +kernel
theorem hlX1_isMore : (parseMethodDescriptor yX1_isMore.desc).map (fun d => d.parameters.length) = some 2 := by decide +kernel
set_option maxHeartbeats 4000000 in
set_option maxRecDepth 100000 in
theorem wlX1_isMore_72 {p : Program} {l : Launch} [NoTr l] {e : Env} {s : State} {m : MethodId} {args : Array Value} {below : List Frame} {meth : Method} {c : Code} {D : va_G} {h0 : HS} (S : CallFix p m c cX1_isMore 8 s args lw_all RX1) (hX : CX D (kG h0) s) (hr : meth.sig.returnType = (some .boolean)) (hlocks : meth.locks = false) (hnt : ∀ x ∈ c.exceptionTable.toList, False) (F : Nat) (res : Int32 × HS) : ∀ (n : Nat) (σ : HS) (y0 : Nat) (y1 : Int32) (y2 : Int32) (y3 : Int32) (y4 : Int32) (y5 : Int32) (y6 : Int32) (out : (HS) ⊕ (Int32 × HS)), lX1_isMore_72 F n σ y0 y1 y2 y3 y4 y5 y6 = some out → (∀ v, out = .inr v → v = res) → (∀ o, out = .inl o → ∀ (H : Heap) (locs : List Loc) (cs ss : Nat) (ls : Array Slot), HI D h0 o s.heap H locs cs ss → lv_has ls 8 [(0, .ref y0), (1, .int y1), (2, .int y2), (3, .int y3), (4, .int y4), (5, .int y5)] → W p l e (cR 4 97 h0) s m args below meth c H locs cs ss (cMQ below D h0 res.2 (.inr (some (.int res.1))) args s) (F0 m 175 ls [])) → ∀ (H : Heap) (locs : List Loc) (cs ss : Nat) (ls : Array Slot), HI D h0 σ s.heap H locs cs ss → lv_has ls 8 [(0, .ref y0), (1, .int y1), (2, .int y2), (3, .int y3), (4, .int y4), (5, .int y5), (6, .int y6)] → W p l e (cR 4 97 h0) s m args below meth c H locs cs ss (cMQ below D h0 res.2 (.inr (some (.int res.1))) args s) (F0 m 72 ls []) := by
  intro n
  induction n with
  | zero =>
    intro σ y0 y1 y2 y3 y4 y5 y6 out hF
    cases (show (none : Option _) = some out from hF)
  | succ n ih =>
    intro σ y0 y1 y2 y3 y4 y5 y6 out hF hv hk H locs cs ss ls hM hl
    rw [lX1_isMore_72] at hF
    obtain ⟨hx, hb, hml, hown, hts⟩ := id S
    refine lv_iload hx hb dX1_isMore_72 (lv_at hl 6 rfl) ?_
    refine lv_iconst (v := 4) hx hb dX1_isMore_74 rfl ?_
    refine lv_icmp_ge (tgt := 175) hx hb dX1_isMore_75 (by decide) (fun c10 => ?_) (fun c10 => ?_)
    · have hF := ifp hF c10
      cases hF
      exact hk _ rfl _ _ _ _ _ hM (lv_sub hl [0, 1, 2, 3, 4, 5] rfl)
    · have hF := ifn hF c10
      refine lv_aload_n hx hb dX1_isMore_78 rfl (lv_at hl 0 rfl) ?_
      obtain ⟨a11, ea11, hF⟩ := obn hF
      refine cgn S hX hM ea11 ck_1_1_3 q327 (fun _ h => h) dX1_isMore_79 ?_
      refine lv_iload hx hb dX1_isMore_82 (lv_at hl 5 rfl) ?_
      refine lv_iload hx hb dX1_isMore_84 (lv_at hl 6 rfl) ?_
      obtain ⟨z12, hF⟩ := gTe hF
      obtain ⟨r12, er12, hF⟩ := obn hF
      refine ccr (rest := []) (st1 := [.int r12]) S hX hM (metX2_open l F D σ a11 y5 y6 r12 er12) (ci_V (C := "RugReader$House") (As := [.int y5, .int y6]) (rest := []) S q1314 q1106 q1107 q1108 hyX2_open (HI.cell (ci := 1) hX hM (by decide) (by omega)) hlX2_open rfl dX1_isMore_86) q1108 q104 (Nat.le_of_ble_eq_true rfl) (Nat.le_of_ble_eq_true rfl) hl.1 (Nat.le_of_ble_eq_true rfl) rfl (fun H locs cs ss hM => ?_)
      refine lv_istore (lv' := [(7, .int r12), (0, .ref y0), (1, .int y1), (2, .int y2), (3, .int y3), (4, .int y4), (5, .int y5), (6, .int y6)]) hx hb dX1_isMore_89 hl (by decide) rfl (fun ls hl => ?_)
      refine lv_iload hx hb dX1_isMore_91 (lv_at hl 0 rfl) ?_
      refine lv_iconst (v := (-1)) hx hb dX1_isMore_93 rfl ?_
      refine lv_icmp_eq (tgt := 169) hx hb dX1_isMore_94 (by decide) (fun c13 => ?_) (fun c13 => ?_)
      · have hF := ifp hF c13
        refine lv_iinc (v := y6 + 1) (lv' := [(6, .int (y6 + 1)), (7, .int r12), (0, .ref y0), (1, .int y1), (2, .int y2), (3, .int y3), (4, .int y4), (5, .int y5)]) hx hb dX1_isMore_169 hl (k := 7) rfl rfl (by decide) rfl (fun ls hl => ?_)
        refine lv_goto (tgt := 72) hx hb dX1_isMore_172 (by decide) ?_
        exact ih _ _ _ _ _ _ _ _ out hF hv hk _ _ _ _ _ hM (lv_sub hl [2, 3, 4, 5, 6, 7, 0] rfl)
      · have hF := ifn hF c13
        refine lv_aload_n hx hb dX1_isMore_97 rfl (lv_at hl 1 rfl) ?_
        obtain ⟨a14, ea14, hF⟩ := obn hF
        refine cgn S hX hM ea14 ck_1_1_22 q346 (fun _ h => h) dX1_isMore_98 ?_
        refine lv_iload hx hb dX1_isMore_101 (lv_at hl 0 rfl) ?_
        obtain ⟨v15, ev15, hF⟩ := obn hF
        refine caz S hX hM ev15 dX1_isMore_103 ?_
        refine lv_if_ne (tgt := 169) hx hb dX1_isMore_104 (by decide) (fun c16 => ?_) (fun c16 => ?_)
        · have hF := ifn hF c16
          refine lv_iinc (v := y6 + 1) (lv' := [(6, .int (y6 + 1)), (7, .int r12), (0, .ref y0), (1, .int y1), (2, .int y2), (3, .int y3), (4, .int y4), (5, .int y5)]) hx hb dX1_isMore_169 hl (k := 7) rfl rfl (by decide) rfl (fun ls hl => ?_)
          refine lv_goto (tgt := 72) hx hb dX1_isMore_172 (by decide) ?_
          exact ih _ _ _ _ _ _ _ _ out hF hv hk _ _ _ _ _ hM (lv_sub hl [2, 3, 4, 5, 6, 7, 0] rfl)
        · have hF := ifp hF c16
          refine lv_iload hx hb dX1_isMore_107 (lv_at hl 0 rfl) ?_
          refine lv_iload_n hx hb dX1_isMore_109 rfl (lv_at hl 2 rfl) ?_
          refine lv_icmp_eq (tgt := 169) hx hb dX1_isMore_110 (by decide) (fun c17 => ?_) (fun c17 => ?_)
          · have hF := ifp hF c17
            refine lv_iinc (v := y6 + 1) (lv' := [(6, .int (y6 + 1)), (7, .int r12), (0, .ref y0), (1, .int y1), (2, .int y2), (3, .int y3), (4, .int y4), (5, .int y5)]) hx hb dX1_isMore_169 hl (k := 7) rfl rfl (by decide) rfl (fun ls hl => ?_)
            refine lv_goto (tgt := 72) hx hb dX1_isMore_172 (by decide) ?_
            exact ih _ _ _ _ _ _ _ _ out hF hv hk _ _ _ _ _ hM (lv_sub hl [2, 3, 4, 5, 6, 7, 0] rfl)
          · have hF := ifn hF c17
            refine lv_aload_n hx hb dX1_isMore_113 rfl (lv_at hl 1 rfl) ?_
            obtain ⟨a18, ea18, hF⟩ := obn hF
            refine cgn S hX hM ea18 ck_1_1_24 q348 (fun _ h => h) dX1_isMore_114 ?_
            refine lv_iload hx hb dX1_isMore_117 (lv_at hl 6 rfl) ?_
            obtain ⟨a19, ea19, hF⟩ := obn hF
            refine can38 S hX hM ea19 dX1_isMore_119 ?_
            refine lv_iload hx hb dX1_isMore_120 (lv_at hl 7 rfl) ?_
            obtain ⟨v20, ev20, hF⟩ := obn hF
            refine caz S hX hM ev20 dX1_isMore_122 ?_
            refine lv_if_eq (tgt := 129) hx hb dX1_isMore_123 (by decide) (fun c21 => ?_) (fun c21 => ?_)
            · have hF := ifp hF c21
              refine lv_iload hx hb dX1_isMore_129 (lv_at hl 0 rfl) ?_
              refine lv_iload_n hx hb dX1_isMore_131 rfl (lv_at hl 3 rfl) ?_
              refine lv_icmp_ne (tgt := 159) hx hb dX1_isMore_132 (by decide) (fun c22 => ?_) (fun c22 => ?_)
              · have hF := ifn hF c22
                refine lv_aload_n hx hb dX1_isMore_159 rfl (lv_at hl 1 rfl) ?_
                refine lv_iconst (v := 2) hx hb dX1_isMore_160 rfl ?_
                refine lv_iload hx hb dX1_isMore_161 (lv_at hl 0 rfl) ?_
                refine lv_imul hx hb dX1_isMore_163 ?_
                refine lv_iload hx hb dX1_isMore_164 (lv_at hl 5 rfl) ?_
                obtain ⟨z23, hF⟩ := gTe hF
                obtain ⟨r23, er23, hF⟩ := obn hF
                refine ccr (rest := []) (st1 := []) S hX hM (metX1_look l F D σ y0 (2 * r12) y4 r23 er23) (ci_V (C := "RugReader") (As := [.int (2 * r12), .int y4]) (rest := []) S q1431 q1433 qs32 q1434 hyX1_look (HI.cell (ci := 0) hX hM (by decide) (by omega)) hlX1_look rfl dX1_isMore_166) q1434 q103 (Nat.le_of_ble_eq_true rfl) (Nat.le_of_ble_eq_true rfl) hl.1 (Nat.le_of_ble_eq_true rfl) rfl (fun H locs cs ss hM => ?_)
                refine lv_iinc (v := y6 + 1) (lv' := [(6, .int (y6 + 1)), (7, .int r12), (0, .ref y0), (1, .int y1), (2, .int y2), (3, .int y3), (4, .int y4), (5, .int y5)]) hx hb dX1_isMore_169 hl (k := 7) rfl rfl (by decide) rfl (fun ls hl => ?_)
                refine lv_goto (tgt := 72) hx hb dX1_isMore_172 (by decide) ?_
                exact ih _ _ _ _ _ _ _ _ out hF hv hk _ _ _ _ _ hM (lv_sub hl [2, 3, 4, 5, 6, 7, 0] rfl)
              · have hF := ifp hF c22
                refine lv_aload_n hx hb dX1_isMore_135 rfl (lv_at hl 1 rfl) ?_
                obtain ⟨a24, ea24, hF⟩ := obn hF
                refine cgn S hX hM ea24 ck_1_1_24 q348 (fun _ h => h) dX1_isMore_136 ?_
                refine lv_iload hx hb dX1_isMore_139 (lv_at hl 6 rfl) ?_
                obtain ⟨a25, ea25, hF⟩ := obn hF
                refine can38 S hX hM ea25 dX1_isMore_141 ?_
                refine lv_iload hx hb dX1_isMore_142 (lv_at hl 7 rfl) ?_
                refine lv_iconst (v := 1) hx hb dX1_isMore_144 rfl ?_
                obtain ⟨σ26, eσ26, hF⟩ := obn hF
                refine cwz S hX hM eσ26 dX1_isMore_145 (fun H locs hM => ?_)
                refine lv_aload_n hx hb dX1_isMore_146 rfl (lv_at hl 1 rfl) ?_
                refine lv_iload hx hb dX1_isMore_147 (lv_at hl 5 rfl) ?_
                refine lv_iconst (v := 2) hx hb dX1_isMore_149 rfl ?_
                refine lv_iload_n hx hb dX1_isMore_150 rfl (lv_at hl 2 rfl) ?_
                refine lv_imul hx hb dX1_isMore_151 ?_
                refine lv_iconst (v := 1) hx hb dX1_isMore_152 rfl ?_
                refine lv_iadd hx hb dX1_isMore_153 ?_
                obtain ⟨z27, hF⟩ := gTe hF
                obtain ⟨r27, er27, hF⟩ := obn hF
                refine ccr (rest := []) (st1 := []) S hX hM (metX1_layRow l F D σ26 y0 y4 ((2 * y1) + 1) r27 er27) (ci_V (C := "RugReader") (As := [.int y4, .int ((2 * y1) + 1)]) (rest := []) S q1439 q1441 qs34 q1442 hyX1_layRow (HI.cell (ci := 0) hX hM (by decide) (by omega)) hlX1_layRow rfl dX1_isMore_154) q1442 q103 (Nat.le_of_ble_eq_true rfl) (Nat.le_of_ble_eq_true rfl) hl.1 (Nat.le_of_ble_eq_true rfl) rfl (fun H locs cs ss hM => ?_)
                refine lv_iconst (v := 1) hx hb dX1_isMore_157 rfl ?_
                have hz := (hv _ ((Option.some.inj hF)).symm)
                subst hz
                exact crz S hM hr hlocks (gBn gB1) dX1_isMore_158
            · have hF := ifn hF c21
              refine lv_goto (tgt := 169) hx hb dX1_isMore_126 (by decide) ?_
              refine lv_iinc (v := y6 + 1) (lv' := [(6, .int (y6 + 1)), (7, .int r12), (0, .ref y0), (1, .int y1), (2, .int y2), (3, .int y3), (4, .int y4), (5, .int y5)]) hx hb dX1_isMore_169 hl (k := 7) rfl rfl (by decide) rfl (fun ls hl => ?_)
              refine lv_goto (tgt := 72) hx hb dX1_isMore_172 (by decide) ?_
              exact ih _ _ _ _ _ _ _ _ out hF hv hk _ _ _ _ _ hM (lv_sub hl [2, 3, 4, 5, 6, 7, 0] rfl)
set_option maxHeartbeats 4000000 in
set_option maxRecDepth 100000 in
theorem wlX1_isMore_29 {p : Program} {l : Launch} [NoTr l] {e : Env} {s : State} {m : MethodId} {args : Array Value} {below : List Frame} {meth : Method} {c : Code} {D : va_G} {h0 : HS} (S : CallFix p m c cX1_isMore 8 s args lw_all RX1) (hX : CX D (kG h0) s) (hr : meth.sig.returnType = (some .boolean)) (hlocks : meth.locks = false) (hnt : ∀ x ∈ c.exceptionTable.toList, False) (F : Nat) (res : Int32 × HS) : ∀ (n : Nat) (σ : HS) (y0 : Nat) (y1 : Int32) (y2 : Int32) (y3 : Int32) (out : (HS) ⊕ (Int32 × HS)), lX1_isMore_29 F n σ y0 y1 y2 y3 = some out → (∀ v, out = .inr v → v = res) → (∀ o, out = .inl o → ∀ (H : Heap) (locs : List Loc) (cs ss : Nat) (ls : Array Slot), HI D h0 o s.heap H locs cs ss → lv_has ls 8 [] → W p l e (cR 4 97 h0) s m args below meth c H locs cs ss (cMQ below D h0 res.2 (.inr (some (.int res.1))) args s) (F0 m 201 ls [])) → ∀ (H : Heap) (locs : List Loc) (cs ss : Nat) (ls : Array Slot), HI D h0 σ s.heap H locs cs ss → lv_has ls 8 [(0, .ref y0), (1, .int y1), (2, .int y2), (3, .int y3)] → W p l e (cR 4 97 h0) s m args below meth c H locs cs ss (cMQ below D h0 res.2 (.inr (some (.int res.1))) args s) (F0 m 29 ls []) := by
  intro n
  induction n with
  | zero =>
    intro σ y0 y1 y2 y3 out hF
    cases (show (none : Option _) = some out from hF)
  | succ n ih =>
    intro σ y0 y1 y2 y3 out hF hv hk H locs cs ss ls hM hl
    rw [lX1_isMore_29] at hF
    obtain ⟨hx, hb, hml, hown, hts⟩ := id S
    refine lv_iload_n hx hb dX1_isMore_29 rfl (lv_at hl 3 rfl) ?_
    refine lv_aload_n hx hb dX1_isMore_30 rfl (lv_at hl 0 rfl) ?_
    obtain ⟨v5, ev5, hF⟩ := obn hF
    refine cgi S hX hM ev5 ck_1_1_27 q351 (fun _ h => h) dX1_isMore_31 ?_
    refine lv_icmp_ge (tgt := 201) hx hb dX1_isMore_34 (by decide) (fun c6 => ?_) (fun c6 => ?_)
    · have hF := ifp hF c6
      cases hF
      exact hk _ rfl _ _ _ _ _ hM (lv_sub hl [] rfl)
    · have hF := ifn hF c6
      refine lv_aload_n hx hb dX1_isMore_37 rfl (lv_at hl 0 rfl) ?_
      obtain ⟨a7, ea7, hF⟩ := obn hF
      refine cgn S hX hM ea7 ck_1_1_26 q350 (fun _ h => h) dX1_isMore_38 ?_
      refine lv_iload_n hx hb dX1_isMore_41 rfl (lv_at hl 3 rfl) ?_
      obtain ⟨v8, ev8, hF⟩ := obn hF
      refine cai S hX hM ev8 dX1_isMore_42 ?_
      refine lv_istore (lv' := [(4, .int v8), (0, .ref y0), (1, .int y1), (2, .int y2), (3, .int y3)]) hx hb dX1_isMore_43 hl (by decide) rfl (fun ls hl => ?_)
      refine lv_iload hx hb dX1_isMore_45 (lv_at hl 0 rfl) ?_
      refine lv_iconst (v := 2) hx hb dX1_isMore_47 rfl ?_
      refine lv_idiv hx hb dX1_isMore_48 (by decide) ?_
      refine lv_istore (lv' := [(5, .int (v8 / 2)), (4, .int v8), (0, .ref y0), (1, .int y1), (2, .int y2), (3, .int y3)]) hx hb dX1_isMore_49 hl (by decide) rfl (fun ls hl => ?_)
      refine lv_iload hx hb dX1_isMore_51 (lv_at hl 1 rfl) ?_
      refine lv_iconst (v := 2) hx hb dX1_isMore_53 rfl ?_
      refine lv_irem hx hb dX1_isMore_54 (by decide) ?_
      refine lv_if_ne (tgt := 69) hx hb dX1_isMore_55 (by decide) (fun c9 => ?_) (fun c9 => ?_)
      · have hF := ifn hF c9
        refine lv_iconst (v := 0) hx hb dX1_isMore_69 rfl ?_
        refine lv_istore (lv' := [(6, .int 0), (5, .int (v8 / 2)), (4, .int v8), (0, .ref y0), (1, .int y1), (2, .int y2), (3, .int y3)]) hx hb dX1_isMore_70 hl (by decide) rfl (fun ls hl => ?_)
        obtain ⟨oq28, hq28, h1q28, h2q28⟩ := osx hF
        refine wlX1_isMore_72 S hX hr hlocks hnt F _  F _ _ _ _ _ _ _ _ oq28 hq28 (fun v e => (hv _ ((h2q28 v e)).symm)) (fun q28 eq28 H locs cs ss ls hM hl => ?_) _ _ _ _ _ hM (lv_sub hl [3, 4, 5, 6, 2, 1, 0] rfl)
        have hF := h1q28 _ eq28
        refine lv_aload_n hx hb dX1_isMore_175 rfl (lv_at hl 0 rfl) ?_
        obtain ⟨a29, ea29, hF⟩ := obn hF
        refine cgn S hX hM ea29 ck_1_1_23 q347 (fun _ h => h) dX1_isMore_176 ?_
        refine lv_iload hx hb dX1_isMore_179 (lv_at hl 5 rfl) ?_
        obtain ⟨v30, ev30, hF⟩ := obn hF
        refine caz S hX hM ev30 dX1_isMore_181 ?_
        refine lv_if_eq (tgt := 195) hx hb dX1_isMore_182 (by decide) (fun c31 => ?_) (fun c31 => ?_)
        · have hF := ifp hF c31
          refine lv_iinc (v := y3 + 1) (lv' := [(3, .int (y3 + 1)), (0, .ref y0), (1, .int y1), (2, .int y2), (4, .int v8), (5, .int (v8 / 2))]) hx hb dX1_isMore_195 hl (k := 3) rfl rfl (by decide) rfl (fun ls hl => ?_)
          refine lv_goto (tgt := 29) hx hb dX1_isMore_198 (by decide) ?_
          exact ih _ _ _ _ _ out hF hv hk _ _ _ _ _ hM (lv_sub hl [1, 2, 3, 0] rfl)
        · have hF := ifn hF c31
          refine lv_aload_n hx hb dX1_isMore_185 rfl (lv_at hl 0 rfl) ?_
          refine lv_iconst (v := 2) hx hb dX1_isMore_186 rfl ?_
          refine lv_iload hx hb dX1_isMore_187 (lv_at hl 5 rfl) ?_
          refine lv_imul hx hb dX1_isMore_189 ?_
          refine lv_iload hx hb dX1_isMore_190 (lv_at hl 4 rfl) ?_
          obtain ⟨z32, hF⟩ := gTe hF
          obtain ⟨r32, er32, hF⟩ := obn hF
          refine ccr (rest := []) (st1 := []) S hX hM (metX1_look l F D q28 y0 (2 * (v8 / 2)) v8 r32 er32) (ci_V (C := "RugReader") (As := [.int (2 * (v8 / 2)), .int v8]) (rest := []) S q1431 q1433 qs32 q1434 hyX1_look (HI.cell (ci := 0) hX hM (by decide) (by omega)) hlX1_look rfl dX1_isMore_192) q1434 q103 (Nat.le_of_ble_eq_true rfl) (Nat.le_of_ble_eq_true rfl) hl.1 (Nat.le_of_ble_eq_true rfl) rfl (fun H locs cs ss hM => ?_)
          refine lv_iinc (v := y3 + 1) (lv' := [(3, .int (y3 + 1)), (0, .ref y0), (1, .int y1), (2, .int y2), (4, .int v8), (5, .int (v8 / 2))]) hx hb dX1_isMore_195 hl (k := 3) rfl rfl (by decide) rfl (fun ls hl => ?_)
          refine lv_goto (tgt := 29) hx hb dX1_isMore_198 (by decide) ?_
          exact ih _ _ _ _ _ out hF hv hk _ _ _ _ _ hM (lv_sub hl [1, 2, 3, 0] rfl)
      · have hF := ifp hF c9
        refine lv_aload_n hx hb dX1_isMore_58 rfl (lv_at hl 2 rfl) ?_
        refine lv_iload hx hb dX1_isMore_59 (lv_at hl 0 rfl) ?_
        refine lv_iload hx hb dX1_isMore_61 (lv_at hl 1 rfl) ?_
        obtain ⟨z33, hF⟩ := gTe hF
        obtain ⟨r33, er33, hF⟩ := obn hF
        refine ccr (rest := []) (st1 := []) S hX hM (metX1_entered l F D σ y0 (v8 / 2) v8 r33 er33) (ci_V (C := "RugReader") (As := [.int (v8 / 2), .int v8]) (rest := []) S q1435 q1437 qs33 q1438 hyX1_entered (HI.cell (ci := 0) hX hM (by decide) (by omega)) hlX1_entered rfl dX1_isMore_63) q1438 q103 (Nat.le_of_ble_eq_true rfl) (Nat.le_of_ble_eq_true rfl) hl.1 (Nat.le_of_ble_eq_true rfl) rfl (fun H locs cs ss hM => ?_)
        refine lv_goto (tgt := 195) hx hb dX1_isMore_66 (by decide) ?_
        refine lv_iinc (v := y3 + 1) (lv' := [(3, .int (y3 + 1)), (5, .int (v8 / 2)), (4, .int v8), (0, .ref y0), (1, .int y1), (2, .int y2)]) hx hb dX1_isMore_195 hl (k := 5) rfl rfl (by decide) rfl (fun ls hl => ?_)
        refine lv_goto (tgt := 29) hx hb dX1_isMore_198 (by decide) ?_
        exact ih _ _ _ _ _ out hF hv hk _ _ _ _ _ hM (lv_sub hl [3, 4, 5, 0] rfl)
set_option maxHeartbeats 4000000 in
set_option maxRecDepth 100000 in
theorem metX1_isMore (l : Launch) [NoTr l] (F : Nat) (D : va_G) (h0 : HS) (x0 : Nat) (x1 : Int32) (x2 : Int32) (r : Int32 × HS) (hF : fX1_isMore F h0 x0 x1 x2 = some r) : CMet l yX1_isMore (ws_ yX1_isMore cX1_isMore 8 (some .boolean)) 4 97 D [.ref x0, .int x1, .int x2] h0 r.2 (.inr (some (.int r.1))) := by
  refine CMet.ofW (by decide) ?_
  intro p e s m below meth c s₁ B S hX hM hr hlocks hnt hin
  obtain ⟨hx, hb, hml, hown, hts⟩ := id S
  have hl := lv_entry ([.ref x0, .int x1, .int x2]) (n := 8) (Nat.le_of_ble_eq_true rfl)
  rw [lg_entry_eq]
  generalize (lg_sl ([.ref x0, .int x1, .int x2]) ++ List.replicate (8 - (lg_sl ([.ref x0, .int x1, .int x2])).length) Slot.unset).toArray = ls at hl ⊢
  have hl : lv_has ls 8 [(0, .ref x0), (1, .int x1), (2, .int x2)] := hl
  unfold fX1_isMore at hF
  refine lv_aload_n hx hb dX1_isMore_0 rfl (lv_at hl 0 rfl) ?_
  obtain ⟨a1, ea1, hF⟩ := obn hF
  refine cgn S hX hM ea1 ck_1_1_25 q349 (fun _ h => h) dX1_isMore_1 ?_
  refine lv_iconst (v := (-1)) hx hb dX1_isMore_4 rfl ?_
  obtain ⟨r2, er2, hF⟩ := obn hF
  refine ccr (rest := []) (st1 := []) S hX hM (metJ3_fill l F D h0 a1 (-1) r2 er2) (ci_S (As := [.ref a1, .int (-1)]) (rest := []) S q1302 q298 q109 q299 hyJ3_fill hlJ3_fill rfl dX1_isMore_5) q299 q109 (Nat.le_of_ble_eq_true rfl) (Nat.le_of_ble_eq_true rfl) hl.1 (Nat.le_of_ble_eq_true rfl) rfl (fun H locs cs ss hM => ?_)
  refine lv_aload_n hx hb dX1_isMore_8 rfl (lv_at hl 0 rfl) ?_
  refine lv_iconst (v := 0) hx hb dX1_isMore_9 rfl ?_
  obtain ⟨σ3, eσ3, hF⟩ := obn hF
  refine cpi S hX hM eσ3 ck_1_1_27 cw_1_1_27 rfl rfl q351 (fun _ h => h) dX1_isMore_10 (fun H locs hM => ?_)
  refine lv_aload_n hx hb dX1_isMore_13 rfl (lv_at hl 0 rfl) ?_
  refine lv_iconst (v := 2) hx hb dX1_isMore_14 rfl ?_
  refine lv_iload_n hx hb dX1_isMore_15 rfl (lv_at hl 1 rfl) ?_
  refine lv_imul hx hb dX1_isMore_16 ?_
  refine lv_iconst (v := 1) hx hb dX1_isMore_17 rfl ?_
  refine lv_iadd hx hb dX1_isMore_18 ?_
  refine lv_iconst (v := 2) hx hb dX1_isMore_19 rfl ?_
  refine lv_iload_n hx hb dX1_isMore_20 rfl (lv_at hl 1 rfl) ?_
  refine lv_imul hx hb dX1_isMore_21 ?_
  refine lv_iconst (v := 1) hx hb dX1_isMore_22 rfl ?_
  refine lv_iadd hx hb dX1_isMore_23 ?_
  obtain ⟨z4, hF⟩ := gTe hF
  obtain ⟨r4, er4, hF⟩ := obn hF
  refine ccr (rest := []) (st1 := []) S hX hM (metX1_look l F D σ3 x0 ((2 * x1) + 1) ((2 * x1) + 1) r4 er4) (ci_V (C := "RugReader") (As := [.int ((2 * x1) + 1), .int ((2 * x1) + 1)]) (rest := []) S q1431 q1433 qs32 q1434 hyX1_look (HI.cell (ci := 0) hX hM (by decide) (by omega)) hlX1_look rfl dX1_isMore_24) q1434 q103 (Nat.le_of_ble_eq_true rfl) (Nat.le_of_ble_eq_true rfl) hl.1 (Nat.le_of_ble_eq_true rfl) rfl (fun H locs cs ss hM => ?_)
  refine lv_iconst (v := 0) hx hb dX1_isMore_27 rfl ?_
  refine lv_istore_n (lv' := [(3, .int 0), (0, .ref x0), (1, .int x1), (2, .int x2)]) hx hb dX1_isMore_28 rfl hl (by decide) rfl (fun ls hl => ?_)
  obtain ⟨oq34, hq34, h1q34, h2q34⟩ := osx hF
  refine wlX1_isMore_29 S hX hr hlocks hnt F _  F _ _ _ _ _ oq34 hq34 (fun v e => (h2q34 v e)) (fun q34 eq34 H locs cs ss ls hM hl => ?_) _ _ _ _ _ hM (lv_sub hl [1, 2, 3, 0] rfl)
  have hF := h1q34 _ eq34
  refine lv_iconst (v := 0) hx hb dX1_isMore_201 rfl ?_
  have hz := (Option.some.inj hF)
  subst hz
  exact crz S hM hr hlocks (gBn gB0) dX1_isMore_202
def lX1_rows_10 (F : Nat) : Nat → HS → Nat → Int32 → Int32 → Int32 → Option (HS)
  | 0, _, _, _, _, _ => none
  | n + 1, σ, y0, y1, y2, y3 => (if 144 ≤ y3 then (some σ) else ((fR σ y0 1 1 24).bind fun a4 => ((fA σ a4 38 y3).bind fun a5 => ((fJ3_fill_2 F σ a5 0).bind fun r6 => lX1_rows_10 F n r6 y0 y1 y2 (y3 + 1)))))
def lX1_rows_35 (F : Nat) : Nat → HS → Nat → Int32 → Int32 → Int32 → Option (HS × Int32)
  | 0, _, _, _, _, _ => none
  | n + 1, σ, y0, y1, y2, y3 => ((fR σ y0 1 1 3).bind fun a8 => ((fR σ a8 2 2 8).bind fun a9 => ((aI σ a9 33 y1).bind fun v10 => (if v10 = 0 then (gT σ y0 1 1 (((fX1_isMore F σ y0 y1 y2).bind fun r12 => (if r12.1 = 0 then (some (r12.2, y3)) else (lX1_rows_35 F n r12.2 y0 y1 y2 (y3 + 1)))))) else (some (σ, y3))))))
def fX1_rows (F : Nat) (h0 : HS) (x0 : Nat) (x1 : Int32) (x2 : Int32) : Option (Int32 × HS) := ((fR h0 x0 1 1 23).bind fun a1 => ((fJ3_fill_2 F h0 a1 0).bind fun r2 => ((lX1_rows_10 F F r2 x0 x1 x2 0).bind fun q7 => ((lX1_rows_35 F F q7 x0 x1 x2 0).bind fun q14 => some (q14.2, q14.1)))))
theorem hyX1_rows : yX1_rows.cls ≠ "java/lang/invoke/MethodHandle" ∧ yX1_rows.cls ≠ "java/lang/invoke/VarHandle" := by decide +kernel
theorem hlX1_rows : (parseMethodDescriptor yX1_rows.desc).map (fun d => d.parameters.length) = some 2 := by decide +kernel
set_option maxHeartbeats 4000000 in
set_option maxRecDepth 100000 in
theorem wlX1_rows_10 {p : Program} {l : Launch} [NoTr l] {e : Env} {s : State} {m : MethodId} {args : Array Value} {below : List Frame} {meth : Method} {c : Code} {D : va_G} {h0 : HS} (S : CallFix p m c cX1_rows 4 s args lw_all RX1) (hX : CX D (kG h0) s) (F : Nat) {Q : State → Prop} : ∀ (n : Nat) (σ : HS) (y0 : Nat) (y1 : Int32) (y2 : Int32) (y3 : Int32) (out : HS), lX1_rows_10 F n σ y0 y1 y2 y3 = some out → (∀ (H : Heap) (locs : List Loc) (cs ss : Nat) (ls : Array Slot), HI D h0 out s.heap H locs cs ss → lv_has ls 4 [(0, .ref y0), (1, .int y1), (2, .int y2)] → W p l e (cR 5 124 h0) s m args below meth c H locs cs ss Q (F0 m 33 ls [])) → ∀ (H : Heap) (locs : List Loc) (cs ss : Nat) (ls : Array Slot), HI D h0 σ s.heap H locs cs ss → lv_has ls 4 [(0, .ref y0), (1, .int y1), (2, .int y2), (3, .int y3)] → W p l e (cR 5 124 h0) s m args below meth c H locs cs ss Q (F0 m 10 ls []) := by
  intro n
  induction n with
  | zero =>
    intro σ y0 y1 y2 y3 out hF
    cases (show (none : Option _) = some out from hF)
  | succ n ih =>
    intro σ y0 y1 y2 y3 out hF hk H locs cs ss ls hM hl
    rw [lX1_rows_10] at hF
    obtain ⟨hx, hb, hml, hown, hts⟩ := id S
    refine lv_iload_n hx hb dX1_rows_10 rfl (lv_at hl 3 rfl) ?_
    refine lv_sipush (v := 144) hx hb dX1_rows_11 rfl ?_
    refine lv_icmp_ge (tgt := 33) hx hb dX1_rows_14 (by decide) (fun c3 => ?_) (fun c3 => ?_)
    · have hF := ifp hF c3
      cases hF
      exact hk _ _ _ _ _ hM (lv_sub hl [0, 1, 2] rfl)
    · have hF := ifn hF c3
      refine lv_aload_n hx hb dX1_rows_17 rfl (lv_at hl 0 rfl) ?_
      obtain ⟨a4, ea4, hF⟩ := obn hF
      refine cgn S hX hM ea4 ck_1_1_24 q348 (fun _ h => h) dX1_rows_18 ?_
      refine lv_iload_n hx hb dX1_rows_21 rfl (lv_at hl 3 rfl) ?_
      obtain ⟨a5, ea5, hF⟩ := obn hF
      refine can38 S hX hM ea5 dX1_rows_22 ?_
      refine lv_iconst (v := 0) hx hb dX1_rows_23 rfl ?_
      obtain ⟨r6, er6, hF⟩ := obn hF
      refine ccr (rest := []) (st1 := []) S hX hM (metJ3_fill_2 l F D σ a5 0 r6 er6) (ci_S (As := [.ref a5, .int 0]) (rest := []) S q1303 q1304 q109 q1305 hyJ3_fill_2 hlJ3_fill_2 rfl dX1_rows_24) q1305 q109 (Nat.le_of_ble_eq_true rfl) (Nat.le_of_ble_eq_true rfl) hl.1 (Nat.le_of_ble_eq_true rfl) rfl (fun H locs cs ss hM => ?_)
      refine lv_iinc (v := y3 + 1) (lv' := [(3, .int (y3 + 1)), (0, .ref y0), (1, .int y1), (2, .int y2)]) hx hb dX1_rows_27 hl (k := 3) rfl rfl (by decide) rfl (fun ls hl => ?_)
      refine lv_goto (tgt := 10) hx hb dX1_rows_30 (by decide) ?_
      exact ih _ _ _ _ _ out hF hk _ _ _ _ _ hM (lv_sub hl [1, 2, 3, 0] rfl)
set_option maxHeartbeats 4000000 in
set_option maxRecDepth 100000 in
theorem wlX1_rows_35 {p : Program} {l : Launch} [NoTr l] {e : Env} {s : State} {m : MethodId} {args : Array Value} {below : List Frame} {meth : Method} {c : Code} {D : va_G} {h0 : HS} (S : CallFix p m c cX1_rows 4 s args lw_all RX1) (hX : CX D (kG h0) s) (F : Nat) {Q : State → Prop} : ∀ (n : Nat) (σ : HS) (y0 : Nat) (y1 : Int32) (y2 : Int32) (y3 : Int32) (out : HS × Int32), lX1_rows_35 F n σ y0 y1 y2 y3 = some out → (∀ (H : Heap) (locs : List Loc) (cs ss : Nat) (ls : Array Slot), HI D h0 out.1 s.heap H locs cs ss → lv_has ls 4 [(3, .int out.2)] → W p l e (cR 5 124 h0) s m args below meth c H locs cs ss Q (F0 m 62 ls [])) → ∀ (H : Heap) (locs : List Loc) (cs ss : Nat) (ls : Array Slot), HI D h0 σ s.heap H locs cs ss → lv_has ls 4 [(0, .ref y0), (1, .int y1), (2, .int y2), (3, .int y3)] → W p l e (cR 5 124 h0) s m args below meth c H locs cs ss Q (F0 m 35 ls []) := by
  intro n
  induction n with
  | zero =>
    intro σ y0 y1 y2 y3 out hF
    cases (show (none : Option _) = some out from hF)
  | succ n ih =>
    intro σ y0 y1 y2 y3 out hF hk H locs cs ss ls hM hl
    rw [lX1_rows_35] at hF
    obtain ⟨hx, hb, hml, hown, hts⟩ := id S
    refine lv_aload_n hx hb dX1_rows_35 rfl (lv_at hl 0 rfl) ?_
    obtain ⟨a8, ea8, hF⟩ := obn hF
    refine cgn S hX hM ea8 ck_1_1_3 q327 (fun _ h => h) dX1_rows_36 ?_
    obtain ⟨a9, ea9, hF⟩ := obn hF
    refine cgnN S hX hM ea9 ck_2_2_8 (uq217 hX) dX1_rows_39 ?_
    refine lv_iload_n hx hb dX1_rows_42 rfl (lv_at hl 1 rfl) ?_
    obtain ⟨v10, ev10, hF⟩ := obn hF
    refine caz S hX hM ev10 dX1_rows_43 ?_
    refine lv_if_ne (tgt := 62) hx hb dX1_rows_44 (by decide) (fun c11 => ?_) (fun c11 => ?_)
    · have hF := ifn hF c11
      cases hF
      exact hk _ _ _ _ _ hM (lv_sub hl [3] rfl)
    · have hF := ifp hF c11
      refine lv_aload_n hx hb dX1_rows_47 rfl (lv_at hl 0 rfl) ?_
      refine lv_iload_n hx hb dX1_rows_48 rfl (lv_at hl 1 rfl) ?_
      refine lv_iload_n hx hb dX1_rows_49 rfl (lv_at hl 2 rfl) ?_
      obtain ⟨z12, hF⟩ := gTe hF
      obtain ⟨r12, er12, hF⟩ := obn hF
      refine ccr (rest := []) (st1 := [.int r12.1]) S hX hM (metX1_isMore l F D σ y0 y1 y2 r12 er12) (ci_V (C := "RugReader") (As := [.int y1, .int y2]) (rest := []) S q1427 q1429 qs31 q1430 hyX1_isMore (HI.cell (ci := 0) hX hM (by decide) (by omega)) hlX1_isMore rfl dX1_rows_50) q1430 q103 (Nat.le_of_ble_eq_true rfl) (Nat.le_of_ble_eq_true rfl) hl.1 (Nat.le_of_ble_eq_true rfl) rfl (fun H locs cs ss hM => ?_)
      refine lv_if_eq (tgt := 62) hx hb dX1_rows_53 (by decide) (fun c13 => ?_) (fun c13 => ?_)
      · have hF := ifp hF c13
        cases hF
        exact hk _ _ _ _ _ hM (lv_sub hl [3] rfl)
      · have hF := ifn hF c13
        refine lv_iinc (v := y3 + 1) (lv' := [(3, .int (y3 + 1)), (0, .ref y0), (1, .int y1), (2, .int y2)]) hx hb dX1_rows_56 hl (k := 3) rfl rfl (by decide) rfl (fun ls hl => ?_)
        refine lv_goto (tgt := 35) hx hb dX1_rows_59 (by decide) ?_
        exact ih _ _ _ _ _ out hF hk _ _ _ _ _ hM (lv_sub hl [1, 2, 3, 0] rfl)
set_option maxHeartbeats 4000000 in
set_option maxRecDepth 100000 in
theorem metX1_rows (l : Launch) [NoTr l] (F : Nat) (D : va_G) (h0 : HS) (x0 : Nat) (x1 : Int32) (x2 : Int32) (r : Int32 × HS) (hF : fX1_rows F h0 x0 x1 x2 = some r) : CMet l yX1_rows (ws_ yX1_rows cX1_rows 4 (some .int)) 5 124 D [.ref x0, .int x1, .int x2] h0 r.2 (.inr (some (.int r.1))) := by
  refine CMet.ofW (by decide) ?_
  intro p e s m below meth c s₁ B S hX hM hr hlocks hnt hin
  obtain ⟨hx, hb, hml, hown, hts⟩ := id S
  have hl := lv_entry ([.ref x0, .int x1, .int x2]) (n := 4) (Nat.le_of_ble_eq_true rfl)
  rw [lg_entry_eq]
  generalize (lg_sl ([.ref x0, .int x1, .int x2]) ++ List.replicate (4 - (lg_sl ([.ref x0, .int x1, .int x2])).length) Slot.unset).toArray = ls at hl ⊢
  have hl : lv_has ls 4 [(0, .ref x0), (1, .int x1), (2, .int x2)] := hl
  unfold fX1_rows at hF
  refine lv_aload_n hx hb dX1_rows_0 rfl (lv_at hl 0 rfl) ?_
  obtain ⟨a1, ea1, hF⟩ := obn hF
  refine cgn S hX hM ea1 ck_1_1_23 q347 (fun _ h => h) dX1_rows_1 ?_
  refine lv_iconst (v := 0) hx hb dX1_rows_4 rfl ?_
  obtain ⟨r2, er2, hF⟩ := obn hF
  refine ccr (rest := []) (st1 := []) S hX hM (metJ3_fill_2 l F D h0 a1 0 r2 er2) (ci_S (As := [.ref a1, .int 0]) (rest := []) S q1303 q1304 q109 q1305 hyJ3_fill_2 hlJ3_fill_2 rfl dX1_rows_5) q1305 q109 (Nat.le_of_ble_eq_true rfl) (Nat.le_of_ble_eq_true rfl) hl.1 (Nat.le_of_ble_eq_true rfl) rfl (fun H locs cs ss hM => ?_)
  refine lv_iconst (v := 0) hx hb dX1_rows_8 rfl ?_
  refine lv_istore_n (lv' := [(3, .int 0), (0, .ref x0), (1, .int x1), (2, .int x2)]) hx hb dX1_rows_9 rfl hl (by decide) rfl (fun ls hl => ?_)
  obtain ⟨q7, hq7, hF⟩ := obn hF
  refine wlX1_rows_10 S hX F  F _ _ _ _ _ q7 hq7 (fun H locs cs ss ls hM hl => ?_) _ _ _ _ _ hM (lv_sub hl [1, 2, 3, 0] rfl)
  refine lv_iconst (v := 0) hx hb dX1_rows_33 rfl ?_
  refine lv_istore_n (lv' := [(3, .int 0), (0, .ref x0), (1, .int x1), (2, .int x2)]) hx hb dX1_rows_34 rfl hl (by decide) rfl (fun ls hl => ?_)
  obtain ⟨q14, hq14, hF⟩ := obn hF
  refine wlX1_rows_35 S hX F  F _ _ _ _ _ q14 hq14 (fun H locs cs ss ls hM hl => ?_) _ _ _ _ _ hM (lv_sub hl [1, 2, 3, 0] rfl)
  refine lv_iload_n hx hb dX1_rows_62 rfl (lv_at hl 0 rfl) ?_
  have hz := (Option.some.inj hF)
  subst hz
  exact cri S hM hr hlocks dX1_rows_63
def lX1_seen_87 (F : Nat) (σ : HS) : Nat → Nat → Int32 → Int32 → Int32 → Option ((Unit) ⊕ (Int32 × HS))
  | 0, _, _, _, _ => none
  | n + 1, y0, y3, y4, y5 => (if 4 ≤ y5 then (some (.inl ())) else ((fR σ y0 1 1 3).bind fun a23 => gT σ a23 2 2 (((fX2_beside F σ a23 y3 y5).bind fun r24 => (if r24 = y4 then (some (.inr ((-1), σ))) else (lX1_seen_87 F σ n y0 y3 y4 (y5 + 1)))))))
def lX1_seen_141 (F : Nat) : Nat → HS → Nat → Int32 → Int32 → Int32 → Int32 → Option (HS)
  | 0, _, _, _, _, _, _ => none
  | n + 1, σ, y0, y3, y4, y5, y6 => (if 144 ≤ y6 then (some σ) else (if y5 ≤ 0 then (some σ) else ((fR σ y0 1 1 3).bind fun a33 => gT σ a33 2 2 (((fX2_isTuft F σ a33 y6).bind fun r34 => (if r34 = 0 then (lX1_seen_141 F n σ y0 y3 y4 y5 (y6 + 1)) else ((fR σ y0 1 1 3).bind fun a36 => ((fR σ a36 2 2 8).bind fun a37 => ((aI σ a37 33 y6).bind fun v38 => (if v38 = 0 then (if y6 = y3 then (lX1_seen_141 F n σ y0 y3 y4 y5 (y6 + 1)) else (if y6 = y4 then (lX1_seen_141 F n σ y0 y3 y4 y5 (y6 + 1)) else ((fR σ y0 1 1 22).bind fun a42 => ((wI σ a42 33 y6 (vp_nar .boolean 1)).bind fun σ43 => gT σ43 y0 1 1 (((fX1_rows F σ43 y0 y3 y4).bind fun r44 => (if y5 ≤ r44.1 then ((fR r44.2 y0 1 1 22).bind fun a46 => ((wI r44.2 a46 33 y6 (vp_nar .boolean 0)).bind fun σ47 => lX1_seen_141 F n σ47 y0 y3 y4 y5 (y6 + 1))) else ((fR r44.2 y0 1 1 28).bind fun a48 => ((oI r44.2 y0 1 1 29).bind fun v49 => ((wI r44.2 a48 31 v49 y6).bind fun σ50 => ((oI σ50 y0 1 1 29).bind fun v51 => ((pI σ50 y0 1 1 29 (v51 + 1)).bind fun σ52 => lX1_seen_141 F n σ52 y0 y3 y4 (y5 + (-1)) (y6 + 1))))))))))))) else (lX1_seen_141 F n σ y0 y3 y4 y5 (y6 + 1))))))))))))
def fX1_seen (F : Nat) (h0 : HS) (x0 : Nat) (x1 : Int32) (x2 : Int32) : Option (Int32 × HS) := ((fR h0 x0 1 1 3).bind fun a1 => ((fR h0 a1 2 2 7).bind fun a2 => gT h0 a2 15 15 (((fJ2_size F h0 a2).bind fun r3 => (if (fX1_isIn x1 0 (r3 - 1)) = 0 then (some ((-1), h0)) else ((fR h0 x0 1 1 3).bind fun a6 => ((fR h0 a6 2 2 7).bind fun a7 => gT h0 a7 15 15 (((fJ2_size F h0 a7).bind fun r8 => (if (fX1_isIn x2 0 (r8 - 1)) = 0 then (some ((-1), h0)) else (if x1 = x2 then (some ((-1), h0)) else ((fR h0 x0 1 1 3).bind fun a12 => ((fR h0 a12 2 2 7).bind fun a13 => gT h0 a13 15 15 (((fJ2_get F h0 a13 x1).bind fun r14 => gT h0 r14 18 18 (gT h0 r14 18 18 (((fJ16_intValue F h0 r14).bind fun r16 => ((fR h0 x0 1 1 3).bind fun a17 => ((fR h0 a17 2 2 7).bind fun a18 => gT h0 a18 15 15 (((fJ2_get F h0 a18 x2).bind fun r19 => gT h0 r19 18 18 (gT h0 r19 18 18 (((fJ16_intValue F h0 r19).bind fun r21 => (osm (lX1_seen_87 F h0 F x0 r16 r21 0) id fun q26 => ((fR h0 x0 1 1 22).bind fun a27 => ((fJ3_fill_2 F h0 a27 0).bind fun r28 => gT r28 x0 1 1 (((fX1_rows F r28 x0 r16 r21).bind fun r29 => ((pI r29.2 x0 1 1 29 0).bind fun σ30 => ((lX1_seen_141 F F σ30 x0 r16 r21 r29.1 0).bind fun q53 => ((oI q53 x0 1 1 29).bind fun v54 => some (v54, q53))))))))))))))))))))))))))))))))))
theorem hyX1_seen : yX1_seen.cls ≠ "java/lang/invoke/MethodHandle" ∧ yX1_seen.cls ≠ "java/lang/invoke/VarHandle" := by decide +kernel
theorem hlX1_seen : (parseMethodDescriptor yX1_seen.desc).map (fun d => d.parameters.length) = some 2 := by decide +kernel
set_option maxHeartbeats 4000000 in
set_option maxRecDepth 100000 in
theorem wlX1_seen_87 {p : Program} {l : Launch} [NoTr l] {e : Env} {s : State} {m : MethodId} {args : Array Value} {below : List Frame} {meth : Method} {c : Code} {D : va_G} {h0 : HS} (S : CallFix p m c cX1_seen 7 s args lw_all RX1) (hX : CX D (kG h0) s) (σ : HS) (hr : meth.sig.returnType = (some .int)) (hlocks : meth.locks = false) (hnt : ∀ x ∈ c.exceptionTable.toList, False) (F : Nat) (res : Int32 × HS) : ∀ (n : Nat) (y0 : Nat) (y3 : Int32) (y4 : Int32) (y5 : Int32) (out : (Unit) ⊕ (Int32 × HS)), lX1_seen_87 F σ n y0 y3 y4 y5 = some out → (∀ v, out = .inr v → v = res) → (∀ o, out = .inl o → ∀ (H : Heap) (locs : List Loc) (cs ss : Nat) (ls : Array Slot), HI D h0 σ s.heap H locs cs ss → lv_has ls 7 [(0, .ref y0), (3, .int y3), (4, .int y4)] → W p l e (cR 6 147 h0) s m args below meth c H locs cs ss (cMQ below D h0 res.2 (.inr (some (.int res.1))) args s) (F0 m 116 ls [])) → ∀ (H : Heap) (locs : List Loc) (cs ss : Nat) (ls : Array Slot), HI D h0 σ s.heap H locs cs ss → lv_has ls 7 [(0, .ref y0), (3, .int y3), (4, .int y4), (5, .int y5)] → W p l e (cR 6 147 h0) s m args below meth c H locs cs ss (cMQ below D h0 res.2 (.inr (some (.int res.1))) args s) (F0 m 87 ls []) := by
  intro n
  induction n with
  | zero =>
    intro y0 y3 y4 y5 out hF
    cases (show (none : Option _) = some out from hF)
  | succ n ih =>
    intro y0 y3 y4 y5 out hF hv hk H locs cs ss ls hM hl
    rw [lX1_seen_87] at hF
    obtain ⟨hx, hb, hml, hown, hts⟩ := id S
    refine lv_iload hx hb dX1_seen_87 (lv_at hl 3 rfl) ?_
    refine lv_iconst (v := 4) hx hb dX1_seen_89 rfl ?_
    refine lv_icmp_ge (tgt := 116) hx hb dX1_seen_90 (by decide) (fun c22 => ?_) (fun c22 => ?_)
    · have hF := ifp hF c22
      cases hF
      exact hk _ rfl _ _ _ _ _ hM (lv_sub hl [0, 1, 2] rfl)
    · have hF := ifn hF c22
      refine lv_aload_n hx hb dX1_seen_93 rfl (lv_at hl 0 rfl) ?_
      obtain ⟨a23, ea23, hF⟩ := obn hF
      refine cgn S hX hM ea23 ck_1_1_3 q327 (fun _ h => h) dX1_seen_94 ?_
      refine lv_iload_n hx hb dX1_seen_97 rfl (lv_at hl 1 rfl) ?_
      refine lv_iload hx hb dX1_seen_98 (lv_at hl 3 rfl) ?_
      obtain ⟨z24, hF⟩ := gTe hF
      obtain ⟨r24, er24, hF⟩ := obn hF
      refine ccr (rest := []) (st1 := [.int r24]) S hX hM (metX2_beside l F D σ a23 y3 y5 r24 er24) (ci_V (C := "RugReader$House") (As := [.int y3, .int y5]) (rest := []) S q1422 q1110 q1111 q1112 hyX2_beside (HI.cell (ci := 1) hX hM (by decide) (by omega)) hlX2_beside rfl dX1_seen_100) q1112 q104 (Nat.le_of_ble_eq_true rfl) (Nat.le_of_ble_eq_true rfl) hl.1 (Nat.le_of_ble_eq_true rfl) rfl (fun H locs cs ss hM => ?_)
      refine lv_iload hx hb dX1_seen_103 (lv_at hl 2 rfl) ?_
      refine lv_icmp_ne (tgt := 110) hx hb dX1_seen_105 (by decide) (fun c25 => ?_) (fun c25 => ?_)
      · have hF := ifn hF c25
        refine lv_iinc (v := y5 + 1) (lv' := [(5, .int (y5 + 1)), (0, .ref y0), (3, .int y3), (4, .int y4)]) hx hb dX1_seen_110 hl (k := 3) rfl rfl (by decide) rfl (fun ls hl => ?_)
        refine lv_goto (tgt := 87) hx hb dX1_seen_113 (by decide) ?_
        exact ih _ _ _ _ out hF hv hk _ _ _ _ _ hM (lv_sub hl [1, 2, 3, 0] rfl)
      · have hF := ifp hF c25
        refine lv_iconst (v := (-1)) hx hb dX1_seen_108 rfl ?_
        have hz := (hv _ ((Option.some.inj hF)).symm)
        subst hz
        exact cri S hM hr hlocks dX1_seen_109
set_option maxHeartbeats 4000000 in
set_option maxRecDepth 100000 in
theorem wlX1_seen_141 {p : Program} {l : Launch} [NoTr l] {e : Env} {s : State} {m : MethodId} {args : Array Value} {below : List Frame} {meth : Method} {c : Code} {D : va_G} {h0 : HS} (S : CallFix p m c cX1_seen 7 s args lw_all RX1) (hX : CX D (kG h0) s) (F : Nat) {Q : State → Prop} : ∀ (n : Nat) (σ : HS) (y0 : Nat) (y3 : Int32) (y4 : Int32) (y5 : Int32) (y6 : Int32) (out : HS), lX1_seen_141 F n σ y0 y3 y4 y5 y6 = some out → (∀ (H : Heap) (locs : List Loc) (cs ss : Nat) (ls : Array Slot), HI D h0 out s.heap H locs cs ss → lv_has ls 7 [(0, .ref y0)] → W p l e (cR 6 147 h0) s m args below meth c H locs cs ss Q (F0 m 256 ls [])) → ∀ (H : Heap) (locs : List Loc) (cs ss : Nat) (ls : Array Slot), HI D h0 σ s.heap H locs cs ss → lv_has ls 7 [(0, .ref y0), (3, .int y3), (4, .int y4), (5, .int y5), (6, .int y6)] → W p l e (cR 6 147 h0) s m args below meth c H locs cs ss Q (F0 m 141 ls []) := by
  intro n
  induction n with
  | zero =>
    intro σ y0 y3 y4 y5 y6 out hF
    cases (show (none : Option _) = some out from hF)
  | succ n ih =>
    intro σ y0 y3 y4 y5 y6 out hF hk H locs cs ss ls hM hl
    rw [lX1_seen_141] at hF
    obtain ⟨hx, hb, hml, hown, hts⟩ := id S
    refine lv_iload hx hb dX1_seen_141 (lv_at hl 4 rfl) ?_
    refine lv_sipush (v := 144) hx hb dX1_seen_143 rfl ?_
    refine lv_icmp_ge (tgt := 256) hx hb dX1_seen_146 (by decide) (fun c31 => ?_) (fun c31 => ?_)
    · have hF := ifp hF c31
      cases hF
      exact hk _ _ _ _ _ hM (lv_sub hl [0] rfl)
    · have hF := ifn hF c31
      refine lv_iload hx hb dX1_seen_149 (lv_at hl 3 rfl) ?_
      refine lv_if_le (tgt := 256) hx hb dX1_seen_151 (by decide) (fun c32 => ?_) (fun c32 => ?_)
      · have hF := ifp hF c32
        cases hF
        exact hk _ _ _ _ _ hM (lv_sub hl [0] rfl)
      · have hF := ifn hF c32
        refine lv_aload_n hx hb dX1_seen_154 rfl (lv_at hl 0 rfl) ?_
        obtain ⟨a33, ea33, hF⟩ := obn hF
        refine cgn S hX hM ea33 ck_1_1_3 q327 (fun _ h => h) dX1_seen_155 ?_
        refine lv_iload hx hb dX1_seen_158 (lv_at hl 4 rfl) ?_
        obtain ⟨z34, hF⟩ := gTe hF
        obtain ⟨r34, er34, hF⟩ := obn hF
        refine ccr (rest := []) (st1 := [.int r34]) S hX hM (metX2_isTuft l F D σ a33 y6 r34 er34) (ci_V (C := "RugReader$House") (As := [.int y6]) (rest := []) S q1200 q1201 q1202 q1203 hyX2_isTuft (HI.cell (ci := 1) hX hM (by decide) (by omega)) hlX2_isTuft rfl dX1_seen_160) q1203 q104 (Nat.le_of_ble_eq_true rfl) (Nat.le_of_ble_eq_true rfl) hl.1 (Nat.le_of_ble_eq_true rfl) rfl (fun H locs cs ss hM => ?_)
        refine lv_if_eq (tgt := 250) hx hb dX1_seen_163 (by decide) (fun c35 => ?_) (fun c35 => ?_)
        · have hF := ifp hF c35
          refine lv_iinc (v := y6 + 1) (lv' := [(6, .int (y6 + 1)), (0, .ref y0), (3, .int y3), (4, .int y4), (5, .int y5)]) hx hb dX1_seen_250 hl (k := 4) rfl rfl (by decide) rfl (fun ls hl => ?_)
          refine lv_goto (tgt := 141) hx hb dX1_seen_253 (by decide) ?_
          exact ih _ _ _ _ _ _ out hF hk _ _ _ _ _ hM (lv_sub hl [1, 2, 3, 4, 0] rfl)
        · have hF := ifn hF c35
          refine lv_aload_n hx hb dX1_seen_166 rfl (lv_at hl 0 rfl) ?_
          obtain ⟨a36, ea36, hF⟩ := obn hF
          refine cgn S hX hM ea36 ck_1_1_3 q327 (fun _ h => h) dX1_seen_167 ?_
          obtain ⟨a37, ea37, hF⟩ := obn hF
          refine cgnN S hX hM ea37 ck_2_2_8 (uq217 hX) dX1_seen_170 ?_
          refine lv_iload hx hb dX1_seen_173 (lv_at hl 4 rfl) ?_
          obtain ⟨v38, ev38, hF⟩ := obn hF
          refine caz S hX hM ev38 dX1_seen_175 ?_
          refine lv_if_ne (tgt := 250) hx hb dX1_seen_176 (by decide) (fun c39 => ?_) (fun c39 => ?_)
          · have hF := ifn hF c39
            refine lv_iinc (v := y6 + 1) (lv' := [(6, .int (y6 + 1)), (0, .ref y0), (3, .int y3), (4, .int y4), (5, .int y5)]) hx hb dX1_seen_250 hl (k := 4) rfl rfl (by decide) rfl (fun ls hl => ?_)
            refine lv_goto (tgt := 141) hx hb dX1_seen_253 (by decide) ?_
            exact ih _ _ _ _ _ _ out hF hk _ _ _ _ _ hM (lv_sub hl [1, 2, 3, 4, 0] rfl)
          · have hF := ifp hF c39
            refine lv_iload hx hb dX1_seen_179 (lv_at hl 4 rfl) ?_
            refine lv_iload_n hx hb dX1_seen_181 rfl (lv_at hl 1 rfl) ?_
            refine lv_icmp_eq (tgt := 250) hx hb dX1_seen_182 (by decide) (fun c40 => ?_) (fun c40 => ?_)
            · have hF := ifp hF c40
              refine lv_iinc (v := y6 + 1) (lv' := [(6, .int (y6 + 1)), (0, .ref y0), (3, .int y3), (4, .int y4), (5, .int y5)]) hx hb dX1_seen_250 hl (k := 4) rfl rfl (by decide) rfl (fun ls hl => ?_)
              refine lv_goto (tgt := 141) hx hb dX1_seen_253 (by decide) ?_
              exact ih _ _ _ _ _ _ out hF hk _ _ _ _ _ hM (lv_sub hl [1, 2, 3, 4, 0] rfl)
            · have hF := ifn hF c40
              refine lv_iload hx hb dX1_seen_185 (lv_at hl 4 rfl) ?_
              refine lv_iload hx hb dX1_seen_187 (lv_at hl 2 rfl) ?_
              refine lv_icmp_ne (tgt := 195) hx hb dX1_seen_189 (by decide) (fun c41 => ?_) (fun c41 => ?_)
              · have hF := ifn hF c41
                refine lv_aload_n hx hb dX1_seen_195 rfl (lv_at hl 0 rfl) ?_
                obtain ⟨a42, ea42, hF⟩ := obn hF
                refine cgn S hX hM ea42 ck_1_1_22 q346 (fun _ h => h) dX1_seen_196 ?_
                refine lv_iload hx hb dX1_seen_199 (lv_at hl 4 rfl) ?_
                refine lv_iconst (v := 1) hx hb dX1_seen_201 rfl ?_
                obtain ⟨σ43, eσ43, hF⟩ := obn hF
                refine cwz S hX hM eσ43 dX1_seen_202 (fun H locs hM => ?_)
                refine lv_aload_n hx hb dX1_seen_203 rfl (lv_at hl 0 rfl) ?_
                refine lv_iload_n hx hb dX1_seen_204 rfl (lv_at hl 1 rfl) ?_
                refine lv_iload hx hb dX1_seen_205 (lv_at hl 2 rfl) ?_
                obtain ⟨z44, hF⟩ := gTe hF
                obtain ⟨r44, er44, hF⟩ := obn hF
                refine ccr (rest := []) (st1 := [.int r44.1]) S hX hM (metX1_rows l F D σ43 y0 y3 y4 r44 er44) (ci_V (C := "RugReader") (As := [.int y3, .int y4]) (rest := []) S q1423 q1425 qs30 q1426 hyX1_rows (HI.cell (ci := 0) hX hM (by decide) (by omega)) hlX1_rows rfl dX1_seen_207) q1426 q103 (Nat.le_of_ble_eq_true rfl) (Nat.le_of_ble_eq_true rfl) hl.1 (Nat.le_of_ble_eq_true rfl) rfl (fun H locs cs ss hM => ?_)
                refine lv_iload hx hb dX1_seen_210 (lv_at hl 3 rfl) ?_
                refine lv_icmp_ge (tgt := 242) hx hb dX1_seen_212 (by decide) (fun c45 => ?_) (fun c45 => ?_)
                · have hF := ifp hF c45
                  refine lv_aload_n hx hb dX1_seen_242 rfl (lv_at hl 0 rfl) ?_
                  obtain ⟨a46, ea46, hF⟩ := obn hF
                  refine cgn S hX hM ea46 ck_1_1_22 q346 (fun _ h => h) dX1_seen_243 ?_
                  refine lv_iload hx hb dX1_seen_246 (lv_at hl 4 rfl) ?_
                  refine lv_iconst (v := 0) hx hb dX1_seen_248 rfl ?_
                  obtain ⟨σ47, eσ47, hF⟩ := obn hF
                  refine cwz S hX hM eσ47 dX1_seen_249 (fun H locs hM => ?_)
                  refine lv_iinc (v := y6 + 1) (lv' := [(6, .int (y6 + 1)), (0, .ref y0), (3, .int y3), (4, .int y4), (5, .int y5)]) hx hb dX1_seen_250 hl (k := 4) rfl rfl (by decide) rfl (fun ls hl => ?_)
                  refine lv_goto (tgt := 141) hx hb dX1_seen_253 (by decide) ?_
                  exact ih _ _ _ _ _ _ out hF hk _ _ _ _ _ hM (lv_sub hl [1, 2, 3, 4, 0] rfl)
                · have hF := ifn hF c45
                  refine lv_iinc (v := y5 + (-1)) (lv' := [(5, .int (y5 + (-1))), (0, .ref y0), (3, .int y3), (4, .int y4), (6, .int y6)]) hx hb dX1_seen_215 hl (k := 3) rfl rfl (by decide) rfl (fun ls hl => ?_)
                  refine lv_aload_n hx hb dX1_seen_218 rfl (lv_at hl 1 rfl) ?_
                  obtain ⟨a48, ea48, hF⟩ := obn hF
                  refine cgn S hX hM ea48 ck_1_1_28 q352 (fun _ h => h) dX1_seen_219 ?_
                  refine lv_aload_n hx hb dX1_seen_222 rfl (lv_at hl 1 rfl) ?_
                  obtain ⟨v49, ev49, hF⟩ := obn hF
                  refine cgi S hX hM ev49 ck_1_1_29 q353 (fun _ h => h) dX1_seen_223 ?_
                  refine lv_iload hx hb dX1_seen_226 (lv_at hl 4 rfl) ?_
                  obtain ⟨σ50, eσ50, hF⟩ := obn hF
                  refine cwi S hX hM eσ50 dX1_seen_228 (fun H locs hM => ?_)
                  refine lv_aload_n hx hb dX1_seen_229 rfl (lv_at hl 1 rfl) ?_
                  refine lv_dup hx hb dX1_seen_230 rfl ?_
                  obtain ⟨v51, ev51, hF⟩ := obn hF
                  refine cgi S hX hM ev51 ck_1_1_29 q353 (fun _ h => h) dX1_seen_231 ?_
                  refine lv_iconst (v := 1) hx hb dX1_seen_234 rfl ?_
                  refine lv_iadd hx hb dX1_seen_235 ?_
                  obtain ⟨σ52, eσ52, hF⟩ := obn hF
                  refine cpi S hX hM eσ52 ck_1_1_29 cw_1_1_29 rfl rfl q353 (fun _ h => h) dX1_seen_236 (fun H locs hM => ?_)
                  refine lv_goto (tgt := 250) hx hb dX1_seen_239 (by decide) ?_
                  refine lv_iinc (v := y6 + 1) (lv' := [(6, .int (y6 + 1)), (5, .int (y5 + (-1))), (0, .ref y0), (3, .int y3), (4, .int y4)]) hx hb dX1_seen_250 hl (k := 4) rfl rfl (by decide) rfl (fun ls hl => ?_)
                  refine lv_goto (tgt := 141) hx hb dX1_seen_253 (by decide) ?_
                  exact ih _ _ _ _ _ _ out hF hk _ _ _ _ _ hM (lv_sub hl [2, 3, 4, 1, 0] rfl)
              · have hF := ifp hF c41
                refine lv_goto (tgt := 250) hx hb dX1_seen_192 (by decide) ?_
                refine lv_iinc (v := y6 + 1) (lv' := [(6, .int (y6 + 1)), (0, .ref y0), (3, .int y3), (4, .int y4), (5, .int y5)]) hx hb dX1_seen_250 hl (k := 4) rfl rfl (by decide) rfl (fun ls hl => ?_)
                refine lv_goto (tgt := 141) hx hb dX1_seen_253 (by decide) ?_
                exact ih _ _ _ _ _ _ out hF hk _ _ _ _ _ hM (lv_sub hl [1, 2, 3, 4, 0] rfl)
set_option maxHeartbeats 4000000 in
set_option maxRecDepth 100000 in
theorem metX1_seen (l : Launch) [NoTr l] (F : Nat) (D : va_G) (h0 : HS) (x0 : Nat) (x1 : Int32) (x2 : Int32) (r : Int32 × HS) (hF : fX1_seen F h0 x0 x1 x2 = some r) : CMet l yX1_seen (ws_ yX1_seen cX1_seen 7 (some .int)) 6 147 D [.ref x0, .int x1, .int x2] h0 r.2 (.inr (some (.int r.1))) := by
  refine CMet.ofW (by decide) ?_
  intro p e s m below meth c s₁ B S hX hM hr hlocks hnt hin
  obtain ⟨hx, hb, hml, hown, hts⟩ := id S
  have hl := lv_entry ([.ref x0, .int x1, .int x2]) (n := 7) (Nat.le_of_ble_eq_true rfl)
  rw [lg_entry_eq]
  generalize (lg_sl ([.ref x0, .int x1, .int x2]) ++ List.replicate (7 - (lg_sl ([.ref x0, .int x1, .int x2])).length) Slot.unset).toArray = ls at hl ⊢
  have hl : lv_has ls 7 [(0, .ref x0), (1, .int x1), (2, .int x2)] := hl
  unfold fX1_seen at hF
  refine lv_iload_n hx hb dX1_seen_0 rfl (lv_at hl 1 rfl) ?_
  refine lv_iconst (v := 0) hx hb dX1_seen_1 rfl ?_
  refine lv_aload_n hx hb dX1_seen_2 rfl (lv_at hl 0 rfl) ?_
  obtain ⟨a1, ea1, hF⟩ := obn hF
  refine cgn S hX hM ea1 ck_1_1_3 q327 (fun _ h => h) dX1_seen_3 ?_
  obtain ⟨a2, ea2, hF⟩ := obn hF
  refine cgnN S hX hM ea2 ck_2_2_7 (uq213 hX) dX1_seen_6 ?_
  obtain ⟨z3, hF⟩ := gTe hF
  obtain ⟨r3, er3, hF⟩ := obn hF
  refine ccr (rest := [.int 0, .int x1]) (st1 := [.int r3, .int 0, .int x1]) S hX hM (metJ2_size l F D h0 a2 r3 er3) (ci_V (C := "java/util/ArrayList") (As := []) (rest := [.int 0, .int x1]) S q1149 q830 q831 q832 hyJ2_size (HI.cell (ci := 14) hX hM (by decide) (by omega)) hlJ2_size rfl dX1_seen_9) q832 q107 (Nat.le_of_ble_eq_true rfl) (Nat.le_of_ble_eq_true rfl) hl.1 (Nat.le_of_ble_eq_true rfl) rfl (fun H locs cs ss hM => ?_)
  refine lv_iconst (v := 1) hx hb dX1_seen_12 rfl ?_
  refine lv_isub hx hb dX1_seen_13 ?_
  refine ccr (rest := []) (st1 := [.int (fX1_isIn x1 0 (r3 - 1))]) S hX hM (metX1_isIn l D h0 x1 0 (r3 - 1) _ rfl) (ci_S (As := [.int x1, .int 0, .int (r3 - 1)]) (rest := []) S q1150 q821 q103 q822 hyX1_isIn hlX1_isIn rfl dX1_seen_14) q822 q103 (Nat.le_of_ble_eq_true rfl) (Nat.le_of_ble_eq_true rfl) hl.1 (Nat.le_of_ble_eq_true rfl) rfl (fun H locs cs ss hM => ?_)
  refine lv_if_eq (tgt := 45) hx hb dX1_seen_17 (by decide) (fun c5 => ?_) (fun c5 => ?_)
  · have hF := ifp hF c5
    refine lv_iconst (v := (-1)) hx hb dX1_seen_45 rfl ?_
    have hz := (Option.some.inj hF)
    subst hz
    exact cri S hM hr hlocks dX1_seen_46
  · have hF := ifn hF c5
    refine lv_iload_n hx hb dX1_seen_20 rfl (lv_at hl 2 rfl) ?_
    refine lv_iconst (v := 0) hx hb dX1_seen_21 rfl ?_
    refine lv_aload_n hx hb dX1_seen_22 rfl (lv_at hl 0 rfl) ?_
    obtain ⟨a6, ea6, hF⟩ := obn hF
    refine cgn S hX hM ea6 ck_1_1_3 q327 (fun _ h => h) dX1_seen_23 ?_
    obtain ⟨a7, ea7, hF⟩ := obn hF
    refine cgnN S hX hM ea7 ck_2_2_7 (uq213 hX) dX1_seen_26 ?_
    obtain ⟨z8, hF⟩ := gTe hF
    obtain ⟨r8, er8, hF⟩ := obn hF
    refine ccr (rest := [.int 0, .int x2]) (st1 := [.int r8, .int 0, .int x2]) S hX hM (metJ2_size l F D h0 a7 r8 er8) (ci_V (C := "java/util/ArrayList") (As := []) (rest := [.int 0, .int x2]) S q1149 q830 q831 q832 hyJ2_size (HI.cell (ci := 14) hX hM (by decide) (by omega)) hlJ2_size rfl dX1_seen_29) q832 q107 (Nat.le_of_ble_eq_true rfl) (Nat.le_of_ble_eq_true rfl) hl.1 (Nat.le_of_ble_eq_true rfl) rfl (fun H locs cs ss hM => ?_)
    refine lv_iconst (v := 1) hx hb dX1_seen_32 rfl ?_
    refine lv_isub hx hb dX1_seen_33 ?_
    refine ccr (rest := []) (st1 := [.int (fX1_isIn x2 0 (r8 - 1))]) S hX hM (metX1_isIn l D h0 x2 0 (r8 - 1) _ rfl) (ci_S (As := [.int x2, .int 0, .int (r8 - 1)]) (rest := []) S q1150 q821 q103 q822 hyX1_isIn hlX1_isIn rfl dX1_seen_34) q822 q103 (Nat.le_of_ble_eq_true rfl) (Nat.le_of_ble_eq_true rfl) hl.1 (Nat.le_of_ble_eq_true rfl) rfl (fun H locs cs ss hM => ?_)
    refine lv_if_eq (tgt := 45) hx hb dX1_seen_37 (by decide) (fun c10 => ?_) (fun c10 => ?_)
    · have hF := ifp hF c10
      refine lv_iconst (v := (-1)) hx hb dX1_seen_45 rfl ?_
      have hz := (Option.some.inj hF)
      subst hz
      exact cri S hM hr hlocks dX1_seen_46
    · have hF := ifn hF c10
      refine lv_iload_n hx hb dX1_seen_40 rfl (lv_at hl 1 rfl) ?_
      refine lv_iload_n hx hb dX1_seen_41 rfl (lv_at hl 2 rfl) ?_
      refine lv_icmp_ne (tgt := 47) hx hb dX1_seen_42 (by decide) (fun c11 => ?_) (fun c11 => ?_)
      · have hF := ifn hF c11
        refine lv_aload_n hx hb dX1_seen_47 rfl (lv_at hl 0 rfl) ?_
        obtain ⟨a12, ea12, hF⟩ := obn hF
        refine cgn S hX hM ea12 ck_1_1_3 q327 (fun _ h => h) dX1_seen_48 ?_
        obtain ⟨a13, ea13, hF⟩ := obn hF
        refine cgnN S hX hM ea13 ck_2_2_7 (uq213 hX) dX1_seen_51 ?_
        refine lv_iload_n hx hb dX1_seen_54 rfl (lv_at hl 1 rfl) ?_
        obtain ⟨z14, hF⟩ := gTe hF
        obtain ⟨r14, er14, hF⟩ := obn hF
        refine ccr (rest := []) (st1 := [.ref r14]) S hX hM (metJ2_get l F D h0 a13 x1 r14 er14) (ci_V (C := "java/util/ArrayList") (As := [.int x1]) (rest := []) S q1151 q925 q926 q927 hyJ2_get (HI.cell (ci := 14) hX hM (by decide) (by omega)) hlJ2_get rfl dX1_seen_55) q927 q107 (Nat.le_of_ble_eq_true rfl) (Nat.le_of_ble_eq_true rfl) hl.1 (Nat.le_of_ble_eq_true rfl) rfl (fun H locs cs ss hM => ?_)
        obtain ⟨z15, hF⟩ := gTe hF
        refine ccs (ci := 17) S hX hM (by decide) (by omega) q1417 dX1_seen_58 ?_
        obtain ⟨z16, hF⟩ := gTe hF
        obtain ⟨r16, er16, hF⟩ := obn hF
        refine ccr (rest := []) (st1 := [.int r16]) S hX hM (metJ16_intValue l F D h0 r14 r16 er16) (ci_V (C := "java/lang/Integer") (As := []) (rest := []) S q1418 q1419 q1420 q1421 hyJ16_intValue (HI.cell (ci := 17) hX hM (by decide) (by omega)) hlJ16_intValue rfl dX1_seen_61) q1421 q130 (Nat.le_of_ble_eq_true rfl) (Nat.le_of_ble_eq_true rfl) hl.1 (Nat.le_of_ble_eq_true rfl) rfl (fun H locs cs ss hM => ?_)
        refine lv_istore_n (lv' := [(3, .int r16), (0, .ref x0), (1, .int x1), (2, .int x2)]) hx hb dX1_seen_64 rfl hl (by decide) rfl (fun ls hl => ?_)
        refine lv_aload_n hx hb dX1_seen_65 rfl (lv_at hl 1 rfl) ?_
        obtain ⟨a17, ea17, hF⟩ := obn hF
        refine cgn S hX hM ea17 ck_1_1_3 q327 (fun _ h => h) dX1_seen_66 ?_
        obtain ⟨a18, ea18, hF⟩ := obn hF
        refine cgnN S hX hM ea18 ck_2_2_7 (uq213 hX) dX1_seen_69 ?_
        refine lv_iload_n hx hb dX1_seen_72 rfl (lv_at hl 3 rfl) ?_
        obtain ⟨z19, hF⟩ := gTe hF
        obtain ⟨r19, er19, hF⟩ := obn hF
        refine ccr (rest := []) (st1 := [.ref r19]) S hX hM (metJ2_get l F D h0 a18 x2 r19 er19) (ci_V (C := "java/util/ArrayList") (As := [.int x2]) (rest := []) S q1151 q925 q926 q927 hyJ2_get (HI.cell (ci := 14) hX hM (by decide) (by omega)) hlJ2_get rfl dX1_seen_73) q927 q107 (Nat.le_of_ble_eq_true rfl) (Nat.le_of_ble_eq_true rfl) hl.1 (Nat.le_of_ble_eq_true rfl) rfl (fun H locs cs ss hM => ?_)
        obtain ⟨z20, hF⟩ := gTe hF
        refine ccs (ci := 17) S hX hM (by decide) (by omega) q1417 dX1_seen_76 ?_
        obtain ⟨z21, hF⟩ := gTe hF
        obtain ⟨r21, er21, hF⟩ := obn hF
        refine ccr (rest := []) (st1 := [.int r21]) S hX hM (metJ16_intValue l F D h0 r19 r21 er21) (ci_V (C := "java/lang/Integer") (As := []) (rest := []) S q1418 q1419 q1420 q1421 hyJ16_intValue (HI.cell (ci := 17) hX hM (by decide) (by omega)) hlJ16_intValue rfl dX1_seen_79) q1421 q130 (Nat.le_of_ble_eq_true rfl) (Nat.le_of_ble_eq_true rfl) hl.1 (Nat.le_of_ble_eq_true rfl) rfl (fun H locs cs ss hM => ?_)
        refine lv_istore (lv' := [(4, .int r21), (3, .int r16), (0, .ref x0), (1, .int x1), (2, .int x2)]) hx hb dX1_seen_82 hl (by decide) rfl (fun ls hl => ?_)
        refine lv_iconst (v := 0) hx hb dX1_seen_84 rfl ?_
        refine lv_istore (lv' := [(5, .int 0), (4, .int r21), (3, .int r16), (0, .ref x0), (1, .int x1), (2, .int x2)]) hx hb dX1_seen_85 hl (by decide) rfl (fun ls hl => ?_)
        obtain ⟨oq26, hq26, h1q26, h2q26⟩ := osx hF
        refine wlX1_seen_87 S hX _ hr hlocks hnt F _  F _ _ _ _ oq26 hq26 (fun v e => (h2q26 v e)) (fun q26 eq26 H locs cs ss ls hM hl => ?_) _ _ _ _ _ hM (lv_sub hl [3, 2, 1, 0] rfl)
        have hF := h1q26 _ eq26
        refine lv_aload_n hx hb dX1_seen_116 rfl (lv_at hl 0 rfl) ?_
        obtain ⟨a27, ea27, hF⟩ := obn hF
        refine cgn S hX hM ea27 ck_1_1_22 q346 (fun _ h => h) dX1_seen_117 ?_
        refine lv_iconst (v := 0) hx hb dX1_seen_120 rfl ?_
        obtain ⟨r28, er28, hF⟩ := obn hF
        refine ccr (rest := []) (st1 := []) S hX hM (metJ3_fill_2 l F D h0 a27 0 r28 er28) (ci_S (As := [.ref a27, .int 0]) (rest := []) S q1303 q1304 q109 q1305 hyJ3_fill_2 hlJ3_fill_2 rfl dX1_seen_121) q1305 q109 (Nat.le_of_ble_eq_true rfl) (Nat.le_of_ble_eq_true rfl) hl.1 (Nat.le_of_ble_eq_true rfl) rfl (fun H locs cs ss hM => ?_)
        refine lv_aload_n hx hb dX1_seen_124 rfl (lv_at hl 0 rfl) ?_
        refine lv_iload_n hx hb dX1_seen_125 rfl (lv_at hl 1 rfl) ?_
        refine lv_iload hx hb dX1_seen_126 (lv_at hl 2 rfl) ?_
        obtain ⟨z29, hF⟩ := gTe hF
        obtain ⟨r29, er29, hF⟩ := obn hF
        refine ccr (rest := []) (st1 := [.int r29.1]) S hX hM (metX1_rows l F D r28 x0 r16 r21 r29 er29) (ci_V (C := "RugReader") (As := [.int r16, .int r21]) (rest := []) S q1423 q1425 qs30 q1426 hyX1_rows (HI.cell (ci := 0) hX hM (by decide) (by omega)) hlX1_rows rfl dX1_seen_128) q1426 q103 (Nat.le_of_ble_eq_true rfl) (Nat.le_of_ble_eq_true rfl) hl.1 (Nat.le_of_ble_eq_true rfl) rfl (fun H locs cs ss hM => ?_)
        refine lv_istore (lv' := [(5, .int r29.1), (0, .ref x0), (3, .int r16), (4, .int r21)]) hx hb dX1_seen_131 hl (by decide) rfl (fun ls hl => ?_)
        refine lv_aload_n hx hb dX1_seen_133 rfl (lv_at hl 1 rfl) ?_
        refine lv_iconst (v := 0) hx hb dX1_seen_134 rfl ?_
        obtain ⟨σ30, eσ30, hF⟩ := obn hF
        refine cpi S hX hM eσ30 ck_1_1_29 cw_1_1_29 rfl rfl q353 (fun _ h => h) dX1_seen_135 (fun H locs hM => ?_)
        refine lv_iconst (v := 0) hx hb dX1_seen_138 rfl ?_
        refine lv_istore (lv' := [(6, .int 0), (5, .int r29.1), (0, .ref x0), (3, .int r16), (4, .int r21)]) hx hb dX1_seen_139 hl (by decide) rfl (fun ls hl => ?_)
        obtain ⟨q53, hq53, hF⟩ := obn hF
        refine wlX1_seen_141 S hX F  F _ _ _ _ _ _ q53 hq53 (fun H locs cs ss ls hM hl => ?_) _ _ _ _ _ hM (lv_sub hl [2, 3, 4, 1, 0] rfl)
        refine lv_aload_n hx hb dX1_seen_256 rfl (lv_at hl 0 rfl) ?_
        obtain ⟨v54, ev54, hF⟩ := obn hF
        refine cgi S hX hM ev54 ck_1_1_29 q353 (fun _ h => h) dX1_seen_257 ?_
        have hz := (Option.some.inj hF)
        subst hz
        exact cri S hM hr hlocks dX1_seen_260
      · have hF := ifp hF c11
        refine lv_iconst (v := (-1)) hx hb dX1_seen_45 rfl ?_
        have hz := (Option.some.inj hF)
        subst hz
        exact cri S hM hr hlocks dX1_seen_46
def fX1_lay (F : Nat) (h0 : HS) (x0 : Nat) (x1 : Int32) : Option (Int32) := ((oI h0 x0 1 1 29).bind fun v1 => (if (fX1_isIn x1 0 (v1 - 1)) = 0 then (some (-1)) else ((fR h0 x0 1 1 28).bind fun a4 => ((aI h0 a4 31 x1).bind fun v5 => some v5))))
theorem hyX1_lay : yX1_lay.cls ≠ "java/lang/invoke/MethodHandle" ∧ yX1_lay.cls ≠ "java/lang/invoke/VarHandle" := by decide +kernel
theorem hlX1_lay : (parseMethodDescriptor yX1_lay.desc).map (fun d => d.parameters.length) = some 1 := by decide +kernel
set_option maxHeartbeats 4000000 in
set_option maxRecDepth 100000 in
theorem metX1_lay (l : Launch) [NoTr l] (F : Nat) (D : va_G) (h0 : HS) (x0 : Nat) (x1 : Int32) (r : Int32) (hF : fX1_lay F h0 x0 x1 = some r) : CMet l yX1_lay (ws_ yX1_lay cX1_lay 2 (some .int)) 1 22 D [.ref x0, .int x1] h0 h0 (.inr (some (.int r))) := by
  refine CMet.ofW (by decide) ?_
  intro p e s m below meth c s₁ B S hX hM hr hlocks hnt hin
  obtain ⟨hx, hb, hml, hown, hts⟩ := id S
  have hl := lv_entry ([.ref x0, .int x1]) (n := 2) (Nat.le_of_ble_eq_true rfl)
  rw [lg_entry_eq]
  generalize (lg_sl ([.ref x0, .int x1]) ++ List.replicate (2 - (lg_sl ([.ref x0, .int x1])).length) Slot.unset).toArray = ls at hl ⊢
  have hl : lv_has ls 2 [(0, .ref x0), (1, .int x1)] := hl
  unfold fX1_lay at hF
  refine lv_iload_n hx hb dX1_lay_0 rfl (lv_at hl 1 rfl) ?_
  refine lv_iconst (v := 0) hx hb dX1_lay_1 rfl ?_
  refine lv_aload_n hx hb dX1_lay_2 rfl (lv_at hl 0 rfl) ?_
  obtain ⟨v1, ev1, hF⟩ := obn hF
  refine cgi S hX hM ev1 ck_1_1_29 q353 (fun _ h => h) dX1_lay_3 ?_
  refine lv_iconst (v := 1) hx hb dX1_lay_6 rfl ?_
  refine lv_isub hx hb dX1_lay_7 ?_
  refine ccr (rest := []) (st1 := [.int (fX1_isIn x1 0 (v1 - 1))]) S hX hM (metX1_isIn l D h0 x1 0 (v1 - 1) _ rfl) (ci_S (As := [.int x1, .int 0, .int (v1 - 1)]) (rest := []) S q1150 q821 q103 q822 hyX1_isIn hlX1_isIn rfl dX1_lay_8) q822 q103 (Nat.le_of_ble_eq_true rfl) (Nat.le_of_ble_eq_true rfl) hl.1 (Nat.le_of_ble_eq_true rfl) rfl (fun H locs cs ss hM => ?_)
  refine lv_if_eq (tgt := 23) hx hb dX1_lay_11 (by decide) (fun c3 => ?_) (fun c3 => ?_)
  · have hF := ifp hF c3
    refine lv_iconst (v := (-1)) hx hb dX1_lay_23 rfl ?_
    have hz := (Option.some.inj hF)
    subst hz
    exact cri S hM hr hlocks dX1_lay_24
  · have hF := ifn hF c3
    refine lv_aload_n hx hb dX1_lay_14 rfl (lv_at hl 0 rfl) ?_
    obtain ⟨a4, ea4, hF⟩ := obn hF
    refine cgn S hX hM ea4 ck_1_1_28 q352 (fun _ h => h) dX1_lay_15 ?_
    refine lv_iload_n hx hb dX1_lay_18 rfl (lv_at hl 1 rfl) ?_
    obtain ⟨v5, ev5, hF⟩ := obn hF
    refine cai S hX hM ev5 dX1_lay_19 ?_
    refine lv_goto (tgt := 24) hx hb dX1_lay_20 (by decide) ?_
    have hz := (Option.some.inj hF)
    subst hz
    exact cri S hM hr hlocks dX1_lay_24
def fX11_isOver (F : Nat) (h0 : HS) (x0 : Nat) (x1 : Int32) : Option (Int32) := gT h0 x0 10 10 (((fX11_times F h0 x0 x1).bind fun r1 => (if r1 ≤ 0 then (some 0) else (some 1))))
theorem hyX11_isOver : yX11_isOver.cls ≠ "java/lang/invoke/MethodHandle" ∧ yX11_isOver.cls ≠ "java/lang/invoke/VarHandle" := by decide +kernel
theorem hlX11_isOver : (parseMethodDescriptor yX11_isOver.desc).map (fun d => d.parameters.length) = some 1 := by decide +kernel
set_option maxHeartbeats 4000000 in
set_option maxRecDepth 100000 in
theorem metX11_isOver (l : Launch) [NoTr l] (F : Nat) (D : va_G) (h0 : HS) (x0 : Nat) (x1 : Int32) (r : Int32) (hF : fX11_isOver F h0 x0 x1 = some r) : CMet l yX11_isOver (ws_ yX11_isOver cX11_isOver 2 (some .boolean)) 1 23 D [.ref x0, .int x1] h0 h0 (.inr (some (.int r))) := by
  refine CMet.ofW (by decide) ?_
  intro p e s m below meth c s₁ B S hX hM hr hlocks hnt hin
  obtain ⟨hx, hb, hml, hown, hts⟩ := id S
  have hl := lv_entry ([.ref x0, .int x1]) (n := 2) (Nat.le_of_ble_eq_true rfl)
  rw [lg_entry_eq]
  generalize (lg_sl ([.ref x0, .int x1]) ++ List.replicate (2 - (lg_sl ([.ref x0, .int x1])).length) Slot.unset).toArray = ls at hl ⊢
  have hl : lv_has ls 2 [(0, .ref x0), (1, .int x1)] := hl
  unfold fX11_isOver at hF
  refine lv_aload_n hx hb dX11_isOver_0 rfl (lv_at hl 0 rfl) ?_
  refine lv_iload_n hx hb dX11_isOver_1 rfl (lv_at hl 1 rfl) ?_
  obtain ⟨z1, hF⟩ := gTe hF
  obtain ⟨r1, er1, hF⟩ := obn hF
  refine ccr (rest := []) (st1 := [.int r1]) S hX hM (metX11_times l F D h0 x0 x1 r1 er1) (ci_V (C := "RugReader$Way") (As := [.int x1]) (rest := []) S q1459 q1268 q1269 q1270 hyX11_times (HI.cell (ci := 9) hX hM (by decide) (by omega)) hlX11_times rfl dX11_isOver_2) q1270 q132 (Nat.le_of_ble_eq_true rfl) (Nat.le_of_ble_eq_true rfl) hl.1 (Nat.le_of_ble_eq_true rfl) rfl (fun H locs cs ss hM => ?_)
  refine lv_if_le (tgt := 12) hx hb dX11_isOver_5 (by decide) (fun c2 => ?_) (fun c2 => ?_)
  · have hF := ifp hF c2
    refine lv_iconst (v := 0) hx hb dX11_isOver_12 rfl ?_
    have hz := (Option.some.inj hF)
    subst hz
    exact crz S hM hr hlocks (gBn gB0) dX11_isOver_13
  · have hF := ifn hF c2
    refine lv_iconst (v := 1) hx hb dX11_isOver_8 rfl ?_
    refine lv_goto (tgt := 13) hx hb dX11_isOver_9 (by decide) ?_
    have hz := (Option.some.inj hF)
    subst hz
    exact crz S hM hr hlocks (gBn gB1) dX11_isOver_13
def lX1_waysOver_4 (F : Nat) (σ : HS) : Nat → Nat → Int32 → Int32 → Int32 → Option (Int32)
  | 0, _, _, _, _ => none
  | n + 1, y0, y1, y2, y3 => ((fR σ y0 1 1 3).bind fun a1 => ((fR σ a1 2 2 6).bind fun a2 => gT σ a2 15 15 (((fJ2_size F σ a2).bind fun r3 => (if r3 ≤ y3 then (some y2) else ((fR σ y0 1 1 3).bind fun a5 => ((fR σ a5 2 2 6).bind fun a6 => gT σ a6 15 15 (((fJ2_get F σ a6 y3).bind fun r7 => gT σ r7 10 10 (gT σ r7 10 10 (((fX11_isOver F σ r7 y1).bind fun r9 => (if r9 = 0 then (lX1_waysOver_4 F σ n y0 y1 y2 (y3 + 1)) else (lt_ (y2 ||| (1 <<< (y3 &&& 31))) fun u11 => lX1_waysOver_4 F σ n y0 y1 u11 (y3 + 1)))))))))))))))
def fX1_waysOver (F : Nat) (h0 : HS) (x0 : Nat) (x1 : Int32) : Option (Int32) := ((lX1_waysOver_4 F h0 F x0 x1 0 0).bind fun q12 => some q12)
theorem hyX1_waysOver : yX1_waysOver.cls ≠ "java/lang/invoke/MethodHandle" ∧ yX1_waysOver.cls ≠ "java/lang/invoke/VarHandle" := by decide +kernel
theorem hlX1_waysOver : (parseMethodDescriptor yX1_waysOver.desc).map (fun d => d.parameters.length) = some 1 := by decide +kernel
set_option maxHeartbeats 4000000 in
set_option maxRecDepth 100000 in
theorem wlX1_waysOver_4 {p : Program} {l : Launch} [NoTr l] {e : Env} {s : State} {m : MethodId} {args : Array Value} {below : List Frame} {meth : Method} {c : Code} {D : va_G} {h0 : HS} (S : CallFix p m c cX1_waysOver 4 s args lw_all RX1) (hX : CX D (kG h0) s) (σ : HS) (F : Nat) {Q : State → Prop} : ∀ (n : Nat) (y0 : Nat) (y1 : Int32) (y2 : Int32) (y3 : Int32) (out : Int32), lX1_waysOver_4 F σ n y0 y1 y2 y3 = some out → (∀ (H : Heap) (locs : List Loc) (cs ss : Nat) (ls : Array Slot), HI D h0 σ s.heap H locs cs ss → lv_has ls 4 [(2, .int out)] → W p l e (cR 3 64 h0) s m args below meth c H locs cs ss Q (F0 m 51 ls [])) → ∀ (H : Heap) (locs : List Loc) (cs ss : Nat) (ls : Array Slot), HI D h0 σ s.heap H locs cs ss → lv_has ls 4 [(0, .ref y0), (1, .int y1), (2, .int y2), (3, .int y3)] → W p l e (cR 3 64 h0) s m args below meth c H locs cs ss Q (F0 m 4 ls []) := by
  intro n
  induction n with
  | zero =>
    intro y0 y1 y2 y3 out hF
    cases (show (none : Option _) = some out from hF)
  | succ n ih =>
    intro y0 y1 y2 y3 out hF hk H locs cs ss ls hM hl
    rw [lX1_waysOver_4] at hF
    obtain ⟨hx, hb, hml, hown, hts⟩ := id S
    refine lv_iload_n hx hb dX1_waysOver_4 rfl (lv_at hl 3 rfl) ?_
    refine lv_aload_n hx hb dX1_waysOver_5 rfl (lv_at hl 0 rfl) ?_
    obtain ⟨a1, ea1, hF⟩ := obn hF
    refine cgn S hX hM ea1 ck_1_1_3 q327 (fun _ h => h) dX1_waysOver_6 ?_
    obtain ⟨a2, ea2, hF⟩ := obn hF
    refine cgnN S hX hM ea2 ck_2_2_6 (uq210 hX) dX1_waysOver_9 ?_
    obtain ⟨z3, hF⟩ := gTe hF
    obtain ⟨r3, er3, hF⟩ := obn hF
    refine ccr (rest := [.int y3]) (st1 := [.int r3, .int y3]) S hX hM (metJ2_size l F D σ a2 r3 er3) (ci_V (C := "java/util/ArrayList") (As := []) (rest := [.int y3]) S q1149 q830 q831 q832 hyJ2_size (HI.cell (ci := 14) hX hM (by decide) (by omega)) hlJ2_size rfl dX1_waysOver_12) q832 q107 (Nat.le_of_ble_eq_true rfl) (Nat.le_of_ble_eq_true rfl) hl.1 (Nat.le_of_ble_eq_true rfl) rfl (fun H locs cs ss hM => ?_)
    refine lv_icmp_ge (tgt := 51) hx hb dX1_waysOver_15 (by decide) (fun c4 => ?_) (fun c4 => ?_)
    · have hF := ifp hF c4
      cases hF
      exact hk _ _ _ _ _ hM (lv_sub hl [2] rfl)
    · have hF := ifn hF c4
      refine lv_aload_n hx hb dX1_waysOver_18 rfl (lv_at hl 0 rfl) ?_
      obtain ⟨a5, ea5, hF⟩ := obn hF
      refine cgn S hX hM ea5 ck_1_1_3 q327 (fun _ h => h) dX1_waysOver_19 ?_
      obtain ⟨a6, ea6, hF⟩ := obn hF
      refine cgnN S hX hM ea6 ck_2_2_6 (uq210 hX) dX1_waysOver_22 ?_
      refine lv_iload_n hx hb dX1_waysOver_25 rfl (lv_at hl 3 rfl) ?_
      obtain ⟨z7, hF⟩ := gTe hF
      obtain ⟨r7, er7, hF⟩ := obn hF
      refine ccr (rest := []) (st1 := [.ref r7]) S hX hM (metJ2_get l F D σ a6 y3 r7 er7) (ci_V (C := "java/util/ArrayList") (As := [.int y3]) (rest := []) S q1151 q925 q926 q927 hyJ2_get (HI.cell (ci := 14) hX hM (by decide) (by omega)) hlJ2_get rfl dX1_waysOver_26) q927 q107 (Nat.le_of_ble_eq_true rfl) (Nat.le_of_ble_eq_true rfl) hl.1 (Nat.le_of_ble_eq_true rfl) rfl (fun H locs cs ss hM => ?_)
      obtain ⟨z8, hF⟩ := gTe hF
      refine ccs (ci := 9) S hX hM (by decide) (by omega) q1152 dX1_waysOver_29 ?_
      refine lv_iload_n hx hb dX1_waysOver_32 rfl (lv_at hl 1 rfl) ?_
      obtain ⟨z9, hF⟩ := gTe hF
      obtain ⟨r9, er9, hF⟩ := obn hF
      refine ccr (rest := []) (st1 := [.int r9]) S hX hM (metX11_isOver l F D σ r7 y1 r9 er9) (ci_V (C := "RugReader$Way") (As := [.int y1]) (rest := []) S q1455 q1456 q1457 q1458 hyX11_isOver (HI.cell (ci := 9) hX hM (by decide) (by omega)) hlX11_isOver rfl dX1_waysOver_33) q1458 q132 (Nat.le_of_ble_eq_true rfl) (Nat.le_of_ble_eq_true rfl) hl.1 (Nat.le_of_ble_eq_true rfl) rfl (fun H locs cs ss hM => ?_)
      refine lv_if_eq (tgt := 45) hx hb dX1_waysOver_36 (by decide) (fun c10 => ?_) (fun c10 => ?_)
      · have hF := ifp hF c10
        refine lv_iinc (v := y3 + 1) (lv' := [(3, .int (y3 + 1)), (0, .ref y0), (1, .int y1), (2, .int y2)]) hx hb dX1_waysOver_45 hl (k := 3) rfl rfl (by decide) rfl (fun ls hl => ?_)
        refine lv_goto (tgt := 4) hx hb dX1_waysOver_48 (by decide) ?_
        exact ih _ _ _ _ out hF hk _ _ _ _ _ hM (lv_sub hl [1, 2, 3, 0] rfl)
      · have hF := ifn hF c10
        refine lv_iload_n hx hb dX1_waysOver_39 rfl (lv_at hl 2 rfl) ?_
        refine lv_iconst (v := 1) hx hb dX1_waysOver_40 rfl ?_
        refine lv_iload_n hx hb dX1_waysOver_41 rfl (lv_at hl 3 rfl) ?_
        refine lv_ishl hx hb dX1_waysOver_42 ?_
        refine lv_ior hx hb dX1_waysOver_43 ?_
        obtain ⟨u11, eu11, hF⟩ := lte hF
        refine mr_top eu11 ?_
        refine lv_istore_n (lv' := [(2, .int u11), (0, .ref y0), (1, .int y1), (3, .int y3)]) hx hb dX1_waysOver_44 rfl hl (by decide) rfl (fun ls hl => ?_)
        refine lv_iinc (v := y3 + 1) (lv' := [(3, .int (y3 + 1)), (2, .int u11), (0, .ref y0), (1, .int y1)]) hx hb dX1_waysOver_45 hl (k := 3) rfl rfl (by decide) rfl (fun ls hl => ?_)
        refine lv_goto (tgt := 4) hx hb dX1_waysOver_48 (by decide) ?_
        exact ih _ _ _ _ out hF hk _ _ _ _ _ hM (lv_sub hl [2, 3, 1, 0] rfl)
set_option maxHeartbeats 4000000 in
set_option maxRecDepth 100000 in
theorem metX1_waysOver (l : Launch) [NoTr l] (F : Nat) (D : va_G) (h0 : HS) (x0 : Nat) (x1 : Int32) (r : Int32) (hF : fX1_waysOver F h0 x0 x1 = some r) : CMet l yX1_waysOver (ws_ yX1_waysOver cX1_waysOver 4 (some .int)) 3 64 D [.ref x0, .int x1] h0 h0 (.inr (some (.int r))) := by
  refine CMet.ofW (by decide) ?_
  intro p e s m below meth c s₁ B S hX hM hr hlocks hnt hin
  obtain ⟨hx, hb, hml, hown, hts⟩ := id S
  have hl := lv_entry ([.ref x0, .int x1]) (n := 4) (Nat.le_of_ble_eq_true rfl)
  rw [lg_entry_eq]
  generalize (lg_sl ([.ref x0, .int x1]) ++ List.replicate (4 - (lg_sl ([.ref x0, .int x1])).length) Slot.unset).toArray = ls at hl ⊢
  have hl : lv_has ls 4 [(0, .ref x0), (1, .int x1)] := hl
  unfold fX1_waysOver at hF
  refine lv_iconst (v := 0) hx hb dX1_waysOver_0 rfl ?_
  refine lv_istore_n (lv' := [(2, .int 0), (0, .ref x0), (1, .int x1)]) hx hb dX1_waysOver_1 rfl hl (by decide) rfl (fun ls hl => ?_)
  refine lv_iconst (v := 0) hx hb dX1_waysOver_2 rfl ?_
  refine lv_istore_n (lv' := [(3, .int 0), (2, .int 0), (0, .ref x0), (1, .int x1)]) hx hb dX1_waysOver_3 rfl hl (by decide) rfl (fun ls hl => ?_)
  obtain ⟨q12, hq12, hF⟩ := obn hF
  refine wlX1_waysOver_4 S hX _ F  F _ _ _ _ q12 hq12 (fun H locs cs ss ls hM hl => ?_) _ _ _ _ _ hM (lv_sub hl [2, 3, 1, 0] rfl)
  refine lv_iload_n hx hb dX1_waysOver_51 rfl (lv_at hl 0 rfl) ?_
  have hz := (Option.some.inj hF)
  subst hz
  exact cri S hM hr hlocks dX1_waysOver_52
def fX1_ways (F : Nat) (h0 : HS) (x0 : Nat) (x1 : Int32) : Option (Int32) := ((fR h0 x0 1 1 3).bind fun a1 => gT h0 a1 2 2 (((fX2_isTuft F h0 a1 x1).bind fun r2 => (if r2 = 0 then (some (-1)) else (gT h0 x0 1 1 (((fX1_waysOver F h0 x0 x1).bind fun r4 => some r4)))))))
theorem hyX1_ways : yX1_ways.cls ≠ "java/lang/invoke/MethodHandle" ∧ yX1_ways.cls ≠ "java/lang/invoke/VarHandle" := by decide +kernel
theorem hlX1_ways : (parseMethodDescriptor yX1_ways.desc).map (fun d => d.parameters.length) = some 1 := by decide +kernel
set_option maxHeartbeats 4000000 in
set_option maxRecDepth 100000 in
theorem metX1_ways (l : Launch) [NoTr l] (F : Nat) (D : va_G) (h0 : HS) (x0 : Nat) (x1 : Int32) (r : Int32) (hF : fX1_ways F h0 x0 x1 = some r) : CMet l yX1_ways (ws_ yX1_ways cX1_ways 2 (some .int)) 4 87 D [.ref x0, .int x1] h0 h0 (.inr (some (.int r))) := by
  refine CMet.ofW (by decide) ?_
  intro p e s m below meth c s₁ B S hX hM hr hlocks hnt hin
  obtain ⟨hx, hb, hml, hown, hts⟩ := id S
  have hl := lv_entry ([.ref x0, .int x1]) (n := 2) (Nat.le_of_ble_eq_true rfl)
  rw [lg_entry_eq]
  generalize (lg_sl ([.ref x0, .int x1]) ++ List.replicate (2 - (lg_sl ([.ref x0, .int x1])).length) Slot.unset).toArray = ls at hl ⊢
  have hl : lv_has ls 2 [(0, .ref x0), (1, .int x1)] := hl
  unfold fX1_ways at hF
  refine lv_aload_n hx hb dX1_ways_0 rfl (lv_at hl 0 rfl) ?_
  obtain ⟨a1, ea1, hF⟩ := obn hF
  refine cgn S hX hM ea1 ck_1_1_3 q327 (fun _ h => h) dX1_ways_1 ?_
  refine lv_iload_n hx hb dX1_ways_4 rfl (lv_at hl 1 rfl) ?_
  obtain ⟨z2, hF⟩ := gTe hF
  obtain ⟨r2, er2, hF⟩ := obn hF
  refine ccr (rest := []) (st1 := [.int r2]) S hX hM (metX2_isTuft l F D h0 a1 x1 r2 er2) (ci_V (C := "RugReader$House") (As := [.int x1]) (rest := []) S q1200 q1201 q1202 q1203 hyX2_isTuft (HI.cell (ci := 1) hX hM (by decide) (by omega)) hlX2_isTuft rfl dX1_ways_5) q1203 q104 (Nat.le_of_ble_eq_true rfl) (Nat.le_of_ble_eq_true rfl) hl.1 (Nat.le_of_ble_eq_true rfl) rfl (fun H locs cs ss hM => ?_)
  refine lv_if_eq (tgt := 19) hx hb dX1_ways_8 (by decide) (fun c3 => ?_) (fun c3 => ?_)
  · have hF := ifp hF c3
    refine lv_iconst (v := (-1)) hx hb dX1_ways_19 rfl ?_
    have hz := (Option.some.inj hF)
    subst hz
    exact cri S hM hr hlocks dX1_ways_20
  · have hF := ifn hF c3
    refine lv_aload_n hx hb dX1_ways_11 rfl (lv_at hl 0 rfl) ?_
    refine lv_iload_n hx hb dX1_ways_12 rfl (lv_at hl 1 rfl) ?_
    obtain ⟨z4, hF⟩ := gTe hF
    obtain ⟨r4, er4, hF⟩ := obn hF
    refine ccr (rest := []) (st1 := [.int r4]) S hX hM (metX1_waysOver l F D h0 x0 x1 r4 er4) (ci_V (C := "RugReader") (As := [.int x1]) (rest := []) S q1451 q1453 qs35 q1454 hyX1_waysOver (HI.cell (ci := 0) hX hM (by decide) (by omega)) hlX1_waysOver rfl dX1_ways_13) q1454 q103 (Nat.le_of_ble_eq_true rfl) (Nat.le_of_ble_eq_true rfl) hl.1 (Nat.le_of_ble_eq_true rfl) rfl (fun H locs cs ss hM => ?_)
    refine lv_goto (tgt := 20) hx hb dX1_ways_16 (by decide) ?_
    have hz := (Option.some.inj hF)
    subst hz
    exact cri S hM hr hlocks dX1_ways_20
def lX1_spot_4 (F : Nat) (σ : HS) : Nat → Nat → Int32 → Int32 → Option (Int32)
  | 0, _, _, _ => none
  | n + 1, y0, y1, y2 => (if 144 ≤ y2 then (some y1) else (gT σ y0 1 1 (((fX1_waysOver F σ y0 y2).bind fun r2 => (if r2 = 0 then (lX1_spot_4 F σ n y0 y1 (y2 + 1)) else (if y1 = (-1) then (lX1_spot_4 F σ n y0 y2 (y2 + 1)) else (gT σ y0 1 1 (((fX1_waysOver F σ y0 y2).bind fun r5 => gT σ y0 1 1 (((fX1_waysOver F σ y0 y1).bind fun r7 => (if (fJ16_bitCount r5) ≤ (fJ16_bitCount r7) then (lX1_spot_4 F σ n y0 y1 (y2 + 1)) else (lX1_spot_4 F σ n y0 y2 (y2 + 1))))))))))))))
def fX1_spot (F : Nat) (h0 : HS) (x0 : Nat) : Option (Int32) := ((lX1_spot_4 F h0 F x0 (-1) 0).bind fun q10 => some q10)
theorem hyX1_spot : yX1_spot.cls ≠ "java/lang/invoke/MethodHandle" ∧ yX1_spot.cls ≠ "java/lang/invoke/VarHandle" := by decide +kernel
theorem hlX1_spot : (parseMethodDescriptor yX1_spot.desc).map (fun d => d.parameters.length) = some 0 := by decide +kernel
set_option maxHeartbeats 4000000 in
set_option maxRecDepth 100000 in
theorem wlX1_spot_4 {p : Program} {l : Launch} [NoTr l] {e : Env} {s : State} {m : MethodId} {args : Array Value} {below : List Frame} {meth : Method} {c : Code} {D : va_G} {h0 : HS} (S : CallFix p m c cX1_spot 3 s args lw_all RX1) (hX : CX D (kG h0) s) (σ : HS) (F : Nat) {Q : State → Prop} : ∀ (n : Nat) (y0 : Nat) (y1 : Int32) (y2 : Int32) (out : Int32), lX1_spot_4 F σ n y0 y1 y2 = some out → (∀ (H : Heap) (locs : List Loc) (cs ss : Nat) (ls : Array Slot), HI D h0 σ s.heap H locs cs ss → lv_has ls 3 [(1, .int out)] → W p l e (cR 4 87 h0) s m args below meth c H locs cs ss Q (F0 m 51 ls [])) → ∀ (H : Heap) (locs : List Loc) (cs ss : Nat) (ls : Array Slot), HI D h0 σ s.heap H locs cs ss → lv_has ls 3 [(0, .ref y0), (1, .int y1), (2, .int y2)] → W p l e (cR 4 87 h0) s m args below meth c H locs cs ss Q (F0 m 4 ls []) := by
  intro n
  induction n with
  | zero =>
    intro y0 y1 y2 out hF
    cases (show (none : Option _) = some out from hF)
  | succ n ih =>
    intro y0 y1 y2 out hF hk H locs cs ss ls hM hl
    rw [lX1_spot_4] at hF
    obtain ⟨hx, hb, hml, hown, hts⟩ := id S
    refine lv_iload_n hx hb dX1_spot_4 rfl (lv_at hl 2 rfl) ?_
    refine lv_sipush (v := 144) hx hb dX1_spot_5 rfl ?_
    refine lv_icmp_ge (tgt := 51) hx hb dX1_spot_8 (by decide) (fun c1 => ?_) (fun c1 => ?_)
    · have hF := ifp hF c1
      cases hF
      exact hk _ _ _ _ _ hM (lv_sub hl [1] rfl)
    · have hF := ifn hF c1
      refine lv_aload_n hx hb dX1_spot_11 rfl (lv_at hl 0 rfl) ?_
      refine lv_iload_n hx hb dX1_spot_12 rfl (lv_at hl 2 rfl) ?_
      obtain ⟨z2, hF⟩ := gTe hF
      obtain ⟨r2, er2, hF⟩ := obn hF
      refine ccr (rest := []) (st1 := [.int r2]) S hX hM (metX1_waysOver l F D σ y0 y2 r2 er2) (ci_V (C := "RugReader") (As := [.int y2]) (rest := []) S q1451 q1453 qs35 q1454 hyX1_waysOver (HI.cell (ci := 0) hX hM (by decide) (by omega)) hlX1_waysOver rfl dX1_spot_13) q1454 q103 (Nat.le_of_ble_eq_true rfl) (Nat.le_of_ble_eq_true rfl) hl.1 (Nat.le_of_ble_eq_true rfl) rfl (fun H locs cs ss hM => ?_)
      refine lv_if_eq (tgt := 45) hx hb dX1_spot_16 (by decide) (fun c3 => ?_) (fun c3 => ?_)
      · have hF := ifp hF c3
        refine lv_iinc (v := y2 + 1) (lv' := [(2, .int (y2 + 1)), (0, .ref y0), (1, .int y1)]) hx hb dX1_spot_45 hl (k := 2) rfl rfl (by decide) rfl (fun ls hl => ?_)
        refine lv_goto (tgt := 4) hx hb dX1_spot_48 (by decide) ?_
        exact ih _ _ _ out hF hk _ _ _ _ _ hM (lv_sub hl [1, 2, 0] rfl)
      · have hF := ifn hF c3
        refine lv_iload_n hx hb dX1_spot_19 rfl (lv_at hl 1 rfl) ?_
        refine lv_iconst (v := (-1)) hx hb dX1_spot_20 rfl ?_
        refine lv_icmp_eq (tgt := 43) hx hb dX1_spot_21 (by decide) (fun c4 => ?_) (fun c4 => ?_)
        · have hF := ifp hF c4
          refine lv_iload_n hx hb dX1_spot_43 rfl (lv_at hl 2 rfl) ?_
          refine lv_istore_n (lv' := [(1, .int y2), (0, .ref y0), (2, .int y2)]) hx hb dX1_spot_44 rfl hl (by decide) rfl (fun ls hl => ?_)
          refine lv_iinc (v := y2 + 1) (lv' := [(2, .int (y2 + 1)), (1, .int y2), (0, .ref y0)]) hx hb dX1_spot_45 hl (k := 2) rfl rfl (by decide) rfl (fun ls hl => ?_)
          refine lv_goto (tgt := 4) hx hb dX1_spot_48 (by decide) ?_
          exact ih _ _ _ out hF hk _ _ _ _ _ hM (lv_sub hl [2, 1, 0] rfl)
        · have hF := ifn hF c4
          refine lv_aload_n hx hb dX1_spot_24 rfl (lv_at hl 0 rfl) ?_
          refine lv_iload_n hx hb dX1_spot_25 rfl (lv_at hl 2 rfl) ?_
          obtain ⟨z5, hF⟩ := gTe hF
          obtain ⟨r5, er5, hF⟩ := obn hF
          refine ccr (rest := []) (st1 := [.int r5]) S hX hM (metX1_waysOver l F D σ y0 y2 r5 er5) (ci_V (C := "RugReader") (As := [.int y2]) (rest := []) S q1451 q1453 qs35 q1454 hyX1_waysOver (HI.cell (ci := 0) hX hM (by decide) (by omega)) hlX1_waysOver rfl dX1_spot_26) q1454 q103 (Nat.le_of_ble_eq_true rfl) (Nat.le_of_ble_eq_true rfl) hl.1 (Nat.le_of_ble_eq_true rfl) rfl (fun H locs cs ss hM => ?_)
          refine ccr (rest := []) (st1 := [.int (fJ16_bitCount r5)]) S hX hM (metJ16_bitCount l D σ r5 _ rfl) (ci_S (As := [.int r5]) (rest := []) S q1279 q1280 q130 q1281 hyJ16_bitCount hlJ16_bitCount rfl dX1_spot_29) q1281 q130 (Nat.le_of_ble_eq_true rfl) (Nat.le_of_ble_eq_true rfl) hl.1 (Nat.le_of_ble_eq_true rfl) rfl (fun H locs cs ss hM => ?_)
          refine lv_aload_n hx hb dX1_spot_32 rfl (lv_at hl 0 rfl) ?_
          refine lv_iload_n hx hb dX1_spot_33 rfl (lv_at hl 1 rfl) ?_
          obtain ⟨z7, hF⟩ := gTe hF
          obtain ⟨r7, er7, hF⟩ := obn hF
          refine ccr (rest := [.int (fJ16_bitCount r5)]) (st1 := [.int r7, .int (fJ16_bitCount r5)]) S hX hM (metX1_waysOver l F D σ y0 y1 r7 er7) (ci_V (C := "RugReader") (As := [.int y1]) (rest := [.int (fJ16_bitCount r5)]) S q1451 q1453 qs35 q1454 hyX1_waysOver (HI.cell (ci := 0) hX hM (by decide) (by omega)) hlX1_waysOver rfl dX1_spot_34) q1454 q103 (Nat.le_of_ble_eq_true rfl) (Nat.le_of_ble_eq_true rfl) hl.1 (Nat.le_of_ble_eq_true rfl) rfl (fun H locs cs ss hM => ?_)
          refine ccr (rest := [.int (fJ16_bitCount r5)]) (st1 := [.int (fJ16_bitCount r7), .int (fJ16_bitCount r5)]) S hX hM (metJ16_bitCount l D σ r7 _ rfl) (ci_S (As := [.int r7]) (rest := [.int (fJ16_bitCount r5)]) S q1279 q1280 q130 q1281 hyJ16_bitCount hlJ16_bitCount rfl dX1_spot_37) q1281 q130 (Nat.le_of_ble_eq_true rfl) (Nat.le_of_ble_eq_true rfl) hl.1 (Nat.le_of_ble_eq_true rfl) rfl (fun H locs cs ss hM => ?_)
          refine lv_icmp_le (tgt := 45) hx hb dX1_spot_40 (by decide) (fun c9 => ?_) (fun c9 => ?_)
          · have hF := ifp hF c9
            refine lv_iinc (v := y2 + 1) (lv' := [(2, .int (y2 + 1)), (0, .ref y0), (1, .int y1)]) hx hb dX1_spot_45 hl (k := 2) rfl rfl (by decide) rfl (fun ls hl => ?_)
            refine lv_goto (tgt := 4) hx hb dX1_spot_48 (by decide) ?_
            exact ih _ _ _ out hF hk _ _ _ _ _ hM (lv_sub hl [1, 2, 0] rfl)
          · have hF := ifn hF c9
            refine lv_iload_n hx hb dX1_spot_43 rfl (lv_at hl 2 rfl) ?_
            refine lv_istore_n (lv' := [(1, .int y2), (0, .ref y0), (2, .int y2)]) hx hb dX1_spot_44 rfl hl (by decide) rfl (fun ls hl => ?_)
            refine lv_iinc (v := y2 + 1) (lv' := [(2, .int (y2 + 1)), (1, .int y2), (0, .ref y0)]) hx hb dX1_spot_45 hl (k := 2) rfl rfl (by decide) rfl (fun ls hl => ?_)
            refine lv_goto (tgt := 4) hx hb dX1_spot_48 (by decide) ?_
            exact ih _ _ _ out hF hk _ _ _ _ _ hM (lv_sub hl [2, 1, 0] rfl)
set_option maxHeartbeats 4000000 in
set_option maxRecDepth 100000 in
theorem metX1_spot (l : Launch) [NoTr l] (F : Nat) (D : va_G) (h0 : HS) (x0 : Nat) (r : Int32) (hF : fX1_spot F h0 x0 = some r) : CMet l yX1_spot (ws_ yX1_spot cX1_spot 3 (some .int)) 4 87 D [.ref x0] h0 h0 (.inr (some (.int r))) := by
  refine CMet.ofW (by decide) ?_
  intro p e s m below meth c s₁ B S hX hM hr hlocks hnt hin
  obtain ⟨hx, hb, hml, hown, hts⟩ := id S
  have hl := lv_entry ([.ref x0]) (n := 3) (Nat.le_of_ble_eq_true rfl)
  rw [lg_entry_eq]
  generalize (lg_sl ([.ref x0]) ++ List.replicate (3 - (lg_sl ([.ref x0])).length) Slot.unset).toArray = ls at hl ⊢
  have hl : lv_has ls 3 [(0, .ref x0)] := hl
  unfold fX1_spot at hF
  refine lv_iconst (v := (-1)) hx hb dX1_spot_0 rfl ?_
  refine lv_istore_n (lv' := [(1, .int (-1)), (0, .ref x0)]) hx hb dX1_spot_1 rfl hl (by decide) rfl (fun ls hl => ?_)
  refine lv_iconst (v := 0) hx hb dX1_spot_2 rfl ?_
  refine lv_istore_n (lv' := [(2, .int 0), (1, .int (-1)), (0, .ref x0)]) hx hb dX1_spot_3 rfl hl (by decide) rfl (fun ls hl => ?_)
  obtain ⟨q10, hq10, hF⟩ := obn hF
  refine wlX1_spot_4 S hX _ F  F _ _ _ q10 hq10 (fun H locs cs ss ls hM hl => ?_) _ _ _ _ _ hM (lv_sub hl [2, 1, 0] rfl)
  refine lv_iload_n hx hb dX1_spot_51 rfl (lv_at hl 0 rfl) ?_
  have hz := (Option.some.inj hF)
  subst hz
  exact cri S hM hr hlocks dX1_spot_52
def lX1_both_23 (F : Nat) (σ : HS) : Nat → Nat → Int32 → Int32 → Int32 → Int32 → Option (Int32)
  | 0, _, _, _, _, _ => none
  | n + 1, y0, y1, y2, y3, y4 => (if 144 ≤ y4 then (some y3) else ((fR σ y0 1 1 3).bind fun a6 => ((fR σ a6 2 2 6).bind fun a7 => gT σ a7 15 15 (((fJ2_get F σ a7 y1).bind fun r8 => gT σ r8 10 10 (gT σ r8 10 10 (((fX11_isOver F σ r8 y4).bind fun r10 => (if r10 = 0 then (lX1_both_23 F σ n y0 y1 y2 y3 (y4 + 1)) else ((fR σ y0 1 1 3).bind fun a12 => ((fR σ a12 2 2 6).bind fun a13 => gT σ a13 15 15 (((fJ2_get F σ a13 y2).bind fun r14 => gT σ r14 10 10 (gT σ r14 10 10 (((fX11_isOver F σ r14 y4).bind fun r16 => (if r16 = 0 then (lX1_both_23 F σ n y0 y1 y2 y3 (y4 + 1)) else (lX1_both_23 F σ n y0 y1 y2 (y3 + 1) (y4 + 1)))))))))))))))))))
def fX1_both (F : Nat) (h0 : HS) (x0 : Nat) (x1 : Int32) (x2 : Int32) : Option (Int32) := gT h0 x0 1 1 (((fX1_isWay F h0 x0 x1).bind fun r1 => (if r1 = 0 then (some (-1)) else (gT h0 x0 1 1 (((fX1_isWay F h0 x0 x2).bind fun r3 => (if r3 = 0 then (some (-1)) else ((lX1_both_23 F h0 F x0 x1 x2 0 0).bind fun q18 => some q18))))))))
theorem hyX1_both : yX1_both.cls ≠ "java/lang/invoke/MethodHandle" ∧ yX1_both.cls ≠ "java/lang/invoke/VarHandle" := by decide +kernel
theorem hlX1_both : (parseMethodDescriptor yX1_both.desc).map (fun d => d.parameters.length) = some 2 := by decide +kernel
set_option maxHeartbeats 4000000 in
set_option maxRecDepth 100000 in
theorem wlX1_both_23 {p : Program} {l : Launch} [NoTr l] {e : Env} {s : State} {m : MethodId} {args : Array Value} {below : List Frame} {meth : Method} {c : Code} {D : va_G} {h0 : HS} (S : CallFix p m c cX1_both 5 s args lw_all RX1) (hX : CX D (kG h0) s) (σ : HS) (F : Nat) {Q : State → Prop} : ∀ (n : Nat) (y0 : Nat) (y1 : Int32) (y2 : Int32) (y3 : Int32) (y4 : Int32) (out : Int32), lX1_both_23 F σ n y0 y1 y2 y3 y4 = some out → (∀ (H : Heap) (locs : List Loc) (cs ss : Nat) (ls : Array Slot), HI D h0 σ s.heap H locs cs ss → lv_has ls 5 [(3, .int out)] → W p l e (cR 3 64 h0) s m args below meth c H locs cs ss Q (F0 m 84 ls [])) → ∀ (H : Heap) (locs : List Loc) (cs ss : Nat) (ls : Array Slot), HI D h0 σ s.heap H locs cs ss → lv_has ls 5 [(0, .ref y0), (1, .int y1), (2, .int y2), (3, .int y3), (4, .int y4)] → W p l e (cR 3 64 h0) s m args below meth c H locs cs ss Q (F0 m 23 ls []) := by
  intro n
  induction n with
  | zero =>
    intro y0 y1 y2 y3 y4 out hF
    cases (show (none : Option _) = some out from hF)
  | succ n ih =>
    intro y0 y1 y2 y3 y4 out hF hk H locs cs ss ls hM hl
    rw [lX1_both_23] at hF
    obtain ⟨hx, hb, hml, hown, hts⟩ := id S
    refine lv_iload hx hb dX1_both_23 (lv_at hl 4 rfl) ?_
    refine lv_sipush (v := 144) hx hb dX1_both_25 rfl ?_
    refine lv_icmp_ge (tgt := 84) hx hb dX1_both_28 (by decide) (fun c5 => ?_) (fun c5 => ?_)
    · have hF := ifp hF c5
      cases hF
      exact hk _ _ _ _ _ hM (lv_sub hl [3] rfl)
    · have hF := ifn hF c5
      refine lv_aload_n hx hb dX1_both_31 rfl (lv_at hl 0 rfl) ?_
      obtain ⟨a6, ea6, hF⟩ := obn hF
      refine cgn S hX hM ea6 ck_1_1_3 q327 (fun _ h => h) dX1_both_32 ?_
      obtain ⟨a7, ea7, hF⟩ := obn hF
      refine cgnN S hX hM ea7 ck_2_2_6 (uq210 hX) dX1_both_35 ?_
      refine lv_iload_n hx hb dX1_both_38 rfl (lv_at hl 1 rfl) ?_
      obtain ⟨z8, hF⟩ := gTe hF
      obtain ⟨r8, er8, hF⟩ := obn hF
      refine ccr (rest := []) (st1 := [.ref r8]) S hX hM (metJ2_get l F D σ a7 y1 r8 er8) (ci_V (C := "java/util/ArrayList") (As := [.int y1]) (rest := []) S q1151 q925 q926 q927 hyJ2_get (HI.cell (ci := 14) hX hM (by decide) (by omega)) hlJ2_get rfl dX1_both_39) q927 q107 (Nat.le_of_ble_eq_true rfl) (Nat.le_of_ble_eq_true rfl) hl.1 (Nat.le_of_ble_eq_true rfl) rfl (fun H locs cs ss hM => ?_)
      obtain ⟨z9, hF⟩ := gTe hF
      refine ccs (ci := 9) S hX hM (by decide) (by omega) q1152 dX1_both_42 ?_
      refine lv_iload hx hb dX1_both_45 (lv_at hl 4 rfl) ?_
      obtain ⟨z10, hF⟩ := gTe hF
      obtain ⟨r10, er10, hF⟩ := obn hF
      refine ccr (rest := []) (st1 := [.int r10]) S hX hM (metX11_isOver l F D σ r8 y4 r10 er10) (ci_V (C := "RugReader$Way") (As := [.int y4]) (rest := []) S q1455 q1456 q1457 q1458 hyX11_isOver (HI.cell (ci := 9) hX hM (by decide) (by omega)) hlX11_isOver rfl dX1_both_47) q1458 q132 (Nat.le_of_ble_eq_true rfl) (Nat.le_of_ble_eq_true rfl) hl.1 (Nat.le_of_ble_eq_true rfl) rfl (fun H locs cs ss hM => ?_)
      refine lv_if_eq (tgt := 78) hx hb dX1_both_50 (by decide) (fun c11 => ?_) (fun c11 => ?_)
      · have hF := ifp hF c11
        refine lv_iinc (v := y4 + 1) (lv' := [(4, .int (y4 + 1)), (0, .ref y0), (1, .int y1), (2, .int y2), (3, .int y3)]) hx hb dX1_both_78 hl (k := 4) rfl rfl (by decide) rfl (fun ls hl => ?_)
        refine lv_goto (tgt := 23) hx hb dX1_both_81 (by decide) ?_
        exact ih _ _ _ _ _ out hF hk _ _ _ _ _ hM (lv_sub hl [1, 2, 3, 4, 0] rfl)
      · have hF := ifn hF c11
        refine lv_aload_n hx hb dX1_both_53 rfl (lv_at hl 0 rfl) ?_
        obtain ⟨a12, ea12, hF⟩ := obn hF
        refine cgn S hX hM ea12 ck_1_1_3 q327 (fun _ h => h) dX1_both_54 ?_
        obtain ⟨a13, ea13, hF⟩ := obn hF
        refine cgnN S hX hM ea13 ck_2_2_6 (uq210 hX) dX1_both_57 ?_
        refine lv_iload_n hx hb dX1_both_60 rfl (lv_at hl 2 rfl) ?_
        obtain ⟨z14, hF⟩ := gTe hF
        obtain ⟨r14, er14, hF⟩ := obn hF
        refine ccr (rest := []) (st1 := [.ref r14]) S hX hM (metJ2_get l F D σ a13 y2 r14 er14) (ci_V (C := "java/util/ArrayList") (As := [.int y2]) (rest := []) S q1151 q925 q926 q927 hyJ2_get (HI.cell (ci := 14) hX hM (by decide) (by omega)) hlJ2_get rfl dX1_both_61) q927 q107 (Nat.le_of_ble_eq_true rfl) (Nat.le_of_ble_eq_true rfl) hl.1 (Nat.le_of_ble_eq_true rfl) rfl (fun H locs cs ss hM => ?_)
        obtain ⟨z15, hF⟩ := gTe hF
        refine ccs (ci := 9) S hX hM (by decide) (by omega) q1152 dX1_both_64 ?_
        refine lv_iload hx hb dX1_both_67 (lv_at hl 4 rfl) ?_
        obtain ⟨z16, hF⟩ := gTe hF
        obtain ⟨r16, er16, hF⟩ := obn hF
        refine ccr (rest := []) (st1 := [.int r16]) S hX hM (metX11_isOver l F D σ r14 y4 r16 er16) (ci_V (C := "RugReader$Way") (As := [.int y4]) (rest := []) S q1455 q1456 q1457 q1458 hyX11_isOver (HI.cell (ci := 9) hX hM (by decide) (by omega)) hlX11_isOver rfl dX1_both_69) q1458 q132 (Nat.le_of_ble_eq_true rfl) (Nat.le_of_ble_eq_true rfl) hl.1 (Nat.le_of_ble_eq_true rfl) rfl (fun H locs cs ss hM => ?_)
        refine lv_if_eq (tgt := 78) hx hb dX1_both_72 (by decide) (fun c17 => ?_) (fun c17 => ?_)
        · have hF := ifp hF c17
          refine lv_iinc (v := y4 + 1) (lv' := [(4, .int (y4 + 1)), (0, .ref y0), (1, .int y1), (2, .int y2), (3, .int y3)]) hx hb dX1_both_78 hl (k := 4) rfl rfl (by decide) rfl (fun ls hl => ?_)
          refine lv_goto (tgt := 23) hx hb dX1_both_81 (by decide) ?_
          exact ih _ _ _ _ _ out hF hk _ _ _ _ _ hM (lv_sub hl [1, 2, 3, 4, 0] rfl)
        · have hF := ifn hF c17
          refine lv_iinc (v := y3 + 1) (lv' := [(3, .int (y3 + 1)), (0, .ref y0), (1, .int y1), (2, .int y2), (4, .int y4)]) hx hb dX1_both_75 hl (k := 3) rfl rfl (by decide) rfl (fun ls hl => ?_)
          refine lv_iinc (v := y4 + 1) (lv' := [(4, .int (y4 + 1)), (3, .int (y3 + 1)), (0, .ref y0), (1, .int y1), (2, .int y2)]) hx hb dX1_both_78 hl (k := 4) rfl rfl (by decide) rfl (fun ls hl => ?_)
          refine lv_goto (tgt := 23) hx hb dX1_both_81 (by decide) ?_
          exact ih _ _ _ _ _ out hF hk _ _ _ _ _ hM (lv_sub hl [2, 3, 4, 1, 0] rfl)
set_option maxHeartbeats 4000000 in
set_option maxRecDepth 100000 in
theorem metX1_both (l : Launch) [NoTr l] (F : Nat) (D : va_G) (h0 : HS) (x0 : Nat) (x1 : Int32) (x2 : Int32) (r : Int32) (hF : fX1_both F h0 x0 x1 x2 = some r) : CMet l yX1_both (ws_ yX1_both cX1_both 5 (some .int)) 3 64 D [.ref x0, .int x1, .int x2] h0 h0 (.inr (some (.int r))) := by
  refine CMet.ofW (by decide) ?_
  intro p e s m below meth c s₁ B S hX hM hr hlocks hnt hin
  obtain ⟨hx, hb, hml, hown, hts⟩ := id S
  have hl := lv_entry ([.ref x0, .int x1, .int x2]) (n := 5) (Nat.le_of_ble_eq_true rfl)
  rw [lg_entry_eq]
  generalize (lg_sl ([.ref x0, .int x1, .int x2]) ++ List.replicate (5 - (lg_sl ([.ref x0, .int x1, .int x2])).length) Slot.unset).toArray = ls at hl ⊢
  have hl : lv_has ls 5 [(0, .ref x0), (1, .int x1), (2, .int x2)] := hl
  unfold fX1_both at hF
  refine lv_aload_n hx hb dX1_both_0 rfl (lv_at hl 0 rfl) ?_
  refine lv_iload_n hx hb dX1_both_1 rfl (lv_at hl 1 rfl) ?_
  obtain ⟨z1, hF⟩ := gTe hF
  obtain ⟨r1, er1, hF⟩ := obn hF
  refine ccr (rest := []) (st1 := [.int r1]) S hX hM (metX1_isWay l F D h0 x0 x1 r1 er1) (ci_V (C := "RugReader") (As := [.int x1]) (rest := []) S q1145 q1147 qs15 q1148 hyX1_isWay (HI.cell (ci := 0) hX hM (by decide) (by omega)) hlX1_isWay rfl dX1_both_2) q1148 q103 (Nat.le_of_ble_eq_true rfl) (Nat.le_of_ble_eq_true rfl) hl.1 (Nat.le_of_ble_eq_true rfl) rfl (fun H locs cs ss hM => ?_)
  refine lv_if_eq (tgt := 16) hx hb dX1_both_5 (by decide) (fun c2 => ?_) (fun c2 => ?_)
  · have hF := ifp hF c2
    refine lv_iconst (v := (-1)) hx hb dX1_both_16 rfl ?_
    have hz := (Option.some.inj hF)
    subst hz
    exact cri S hM hr hlocks dX1_both_17
  · have hF := ifn hF c2
    refine lv_aload_n hx hb dX1_both_8 rfl (lv_at hl 0 rfl) ?_
    refine lv_iload_n hx hb dX1_both_9 rfl (lv_at hl 2 rfl) ?_
    obtain ⟨z3, hF⟩ := gTe hF
    obtain ⟨r3, er3, hF⟩ := obn hF
    refine ccr (rest := []) (st1 := [.int r3]) S hX hM (metX1_isWay l F D h0 x0 x2 r3 er3) (ci_V (C := "RugReader") (As := [.int x2]) (rest := []) S q1145 q1147 qs15 q1148 hyX1_isWay (HI.cell (ci := 0) hX hM (by decide) (by omega)) hlX1_isWay rfl dX1_both_10) q1148 q103 (Nat.le_of_ble_eq_true rfl) (Nat.le_of_ble_eq_true rfl) hl.1 (Nat.le_of_ble_eq_true rfl) rfl (fun H locs cs ss hM => ?_)
    refine lv_if_ne (tgt := 18) hx hb dX1_both_13 (by decide) (fun c4 => ?_) (fun c4 => ?_)
    · have hF := ifn hF c4
      refine lv_iconst (v := 0) hx hb dX1_both_18 rfl ?_
      refine lv_istore_n (lv' := [(3, .int 0), (0, .ref x0), (1, .int x1), (2, .int x2)]) hx hb dX1_both_19 rfl hl (by decide) rfl (fun ls hl => ?_)
      refine lv_iconst (v := 0) hx hb dX1_both_20 rfl ?_
      refine lv_istore (lv' := [(4, .int 0), (3, .int 0), (0, .ref x0), (1, .int x1), (2, .int x2)]) hx hb dX1_both_21 hl (by decide) rfl (fun ls hl => ?_)
      obtain ⟨q18, hq18, hF⟩ := obn hF
      refine wlX1_both_23 S hX _ F  F _ _ _ _ _ q18 hq18 (fun H locs cs ss ls hM hl => ?_) _ _ _ _ _ hM (lv_sub hl [2, 3, 4, 1, 0] rfl)
      refine lv_iload_n hx hb dX1_both_84 rfl (lv_at hl 0 rfl) ?_
      have hz := (Option.some.inj hF)
      subst hz
      exact cri S hM hr hlocks dX1_both_85
    · have hF := ifp hF c4
      refine lv_iconst (v := (-1)) hx hb dX1_both_16 rfl ?_
      have hz := (Option.some.inj hF)
      subst hz
      exact cri S hM hr hlocks dX1_both_17
def fJ2_isEmpty (F : Nat) (h0 : HS) (x0 : Nat) : Option (Int32) := ((oI h0 x0 15 15 2).bind fun v1 => (if v1 = 0 then (some 1) else (some 0)))
theorem hyJ2_isEmpty : yJ2_isEmpty.cls ≠ "java/lang/invoke/MethodHandle" ∧ yJ2_isEmpty.cls ≠ "java/lang/invoke/VarHandle" := by decide +kernel
theorem hlJ2_isEmpty : (parseMethodDescriptor yJ2_isEmpty.desc).map (fun d => d.parameters.length) = some 0 := by decide +kernel
set_option maxHeartbeats 4000000 in
set_option maxRecDepth 100000 in
theorem metJ2_isEmpty (l : Launch) [NoTr l] (F : Nat) (D : va_G) (h0 : HS) (x0 : Nat) (r : Int32) (hF : fJ2_isEmpty F h0 x0 = some r) : CMet l yJ2_isEmpty (ws_ yJ2_isEmpty cJ2_isEmpty 1 (some .boolean)) 0 0 D [.ref x0] h0 h0 (.inr (some (.int r))) := by
  refine CMet.ofW (by decide) ?_
  intro p e s m below meth c s₁ B S hX hM hr hlocks hnt hin
  obtain ⟨hx, hb, hml, hown, hts⟩ := id S
  have hl := lv_entry ([.ref x0]) (n := 1) (Nat.le_of_ble_eq_true rfl)
  rw [lg_entry_eq]
  generalize (lg_sl ([.ref x0]) ++ List.replicate (1 - (lg_sl ([.ref x0])).length) Slot.unset).toArray = ls at hl ⊢
  have hl : lv_has ls 1 [(0, .ref x0)] := hl
  unfold fJ2_isEmpty at hF
  refine lv_aload_n hx hb dJ2_isEmpty_0 rfl (lv_at hl 0 rfl) ?_
  obtain ⟨v1, ev1, hF⟩ := obn hF
  refine cgi S hX hM ev1 ck_15_15_2 q171 (fun _ h => h) dJ2_isEmpty_1 ?_
  refine lv_if_ne (tgt := 11) hx hb dJ2_isEmpty_4 (by decide) (fun c2 => ?_) (fun c2 => ?_)
  · have hF := ifn hF c2
    refine lv_iconst (v := 0) hx hb dJ2_isEmpty_11 rfl ?_
    have hz := (Option.some.inj hF)
    subst hz
    exact crz S hM hr hlocks (gBn gB0) dJ2_isEmpty_12
  · have hF := ifp hF c2
    refine lv_iconst (v := 1) hx hb dJ2_isEmpty_7 rfl ?_
    refine lv_goto (tgt := 12) hx hb dJ2_isEmpty_8 (by decide) ?_
    have hz := (Option.some.inj hF)
    subst hz
    exact crz S hM hr hlocks (gBn gB1) dJ2_isEmpty_12
def fX1_draw (F : Nat) (h0 : HS) (x0 : Nat) (x1 : Int32) : Option (Int32 × HS) := ((oI h0 x0 1 1 30).bind fun v1 => ((pI h0 x0 1 1 30 ((v1 * 1103515245) + 12345)).bind fun σ2 => ((oI σ2 x0 1 1 30).bind fun v3 => gZ x1 (some ((irm (ush v3 8) x1), σ2)))))
theorem hyX1_draw : yX1_draw.cls ≠ "java/lang/invoke/MethodHandle" ∧ yX1_draw.cls ≠ "java/lang/invoke/VarHandle" := by decide +kernel
theorem hlX1_draw : (parseMethodDescriptor yX1_draw.desc).map (fun d => d.parameters.length) = some 1 := by decide +kernel
set_option maxHeartbeats 4000000 in
set_option maxRecDepth 100000 in
theorem metX1_draw (l : Launch) [NoTr l] (F : Nat) (D : va_G) (h0 : HS) (x0 : Nat) (x1 : Int32) (r : Int32 × HS) (hF : fX1_draw F h0 x0 x1 = some r) : CMet l yX1_draw (ws_ yX1_draw cX1_draw 2 (some .int)) 0 0 D [.ref x0, .int x1] h0 r.2 (.inr (some (.int r.1))) := by
  refine CMet.ofW (by decide) ?_
  intro p e s m below meth c s₁ B S hX hM hr hlocks hnt hin
  obtain ⟨hx, hb, hml, hown, hts⟩ := id S
  have hl := lv_entry ([.ref x0, .int x1]) (n := 2) (Nat.le_of_ble_eq_true rfl)
  rw [lg_entry_eq]
  generalize (lg_sl ([.ref x0, .int x1]) ++ List.replicate (2 - (lg_sl ([.ref x0, .int x1])).length) Slot.unset).toArray = ls at hl ⊢
  have hl : lv_has ls 2 [(0, .ref x0), (1, .int x1)] := hl
  unfold fX1_draw at hF
  refine lv_aload_n hx hb dX1_draw_0 rfl (lv_at hl 0 rfl) ?_
  refine lv_aload_n hx hb dX1_draw_1 rfl (lv_at hl 0 rfl) ?_
  obtain ⟨v1, ev1, hF⟩ := obn hF
  refine cgi S hX hM ev1 ck_1_1_30 q354 (fun _ h => h) dX1_draw_2 ?_
  refine lv_ldcw hx hb hown (hts _ q1480) dX1_draw_5 ?_
  refine lv_imul hx hb dX1_draw_8 ?_
  refine lv_sipush (v := 12345) hx hb dX1_draw_9 rfl ?_
  refine lv_iadd hx hb dX1_draw_12 ?_
  obtain ⟨σ2, eσ2, hF⟩ := obn hF
  refine cpi S hX hM eσ2 ck_1_1_30 cw_1_1_30 rfl rfl q354 (fun _ h => h) dX1_draw_13 (fun H locs hM => ?_)
  refine lv_aload_n hx hb dX1_draw_16 rfl (lv_at hl 0 rfl) ?_
  obtain ⟨v3, ev3, hF⟩ := obn hF
  refine cgi S hX hM ev3 ck_1_1_30 q354 (fun _ h => h) dX1_draw_17 ?_
  refine lv_bipush (v := 8) hx hb dX1_draw_20 rfl ?_
  refine lv_iushr (v := (ush v3 8)) hx hb dX1_draw_22 rfl ?_
  refine lv_iload_n hx hb dX1_draw_23 rfl (lv_at hl 1 rfl) ?_
  obtain ⟨z4, hF⟩ := gZe hF
  refine lv_irem hx hb dX1_draw_24 z4 ?_
  have hz := (Option.some.inj hF)
  subst hz
  exact cri S hM hr hlocks dX1_draw_25
def lX1_years_84 (F : Nat) : Nat → HS → Nat → Int32 → Int32 → Int32 → Int32 → Option (HS)
  | 0, _, _, _, _, _, _ => none
  | n + 1, σ, y0, y1, y2, y4, y5 => (if y2 ≤ y5 then (some σ) else ((fR σ y0 1 1 3).bind fun a20 => ((fR σ a20 2 2 5).bind fun a21 => gT σ a21 15 15 (((fJ2_size F σ a21).bind fun r22 => gT σ y0 1 1 (((fX1_draw F σ y0 r22).bind fun r23 => ((fR r23.2 y0 1 1 4).bind fun a24 => ((fR r23.2 y0 1 1 3).bind fun a25 => ((fR r23.2 a25 2 2 6).bind fun a26 => gT r23.2 a26 15 15 (((fJ2_size F r23.2 a26).bind fun r27 => gT r23.2 y0 1 1 (((fX1_draw F r23.2 y0 r27).bind fun r28 => gT r28.2 a24 3 3 (((fX3_goes F r28.2 a24 r23.1 r28.1 r23.1).bind fun r29 => lX1_years_84 F n r29.2 y0 y1 y2 y4 (y5 + 1)))))))))))))))))
def lX1_years_75 (F : Nat) : Nat → HS → Nat → Int32 → Int32 → Int32 → Option (HS)
  | 0, _, _, _, _, _ => none
  | n + 1, σ, y0, y1, y2, y4 => (if y1 ≤ y4 then (some σ) else ((lX1_years_84 F F σ y0 y1 y2 y4 0).bind fun q30 => gT q30 y0 1 1 (((fX1_draw F q30 y0 6).bind fun r31 => ((if r31.1 = 0 then ((fR r31.2 y0 1 1 3).bind fun a34 => ((oI r31.2 a34 2 2 0).bind fun v35 => gT r31.2 y0 1 1 (((fX1_draw F r31.2 y0 v35).bind fun r36 => ((fR r36.2 y0 1 1 4).bind fun a37 => ((fR r36.2 y0 1 1 3).bind fun a38 => ((oI r36.2 a38 2 2 1).bind fun v39 => gT r36.2 y0 1 1 (((fX1_draw F r36.2 y0 v39).bind fun r40 => gT r40.2 a37 3 3 (((fX3_clean F r40.2 a37 (r36.1 + (12 * r40.1))).bind fun r41 => some r41))))))))))) else (some r31.2)).bind fun q32 => ((fR q32 y0 1 1 4).bind fun a42 => gT q32 a42 3 3 (((fX3_dawn F q32 a42).bind fun r43 => lX1_years_75 F n r43 y0 y1 y2 (y4 + 1)))))))))
def fX1_years (F : Nat) (h0 : HS) (x0 : Nat) (x1 : Int32) (x2 : Int32) (x3 : Int32) : Option (Int32 × HS) := (if (fX1_isIn x1 1 60) = 0 then (some ((-1), h0)) else (if (fX1_isIn x2 1 9) = 0 then (some ((-1), h0)) else ((fR h0 x0 1 1 3).bind fun a5 => ((fR h0 a5 2 2 5).bind fun a6 => gT h0 a6 15 15 (((fJ2_isEmpty F h0 a6).bind fun r7 => (if r7 = 0 then ((fR h0 x0 1 1 3).bind fun a9 => ((fR h0 a9 2 2 6).bind fun a10 => gT h0 a10 15 15 (((fJ2_isEmpty F h0 a10).bind fun r11 => (if r11 = 0 then ((fR h0 x0 1 1 4).bind fun a13 => ((oI h0 a13 3 3 1).bind fun v14 => (if (v14 + x1) ≤ 999 then (gT h0 x0 1 1 (((fX1_snap F h0 x0).bind fun r16 => ((pI r16 x0 1 1 30 x3).bind fun σ17 => ((lX1_years_75 F F σ17 x0 x1 x2 0).bind fun q44 => ((fR q44 x0 1 1 4).bind fun a45 => ((oI q44 a45 3 3 1).bind fun v46 => some (v46, q44)))))))) else (some ((-1), h0))))) else (some ((-1), h0))))))) else (some ((-1), h0)))))))))
theorem hyX1_years : yX1_years.cls ≠ "java/lang/invoke/MethodHandle" ∧ yX1_years.cls ≠ "java/lang/invoke/VarHandle" := by decide +kernel
theorem hlX1_years : (parseMethodDescriptor yX1_years.desc).map (fun d => d.parameters.length) = some 3 := by decide +kernel
set_option maxHeartbeats 4000000 in
set_option maxRecDepth 100000 in
theorem wlX1_years_84 {p : Program} {l : Launch} [NoTr l] {e : Env} {s : State} {m : MethodId} {args : Array Value} {below : List Frame} {meth : Method} {c : Code} {D : va_G} {h0 : HS} (S : CallFix p m c cX1_years 7 s args lw_all RX1) (hX : CX D (kG h0) s) (F : Nat) {Q : State → Prop} : ∀ (n : Nat) (σ : HS) (y0 : Nat) (y1 : Int32) (y2 : Int32) (y4 : Int32) (y5 : Int32) (out : HS), lX1_years_84 F n σ y0 y1 y2 y4 y5 = some out → (∀ (H : Heap) (locs : List Loc) (cs ss : Nat) (ls : Array Slot), HI D h0 out s.heap H locs cs ss → lv_has ls 7 [(0, .ref y0), (1, .int y1), (2, .int y2), (4, .int y4)] → W p l e (cR 4 126 h0) s m args below meth c H locs cs ss Q (F0 m 138 ls [])) → ∀ (H : Heap) (locs : List Loc) (cs ss : Nat) (ls : Array Slot), HI D h0 σ s.heap H locs cs ss → lv_has ls 7 [(0, .ref y0), (1, .int y1), (2, .int y2), (4, .int y4), (5, .int y5)] → W p l e (cR 4 126 h0) s m args below meth c H locs cs ss Q (F0 m 84 ls []) := by
  intro n
  induction n with
  | zero =>
    intro σ y0 y1 y2 y4 y5 out hF
    cases (show (none : Option _) = some out from hF)
  | succ n ih =>
    intro σ y0 y1 y2 y4 y5 out hF hk H locs cs ss ls hM hl
    rw [lX1_years_84] at hF
    obtain ⟨hx, hb, hml, hown, hts⟩ := id S
    refine lv_iload hx hb dX1_years_84 (lv_at hl 4 rfl) ?_
    refine lv_iload_n hx hb dX1_years_86 rfl (lv_at hl 2 rfl) ?_
    refine lv_icmp_ge (tgt := 138) hx hb dX1_years_87 (by decide) (fun c19 => ?_) (fun c19 => ?_)
    · have hF := ifp hF c19
      cases hF
      exact hk _ _ _ _ _ hM (lv_sub hl [0, 1, 2, 3] rfl)
    · have hF := ifn hF c19
      refine lv_aload_n hx hb dX1_years_90 rfl (lv_at hl 0 rfl) ?_
      refine lv_aload_n hx hb dX1_years_91 rfl (lv_at hl 0 rfl) ?_
      obtain ⟨a20, ea20, hF⟩ := obn hF
      refine cgn S hX hM ea20 ck_1_1_3 q327 (fun _ h => h) dX1_years_92 ?_
      obtain ⟨a21, ea21, hF⟩ := obn hF
      refine cgnN S hX hM ea21 ck_2_2_5 (uq204 hX) dX1_years_95 ?_
      obtain ⟨z22, hF⟩ := gTe hF
      obtain ⟨r22, er22, hF⟩ := obn hF
      refine ccr (rest := [.ref y0]) (st1 := [.int r22, .ref y0]) S hX hM (metJ2_size l F D σ a21 r22 er22) (ci_V (C := "java/util/ArrayList") (As := []) (rest := [.ref y0]) S q1149 q830 q831 q832 hyJ2_size (HI.cell (ci := 14) hX hM (by decide) (by omega)) hlJ2_size rfl dX1_years_98) q832 q107 (Nat.le_of_ble_eq_true rfl) (Nat.le_of_ble_eq_true rfl) hl.1 (Nat.le_of_ble_eq_true rfl) rfl (fun H locs cs ss hM => ?_)
      obtain ⟨z23, hF⟩ := gTe hF
      obtain ⟨r23, er23, hF⟩ := obn hF
      refine ccr (rest := []) (st1 := [.int r23.1]) S hX hM (metX1_draw l F D σ y0 r22 r23 er23) (ci_V (C := "RugReader") (As := [.int r22]) (rest := []) S q1476 q1478 qs36 q1479 hyX1_draw (HI.cell (ci := 0) hX hM (by decide) (by omega)) hlX1_draw rfl dX1_years_101) q1479 q103 (Nat.le_of_ble_eq_true rfl) (Nat.le_of_ble_eq_true rfl) hl.1 (Nat.le_of_ble_eq_true rfl) rfl (fun H locs cs ss hM => ?_)
      refine lv_istore (lv' := [(6, .int r23.1), (0, .ref y0), (1, .int y1), (2, .int y2), (4, .int y4), (5, .int y5)]) hx hb dX1_years_104 hl (by decide) rfl (fun ls hl => ?_)
      refine lv_aload_n hx hb dX1_years_106 rfl (lv_at hl 1 rfl) ?_
      obtain ⟨a24, ea24, hF⟩ := obn hF
      refine cgn S hX hM ea24 ck_1_1_4 q328 (fun _ h => h) dX1_years_107 ?_
      refine lv_iload hx hb dX1_years_110 (lv_at hl 0 rfl) ?_
      refine lv_aload_n hx hb dX1_years_112 rfl (lv_at hl 1 rfl) ?_
      refine lv_aload_n hx hb dX1_years_113 rfl (lv_at hl 1 rfl) ?_
      obtain ⟨a25, ea25, hF⟩ := obn hF
      refine cgn S hX hM ea25 ck_1_1_3 q327 (fun _ h => h) dX1_years_114 ?_
      obtain ⟨a26, ea26, hF⟩ := obn hF
      refine cgnN S hX hM ea26 ck_2_2_6 (uq210 hX) dX1_years_117 ?_
      obtain ⟨z27, hF⟩ := gTe hF
      obtain ⟨r27, er27, hF⟩ := obn hF
      refine ccr (rest := [.ref y0, .int r23.1, .ref a24]) (st1 := [.int r27, .ref y0, .int r23.1, .ref a24]) S hX hM (metJ2_size l F D r23.2 a26 r27 er27) (ci_V (C := "java/util/ArrayList") (As := []) (rest := [.ref y0, .int r23.1, .ref a24]) S q1149 q830 q831 q832 hyJ2_size (HI.cell (ci := 14) hX hM (by decide) (by omega)) hlJ2_size rfl dX1_years_120) q832 q107 (Nat.le_of_ble_eq_true rfl) (Nat.le_of_ble_eq_true rfl) hl.1 (Nat.le_of_ble_eq_true rfl) rfl (fun H locs cs ss hM => ?_)
      obtain ⟨z28, hF⟩ := gTe hF
      obtain ⟨r28, er28, hF⟩ := obn hF
      refine ccr (rest := [.int r23.1, .ref a24]) (st1 := [.int r28.1, .int r23.1, .ref a24]) S hX hM (metX1_draw l F D r23.2 y0 r27 r28 er28) (ci_V (C := "RugReader") (As := [.int r27]) (rest := [.int r23.1, .ref a24]) S q1476 q1478 qs36 q1479 hyX1_draw (HI.cell (ci := 0) hX hM (by decide) (by omega)) hlX1_draw rfl dX1_years_123) q1479 q103 (Nat.le_of_ble_eq_true rfl) (Nat.le_of_ble_eq_true rfl) hl.1 (Nat.le_of_ble_eq_true rfl) rfl (fun H locs cs ss hM => ?_)
      refine lv_iload hx hb dX1_years_126 (lv_at hl 0 rfl) ?_
      obtain ⟨z29, hF⟩ := gTe hF
      obtain ⟨r29, er29, hF⟩ := obn hF
      refine ccr (rest := []) (st1 := [.int r29.1]) S hX hM (metX3_goes l F D r28.2 a24 r23.1 r28.1 r23.1 r29 er29) (ci_V (C := "RugReader$Rug") (As := [.int r23.1, .int r28.1, .int r23.1]) (rest := []) S q1173 q1174 q1175 q1176 hyX3_goes (HI.cell (ci := 2) hX hM (by decide) (by omega)) hlX3_goes rfl dX1_years_128) q1176 q108 (Nat.le_of_ble_eq_true rfl) (Nat.le_of_ble_eq_true rfl) hl.1 (Nat.le_of_ble_eq_true rfl) rfl (fun H locs cs ss hM => ?_)
      refine lv_pop hx hb dX1_years_131 rfl ?_
      refine lv_iinc (v := y5 + 1) (lv' := [(5, .int (y5 + 1)), (6, .int r23.1), (0, .ref y0), (1, .int y1), (2, .int y2), (4, .int y4)]) hx hb dX1_years_132 hl (k := 5) rfl rfl (by decide) rfl (fun ls hl => ?_)
      refine lv_goto (tgt := 84) hx hb dX1_years_135 (by decide) ?_
      exact ih _ _ _ _ _ _ out hF hk _ _ _ _ _ hM (lv_sub hl [2, 3, 4, 5, 0] rfl)
set_option maxHeartbeats 4000000 in
set_option maxRecDepth 100000 in
theorem wlX1_years_75 {p : Program} {l : Launch} [NoTr l] {e : Env} {s : State} {m : MethodId} {args : Array Value} {below : List Frame} {meth : Method} {c : Code} {D : va_G} {h0 : HS} (S : CallFix p m c cX1_years 7 s args lw_all RX1) (hX : CX D (kG h0) s) (F : Nat) {Q : State → Prop} : ∀ (n : Nat) (σ : HS) (y0 : Nat) (y1 : Int32) (y2 : Int32) (y4 : Int32) (out : HS), lX1_years_75 F n σ y0 y1 y2 y4 = some out → (∀ (H : Heap) (locs : List Loc) (cs ss : Nat) (ls : Array Slot), HI D h0 out s.heap H locs cs ss → lv_has ls 7 [(0, .ref y0)] → W p l e (cR 4 126 h0) s m args below meth c H locs cs ss Q (F0 m 197 ls [])) → ∀ (H : Heap) (locs : List Loc) (cs ss : Nat) (ls : Array Slot), HI D h0 σ s.heap H locs cs ss → lv_has ls 7 [(0, .ref y0), (1, .int y1), (2, .int y2), (4, .int y4)] → W p l e (cR 4 126 h0) s m args below meth c H locs cs ss Q (F0 m 75 ls []) := by
  intro n
  induction n with
  | zero =>
    intro σ y0 y1 y2 y4 out hF
    cases (show (none : Option _) = some out from hF)
  | succ n ih =>
    intro σ y0 y1 y2 y4 out hF hk H locs cs ss ls hM hl
    rw [lX1_years_75] at hF
    obtain ⟨hx, hb, hml, hown, hts⟩ := id S
    refine lv_iload hx hb dX1_years_75 (lv_at hl 3 rfl) ?_
    refine lv_iload_n hx hb dX1_years_77 rfl (lv_at hl 1 rfl) ?_
    refine lv_icmp_ge (tgt := 197) hx hb dX1_years_78 (by decide) (fun c18 => ?_) (fun c18 => ?_)
    · have hF := ifp hF c18
      cases hF
      exact hk _ _ _ _ _ hM (lv_sub hl [0] rfl)
    · have hF := ifn hF c18
      refine lv_iconst (v := 0) hx hb dX1_years_81 rfl ?_
      refine lv_istore (lv' := [(5, .int 0), (0, .ref y0), (1, .int y1), (2, .int y2), (4, .int y4)]) hx hb dX1_years_82 hl (by decide) rfl (fun ls hl => ?_)
      obtain ⟨q30, hq30, hF⟩ := obn hF
      refine wlX1_years_84 S hX F  F _ _ _ _ _ _ q30 hq30 (fun H locs cs ss ls hM hl => ?_) _ _ _ _ _ hM (lv_sub hl [1, 2, 3, 4, 0] rfl)
      refine lv_aload_n hx hb dX1_years_138 rfl (lv_at hl 0 rfl) ?_
      refine lv_bipush (v := 6) hx hb dX1_years_139 rfl ?_
      obtain ⟨z31, hF⟩ := gTe hF
      obtain ⟨r31, er31, hF⟩ := obn hF
      refine ccr (rest := []) (st1 := [.int r31.1]) S hX hM (metX1_draw l F D q30 y0 6 r31 er31) (ci_V (C := "RugReader") (As := [.int 6]) (rest := []) S q1476 q1478 qs36 q1479 hyX1_draw (HI.cell (ci := 0) hX hM (by decide) (by omega)) hlX1_draw rfl dX1_years_141) q1479 q103 (Nat.le_of_ble_eq_true rfl) (Nat.le_of_ble_eq_true rfl) hl.1 (Nat.le_of_ble_eq_true rfl) rfl (fun H locs cs ss hM => ?_)
      obtain ⟨q32, hq32, hF⟩ := obn hF
      refine cjn (I := HI D h0 q32 s.heap) (nJ := 7) (lvJ := [(0, .ref y0), (1, .int y1), (2, .int y2), (4, .int y4)]) (J := 184) (stJ := []) ?_ ?_
      · intro H locs cs ss ls hM hl
        refine lv_aload_n hx hb dX1_years_184 rfl (lv_at hl 0 rfl) ?_
        obtain ⟨a42, ea42, hF⟩ := obn hF
        refine cgn S hX hM ea42 ck_1_1_4 q328 (fun _ h => h) dX1_years_185 ?_
        obtain ⟨z43, hF⟩ := gTe hF
        obtain ⟨r43, er43, hF⟩ := obn hF
        refine ccr (rest := []) (st1 := []) S hX hM (metX3_dawn l F D q32 a42 r43 er43) (ci_V (C := "RugReader$Rug") (As := []) (rest := []) S q1188 q1189 q1190 q1191 hyX3_dawn (HI.cell (ci := 2) hX hM (by decide) (by omega)) hlX3_dawn rfl dX1_years_188) q1191 q108 (Nat.le_of_ble_eq_true rfl) (Nat.le_of_ble_eq_true rfl) hl.1 (Nat.le_of_ble_eq_true rfl) rfl (fun H locs cs ss hM => ?_)
        refine lv_iinc (v := y4 + 1) (lv' := [(4, .int (y4 + 1)), (0, .ref y0), (1, .int y1), (2, .int y2)]) hx hb dX1_years_191 hl (k := 3) rfl rfl (by decide) rfl (fun ls hl => ?_)
        refine lv_goto (tgt := 75) hx hb dX1_years_194 (by decide) ?_
        exact ih _ _ _ _ _ out hF hk _ _ _ _ _ hM (lv_sub hl [1, 2, 3, 0] rfl)
      · intro hJq32
        refine lv_if_ne (tgt := 184) hx hb dX1_years_144 (by decide) (fun c33 => ?_) (fun c33 => ?_)
        · have hq32 := ifn hq32 c33
          cases hq32
          exact hJq32 _ _ _ _ _ hM (lv_sub hl [0, 1, 2, 3] rfl)
        · have hq32 := ifp hq32 c33
          refine lv_aload_n hx hb dX1_years_147 rfl (lv_at hl 0 rfl) ?_
          refine lv_aload_n hx hb dX1_years_148 rfl (lv_at hl 0 rfl) ?_
          obtain ⟨a34, ea34, hq32⟩ := obn hq32
          refine cgn S hX hM ea34 ck_1_1_3 q327 (fun _ h => h) dX1_years_149 ?_
          obtain ⟨v35, ev35, hq32⟩ := obn hq32
          refine cgiN S hX hM ev35 ck_2_2_0 (uq186 hX) dX1_years_152 ?_
          obtain ⟨z36, hq32⟩ := gTe hq32
          obtain ⟨r36, er36, hq32⟩ := obn hq32
          refine ccr (rest := []) (st1 := [.int r36.1]) S hX hM (metX1_draw l F D r31.2 y0 v35 r36 er36) (ci_V (C := "RugReader") (As := [.int v35]) (rest := []) S q1476 q1478 qs36 q1479 hyX1_draw (HI.cell (ci := 0) hX hM (by decide) (by omega)) hlX1_draw rfl dX1_years_155) q1479 q103 (Nat.le_of_ble_eq_true rfl) (Nat.le_of_ble_eq_true rfl) hl.1 (Nat.le_of_ble_eq_true rfl) rfl (fun H locs cs ss hM => ?_)
          refine lv_istore (lv' := [(5, .int r36.1), (0, .ref y0), (1, .int y1), (2, .int y2), (4, .int y4)]) hx hb dX1_years_158 hl (by decide) rfl (fun ls hl => ?_)
          refine lv_aload_n hx hb dX1_years_160 rfl (lv_at hl 1 rfl) ?_
          obtain ⟨a37, ea37, hq32⟩ := obn hq32
          refine cgn S hX hM ea37 ck_1_1_4 q328 (fun _ h => h) dX1_years_161 ?_
          refine lv_iload hx hb dX1_years_164 (lv_at hl 0 rfl) ?_
          refine lv_bipush (v := 12) hx hb dX1_years_166 rfl ?_
          refine lv_aload_n hx hb dX1_years_168 rfl (lv_at hl 1 rfl) ?_
          refine lv_aload_n hx hb dX1_years_169 rfl (lv_at hl 1 rfl) ?_
          obtain ⟨a38, ea38, hq32⟩ := obn hq32
          refine cgn S hX hM ea38 ck_1_1_3 q327 (fun _ h => h) dX1_years_170 ?_
          obtain ⟨v39, ev39, hq32⟩ := obn hq32
          refine cgiN S hX hM ev39 ck_2_2_1 (uq190 hX) dX1_years_173 ?_
          obtain ⟨z40, hq32⟩ := gTe hq32
          obtain ⟨r40, er40, hq32⟩ := obn hq32
          refine ccr (rest := [.int 12, .int r36.1, .ref a37]) (st1 := [.int r40.1, .int 12, .int r36.1, .ref a37]) S hX hM (metX1_draw l F D r36.2 y0 v39 r40 er40) (ci_V (C := "RugReader") (As := [.int v39]) (rest := [.int 12, .int r36.1, .ref a37]) S q1476 q1478 qs36 q1479 hyX1_draw (HI.cell (ci := 0) hX hM (by decide) (by omega)) hlX1_draw rfl dX1_years_176) q1479 q103 (Nat.le_of_ble_eq_true rfl) (Nat.le_of_ble_eq_true rfl) hl.1 (Nat.le_of_ble_eq_true rfl) rfl (fun H locs cs ss hM => ?_)
          refine lv_imul hx hb dX1_years_179 ?_
          refine lv_iadd hx hb dX1_years_180 ?_
          obtain ⟨z41, hq32⟩ := gTe hq32
          obtain ⟨r41, er41, hq32⟩ := obn hq32
          refine ccr (rest := []) (st1 := []) S hX hM (metX3_clean l F D r40.2 a37 (r36.1 + (12 * r40.1)) r41 er41) (ci_V (C := "RugReader$Rug") (As := [.int (r36.1 + (12 * r40.1))]) (rest := []) S q1206 q294 q295 q296 hyX3_clean (HI.cell (ci := 2) hX hM (by decide) (by omega)) hlX3_clean rfl dX1_years_181) q296 q108 (Nat.le_of_ble_eq_true rfl) (Nat.le_of_ble_eq_true rfl) hl.1 (Nat.le_of_ble_eq_true rfl) rfl (fun H locs cs ss hM => ?_)
          cases hq32
          exact hJq32 _ _ _ _ _ hM (lv_sub hl [1, 2, 3, 4] rfl)
set_option maxHeartbeats 4000000 in
set_option maxRecDepth 100000 in
theorem metX1_years (l : Launch) [NoTr l] (F : Nat) (D : va_G) (h0 : HS) (x0 : Nat) (x1 : Int32) (x2 : Int32) (x3 : Int32) (r : Int32 × HS) (hF : fX1_years F h0 x0 x1 x2 x3 = some r) : CMet l yX1_years (ws_ yX1_years cX1_years 7 (some .int)) 4 126 D [.ref x0, .int x1, .int x2, .int x3] h0 r.2 (.inr (some (.int r.1))) := by
  refine CMet.ofW (by decide) ?_
  intro p e s m below meth c s₁ B S hX hM hr hlocks hnt hin
  obtain ⟨hx, hb, hml, hown, hts⟩ := id S
  have hl := lv_entry ([.ref x0, .int x1, .int x2, .int x3]) (n := 7) (Nat.le_of_ble_eq_true rfl)
  rw [lg_entry_eq]
  generalize (lg_sl ([.ref x0, .int x1, .int x2, .int x3]) ++ List.replicate (7 - (lg_sl ([.ref x0, .int x1, .int x2, .int x3])).length) Slot.unset).toArray = ls at hl ⊢
  have hl : lv_has ls 7 [(0, .ref x0), (1, .int x1), (2, .int x2), (3, .int x3)] := hl
  unfold fX1_years at hF
  refine lv_iload_n hx hb dX1_years_0 rfl (lv_at hl 1 rfl) ?_
  refine lv_iconst (v := 1) hx hb dX1_years_1 rfl ?_
  refine lv_bipush (v := 60) hx hb dX1_years_2 rfl ?_
  refine ccr (rest := []) (st1 := [.int (fX1_isIn x1 1 60)]) S hX hM (metX1_isIn l D h0 x1 1 60 _ rfl) (ci_S (As := [.int x1, .int 1, .int 60]) (rest := []) S q1150 q821 q103 q822 hyX1_isIn hlX1_isIn rfl dX1_years_4) q822 q103 (Nat.le_of_ble_eq_true rfl) (Nat.le_of_ble_eq_true rfl) hl.1 (Nat.le_of_ble_eq_true rfl) rfl (fun H locs cs ss hM => ?_)
  refine lv_if_eq (tgt := 61) hx hb dX1_years_7 (by decide) (fun c2 => ?_) (fun c2 => ?_)
  · have hF := ifp hF c2
    refine lv_iconst (v := (-1)) hx hb dX1_years_61 rfl ?_
    have hz := (Option.some.inj hF)
    subst hz
    exact cri S hM hr hlocks dX1_years_62
  · have hF := ifn hF c2
    refine lv_iload_n hx hb dX1_years_10 rfl (lv_at hl 2 rfl) ?_
    refine lv_iconst (v := 1) hx hb dX1_years_11 rfl ?_
    refine lv_bipush (v := 9) hx hb dX1_years_12 rfl ?_
    refine ccr (rest := []) (st1 := [.int (fX1_isIn x2 1 9)]) S hX hM (metX1_isIn l D h0 x2 1 9 _ rfl) (ci_S (As := [.int x2, .int 1, .int 9]) (rest := []) S q1150 q821 q103 q822 hyX1_isIn hlX1_isIn rfl dX1_years_14) q822 q103 (Nat.le_of_ble_eq_true rfl) (Nat.le_of_ble_eq_true rfl) hl.1 (Nat.le_of_ble_eq_true rfl) rfl (fun H locs cs ss hM => ?_)
    refine lv_if_eq (tgt := 61) hx hb dX1_years_17 (by decide) (fun c4 => ?_) (fun c4 => ?_)
    · have hF := ifp hF c4
      refine lv_iconst (v := (-1)) hx hb dX1_years_61 rfl ?_
      have hz := (Option.some.inj hF)
      subst hz
      exact cri S hM hr hlocks dX1_years_62
    · have hF := ifn hF c4
      refine lv_aload_n hx hb dX1_years_20 rfl (lv_at hl 0 rfl) ?_
      obtain ⟨a5, ea5, hF⟩ := obn hF
      refine cgn S hX hM ea5 ck_1_1_3 q327 (fun _ h => h) dX1_years_21 ?_
      obtain ⟨a6, ea6, hF⟩ := obn hF
      refine cgnN S hX hM ea6 ck_2_2_5 (uq204 hX) dX1_years_24 ?_
      obtain ⟨z7, hF⟩ := gTe hF
      obtain ⟨r7, er7, hF⟩ := obn hF
      refine ccr (rest := []) (st1 := [.int r7]) S hX hM (metJ2_isEmpty l F D h0 a6 r7 er7) (ci_V (C := "java/util/ArrayList") (As := []) (rest := []) S q1472 q1473 q1474 q1475 hyJ2_isEmpty (HI.cell (ci := 14) hX hM (by decide) (by omega)) hlJ2_isEmpty rfl dX1_years_27) q1475 q107 (Nat.le_of_ble_eq_true rfl) (Nat.le_of_ble_eq_true rfl) hl.1 (Nat.le_of_ble_eq_true rfl) rfl (fun H locs cs ss hM => ?_)
      refine lv_if_ne (tgt := 61) hx hb dX1_years_30 (by decide) (fun c8 => ?_) (fun c8 => ?_)
      · have hF := ifn hF c8
        refine lv_iconst (v := (-1)) hx hb dX1_years_61 rfl ?_
        have hz := (Option.some.inj hF)
        subst hz
        exact cri S hM hr hlocks dX1_years_62
      · have hF := ifp hF c8
        refine lv_aload_n hx hb dX1_years_33 rfl (lv_at hl 0 rfl) ?_
        obtain ⟨a9, ea9, hF⟩ := obn hF
        refine cgn S hX hM ea9 ck_1_1_3 q327 (fun _ h => h) dX1_years_34 ?_
        obtain ⟨a10, ea10, hF⟩ := obn hF
        refine cgnN S hX hM ea10 ck_2_2_6 (uq210 hX) dX1_years_37 ?_
        obtain ⟨z11, hF⟩ := gTe hF
        obtain ⟨r11, er11, hF⟩ := obn hF
        refine ccr (rest := []) (st1 := [.int r11]) S hX hM (metJ2_isEmpty l F D h0 a10 r11 er11) (ci_V (C := "java/util/ArrayList") (As := []) (rest := []) S q1472 q1473 q1474 q1475 hyJ2_isEmpty (HI.cell (ci := 14) hX hM (by decide) (by omega)) hlJ2_isEmpty rfl dX1_years_40) q1475 q107 (Nat.le_of_ble_eq_true rfl) (Nat.le_of_ble_eq_true rfl) hl.1 (Nat.le_of_ble_eq_true rfl) rfl (fun H locs cs ss hM => ?_)
        refine lv_if_ne (tgt := 61) hx hb dX1_years_43 (by decide) (fun c12 => ?_) (fun c12 => ?_)
        · have hF := ifn hF c12
          refine lv_iconst (v := (-1)) hx hb dX1_years_61 rfl ?_
          have hz := (Option.some.inj hF)
          subst hz
          exact cri S hM hr hlocks dX1_years_62
        · have hF := ifp hF c12
          refine lv_aload_n hx hb dX1_years_46 rfl (lv_at hl 0 rfl) ?_
          obtain ⟨a13, ea13, hF⟩ := obn hF
          refine cgn S hX hM ea13 ck_1_1_4 q328 (fun _ h => h) dX1_years_47 ?_
          obtain ⟨v14, ev14, hF⟩ := obn hF
          refine cgiN S hX hM ev14 ck_3_3_1 (uq256 hX) dX1_years_50 ?_
          refine lv_iload_n hx hb dX1_years_53 rfl (lv_at hl 1 rfl) ?_
          refine lv_iadd hx hb dX1_years_54 ?_
          refine lv_sipush (v := 999) hx hb dX1_years_55 rfl ?_
          refine lv_icmp_le (tgt := 63) hx hb dX1_years_58 (by decide) (fun c15 => ?_) (fun c15 => ?_)
          · have hF := ifp hF c15
            refine lv_aload_n hx hb dX1_years_63 rfl (lv_at hl 0 rfl) ?_
            obtain ⟨z16, hF⟩ := gTe hF
            obtain ⟨r16, er16, hF⟩ := obn hF
            refine ccr (rest := []) (st1 := []) S hX hM (metX1_snap l F D h0 x0 r16 er16) (ci_V (C := "RugReader") (As := []) (rest := []) S q1161 q1163 qs17 q1164 hyX1_snap (HI.cell (ci := 0) hX hM (by decide) (by omega)) hlX1_snap rfl dX1_years_64) q1164 q103 (Nat.le_of_ble_eq_true rfl) (Nat.le_of_ble_eq_true rfl) hl.1 (Nat.le_of_ble_eq_true rfl) rfl (fun H locs cs ss hM => ?_)
            refine lv_aload_n hx hb dX1_years_67 rfl (lv_at hl 0 rfl) ?_
            refine lv_iload_n hx hb dX1_years_68 rfl (lv_at hl 3 rfl) ?_
            obtain ⟨σ17, eσ17, hF⟩ := obn hF
            refine cpi S hX hM eσ17 ck_1_1_30 cw_1_1_30 rfl rfl q354 (fun _ h => h) dX1_years_69 (fun H locs hM => ?_)
            refine lv_iconst (v := 0) hx hb dX1_years_72 rfl ?_
            refine lv_istore (lv' := [(4, .int 0), (0, .ref x0), (1, .int x1), (2, .int x2), (3, .int x3)]) hx hb dX1_years_73 hl (by decide) rfl (fun ls hl => ?_)
            obtain ⟨q44, hq44, hF⟩ := obn hF
            refine wlX1_years_75 S hX F  F _ _ _ _ _ q44 hq44 (fun H locs cs ss ls hM hl => ?_) _ _ _ _ _ hM (lv_sub hl [1, 2, 3, 0] rfl)
            refine lv_aload_n hx hb dX1_years_197 rfl (lv_at hl 0 rfl) ?_
            obtain ⟨a45, ea45, hF⟩ := obn hF
            refine cgn S hX hM ea45 ck_1_1_4 q328 (fun _ h => h) dX1_years_198 ?_
            obtain ⟨v46, ev46, hF⟩ := obn hF
            refine cgiN S hX hM ev46 ck_3_3_1 (uq256 hX) dX1_years_201 ?_
            have hz := (Option.some.inj hF)
            subst hz
            exact cri S hM hr hlocks dX1_years_204
          · have hF := ifn hF c15
            refine lv_iconst (v := (-1)) hx hb dX1_years_61 rfl ?_
            have hz := (Option.some.inj hF)
            subst hz
            exact cri S hM hr hlocks dX1_years_62
def lX1_rarest_4 (F : Nat) (σ : HS) : Nat → Nat → Int32 → Int32 → Option (Int32)
  | 0, _, _, _ => none
  | n + 1, y0, y1, y2 => ((fR σ y0 1 1 3).bind fun a1 => ((fR σ a1 2 2 5).bind fun a2 => gT σ a2 15 15 (((fJ2_size F σ a2).bind fun r3 => (if r3 ≤ y2 then (some y1) else (if y1 = (-1) then (lX1_rarest_4 F σ n y0 y2 (y2 + 1)) else ((fR σ y0 1 1 4).bind fun a6 => ((fR σ a6 3 3 8).bind fun a7 => ((aI σ a7 31 y2).bind fun v8 => ((fR σ y0 1 1 4).bind fun a9 => ((fR σ a9 3 3 8).bind fun a10 => ((aI σ a10 31 y1).bind fun v11 => (if v11 ≤ v8 then (lX1_rarest_4 F σ n y0 y1 (y2 + 1)) else (lX1_rarest_4 F σ n y0 y2 (y2 + 1)))))))))))))))
def fX1_rarest (F : Nat) (h0 : HS) (x0 : Nat) : Option (Int32) := ((lX1_rarest_4 F h0 F x0 (-1) 0).bind fun q13 => some q13)
theorem hyX1_rarest : yX1_rarest.cls ≠ "java/lang/invoke/MethodHandle" ∧ yX1_rarest.cls ≠ "java/lang/invoke/VarHandle" := by decide +kernel
theorem hlX1_rarest : (parseMethodDescriptor yX1_rarest.desc).map (fun d => d.parameters.length) = some 0 := by decide +kernel
set_option maxHeartbeats 4000000 in
set_option maxRecDepth 100000 in
theorem wlX1_rarest_4 {p : Program} {l : Launch} [NoTr l] {e : Env} {s : State} {m : MethodId} {args : Array Value} {below : List Frame} {meth : Method} {c : Code} {D : va_G} {h0 : HS} (S : CallFix p m c cX1_rarest 3 s args lw_all RX1) (hX : CX D (kG h0) s) (σ : HS) (F : Nat) {Q : State → Prop} : ∀ (n : Nat) (y0 : Nat) (y1 : Int32) (y2 : Int32) (out : Int32), lX1_rarest_4 F σ n y0 y1 y2 = some out → (∀ (H : Heap) (locs : List Loc) (cs ss : Nat) (ls : Array Slot), HI D h0 σ s.heap H locs cs ss → lv_has ls 3 [(1, .int out)] → W p l e (cR 1 20 h0) s m args below meth c H locs cs ss Q (F0 m 52 ls [])) → ∀ (H : Heap) (locs : List Loc) (cs ss : Nat) (ls : Array Slot), HI D h0 σ s.heap H locs cs ss → lv_has ls 3 [(0, .ref y0), (1, .int y1), (2, .int y2)] → W p l e (cR 1 20 h0) s m args below meth c H locs cs ss Q (F0 m 4 ls []) := by
  intro n
  induction n with
  | zero =>
    intro y0 y1 y2 out hF
    cases (show (none : Option _) = some out from hF)
  | succ n ih =>
    intro y0 y1 y2 out hF hk H locs cs ss ls hM hl
    rw [lX1_rarest_4] at hF
    obtain ⟨hx, hb, hml, hown, hts⟩ := id S
    refine lv_iload_n hx hb dX1_rarest_4 rfl (lv_at hl 2 rfl) ?_
    refine lv_aload_n hx hb dX1_rarest_5 rfl (lv_at hl 0 rfl) ?_
    obtain ⟨a1, ea1, hF⟩ := obn hF
    refine cgn S hX hM ea1 ck_1_1_3 q327 (fun _ h => h) dX1_rarest_6 ?_
    obtain ⟨a2, ea2, hF⟩ := obn hF
    refine cgnN S hX hM ea2 ck_2_2_5 (uq204 hX) dX1_rarest_9 ?_
    obtain ⟨z3, hF⟩ := gTe hF
    obtain ⟨r3, er3, hF⟩ := obn hF
    refine ccr (rest := [.int y2]) (st1 := [.int r3, .int y2]) S hX hM (metJ2_size l F D σ a2 r3 er3) (ci_V (C := "java/util/ArrayList") (As := []) (rest := [.int y2]) S q1149 q830 q831 q832 hyJ2_size (HI.cell (ci := 14) hX hM (by decide) (by omega)) hlJ2_size rfl dX1_rarest_12) q832 q107 (Nat.le_of_ble_eq_true rfl) (Nat.le_of_ble_eq_true rfl) hl.1 (Nat.le_of_ble_eq_true rfl) rfl (fun H locs cs ss hM => ?_)
    refine lv_icmp_ge (tgt := 52) hx hb dX1_rarest_15 (by decide) (fun c4 => ?_) (fun c4 => ?_)
    · have hF := ifp hF c4
      cases hF
      exact hk _ _ _ _ _ hM (lv_sub hl [1] rfl)
    · have hF := ifn hF c4
      refine lv_iload_n hx hb dX1_rarest_18 rfl (lv_at hl 1 rfl) ?_
      refine lv_iconst (v := (-1)) hx hb dX1_rarest_19 rfl ?_
      refine lv_icmp_eq (tgt := 44) hx hb dX1_rarest_20 (by decide) (fun c5 => ?_) (fun c5 => ?_)
      · have hF := ifp hF c5
        refine lv_iload_n hx hb dX1_rarest_44 rfl (lv_at hl 2 rfl) ?_
        refine lv_istore_n (lv' := [(1, .int y2), (0, .ref y0), (2, .int y2)]) hx hb dX1_rarest_45 rfl hl (by decide) rfl (fun ls hl => ?_)
        refine lv_iinc (v := y2 + 1) (lv' := [(2, .int (y2 + 1)), (1, .int y2), (0, .ref y0)]) hx hb dX1_rarest_46 hl (k := 2) rfl rfl (by decide) rfl (fun ls hl => ?_)
        refine lv_goto (tgt := 4) hx hb dX1_rarest_49 (by decide) ?_
        exact ih _ _ _ out hF hk _ _ _ _ _ hM (lv_sub hl [2, 1, 0] rfl)
      · have hF := ifn hF c5
        refine lv_aload_n hx hb dX1_rarest_23 rfl (lv_at hl 0 rfl) ?_
        obtain ⟨a6, ea6, hF⟩ := obn hF
        refine cgn S hX hM ea6 ck_1_1_4 q328 (fun _ h => h) dX1_rarest_24 ?_
        obtain ⟨a7, ea7, hF⟩ := obn hF
        refine cgnN S hX hM ea7 ck_3_3_8 (uq268 hX) dX1_rarest_27 ?_
        refine lv_iload_n hx hb dX1_rarest_30 rfl (lv_at hl 2 rfl) ?_
        obtain ⟨v8, ev8, hF⟩ := obn hF
        refine cai S hX hM ev8 dX1_rarest_31 ?_
        refine lv_aload_n hx hb dX1_rarest_32 rfl (lv_at hl 0 rfl) ?_
        obtain ⟨a9, ea9, hF⟩ := obn hF
        refine cgn S hX hM ea9 ck_1_1_4 q328 (fun _ h => h) dX1_rarest_33 ?_
        obtain ⟨a10, ea10, hF⟩ := obn hF
        refine cgnN S hX hM ea10 ck_3_3_8 (uq268 hX) dX1_rarest_36 ?_
        refine lv_iload_n hx hb dX1_rarest_39 rfl (lv_at hl 1 rfl) ?_
        obtain ⟨v11, ev11, hF⟩ := obn hF
        refine cai S hX hM ev11 dX1_rarest_40 ?_
        refine lv_icmp_ge (tgt := 46) hx hb dX1_rarest_41 (by decide) (fun c12 => ?_) (fun c12 => ?_)
        · have hF := ifp hF c12
          refine lv_iinc (v := y2 + 1) (lv' := [(2, .int (y2 + 1)), (0, .ref y0), (1, .int y1)]) hx hb dX1_rarest_46 hl (k := 2) rfl rfl (by decide) rfl (fun ls hl => ?_)
          refine lv_goto (tgt := 4) hx hb dX1_rarest_49 (by decide) ?_
          exact ih _ _ _ out hF hk _ _ _ _ _ hM (lv_sub hl [1, 2, 0] rfl)
        · have hF := ifn hF c12
          refine lv_iload_n hx hb dX1_rarest_44 rfl (lv_at hl 2 rfl) ?_
          refine lv_istore_n (lv' := [(1, .int y2), (0, .ref y0), (2, .int y2)]) hx hb dX1_rarest_45 rfl hl (by decide) rfl (fun ls hl => ?_)
          refine lv_iinc (v := y2 + 1) (lv' := [(2, .int (y2 + 1)), (1, .int y2), (0, .ref y0)]) hx hb dX1_rarest_46 hl (k := 2) rfl rfl (by decide) rfl (fun ls hl => ?_)
          refine lv_goto (tgt := 4) hx hb dX1_rarest_49 (by decide) ?_
          exact ih _ _ _ out hF hk _ _ _ _ _ hM (lv_sub hl [2, 1, 0] rfl)
set_option maxHeartbeats 4000000 in
set_option maxRecDepth 100000 in
theorem metX1_rarest (l : Launch) [NoTr l] (F : Nat) (D : va_G) (h0 : HS) (x0 : Nat) (r : Int32) (hF : fX1_rarest F h0 x0 = some r) : CMet l yX1_rarest (ws_ yX1_rarest cX1_rarest 3 (some .int)) 1 20 D [.ref x0] h0 h0 (.inr (some (.int r))) := by
  refine CMet.ofW (by decide) ?_
  intro p e s m below meth c s₁ B S hX hM hr hlocks hnt hin
  obtain ⟨hx, hb, hml, hown, hts⟩ := id S
  have hl := lv_entry ([.ref x0]) (n := 3) (Nat.le_of_ble_eq_true rfl)
  rw [lg_entry_eq]
  generalize (lg_sl ([.ref x0]) ++ List.replicate (3 - (lg_sl ([.ref x0])).length) Slot.unset).toArray = ls at hl ⊢
  have hl : lv_has ls 3 [(0, .ref x0)] := hl
  unfold fX1_rarest at hF
  refine lv_iconst (v := (-1)) hx hb dX1_rarest_0 rfl ?_
  refine lv_istore_n (lv' := [(1, .int (-1)), (0, .ref x0)]) hx hb dX1_rarest_1 rfl hl (by decide) rfl (fun ls hl => ?_)
  refine lv_iconst (v := 0) hx hb dX1_rarest_2 rfl ?_
  refine lv_istore_n (lv' := [(2, .int 0), (1, .int (-1)), (0, .ref x0)]) hx hb dX1_rarest_3 rfl hl (by decide) rfl (fun ls hl => ?_)
  obtain ⟨q13, hq13, hF⟩ := obn hF
  refine wlX1_rarest_4 S hX _ F  F _ _ _ q13 hq13 (fun H locs cs ss ls hM hl => ?_) _ _ _ _ _ hM (lv_sub hl [2, 1, 0] rfl)
  refine lv_iload_n hx hb dX1_rarest_52 rfl (lv_at hl 0 rfl) ?_
  have hz := (Option.some.inj hF)
  subst hz
  exact cri S hM hr hlocks dX1_rarest_53
def fX13_init (F : Nat) (h0 : HS) (x0 : Nat) (x1 : Nat) (x2 : Int32) (x3 : Nat) : Option (HS) := ((fX6_init F h0 x0 x1 x2 200).bind fun r1 => ((pR r1 x0 7 7 9 (some x3)).bind fun σ2 => some σ2))
theorem hyX13_init : yX13_init.cls ≠ "java/lang/invoke/MethodHandle" ∧ yX13_init.cls ≠ "java/lang/invoke/VarHandle" := by decide +kernel
theorem hlX13_init : (parseMethodDescriptor yX13_init.desc).map (fun d => d.parameters.length) = some 3 := by decide +kernel
set_option maxHeartbeats 4000000 in
set_option maxRecDepth 100000 in
theorem metX13_init (l : Launch) [NoTr l] (F : Nat) (D : va_G) (h0 : HS) (x0 : Nat) (x1 : Nat) (x2 : Int32) (x3 : Nat) (r : HS) (hF : fX13_init F h0 x0 x1 x2 x3 = some r) : CMet l yX13_init (ws_ yX13_init cX13_init 4 none) 2 43 D [.ref x0, .ref x1, .int x2, .ref x3] h0 r (.inr none) := by
  refine CMet.ofW (by decide) ?_
  intro p e s m below meth c s₁ B S hX hM hr hlocks hnt hin
  obtain ⟨hx, hb, hml, hown, hts⟩ := id S
  have hl := lv_entry ([.ref x0, .ref x1, .int x2, .ref x3]) (n := 4) (Nat.le_of_ble_eq_true rfl)
  rw [lg_entry_eq]
  generalize (lg_sl ([.ref x0, .ref x1, .int x2, .ref x3]) ++ List.replicate (4 - (lg_sl ([.ref x0, .ref x1, .int x2, .ref x3])).length) Slot.unset).toArray = ls at hl ⊢
  have hl : lv_has ls 4 [(0, .ref x0), (1, .ref x1), (2, .int x2), (3, .ref x3)] := hl
  unfold fX13_init at hF
  refine lv_aload_n hx hb dX13_init_0 rfl (lv_at hl 0 rfl) ?_
  refine lv_aload_n hx hb dX13_init_1 rfl (lv_at hl 1 rfl) ?_
  refine lv_iload_n hx hb dX13_init_2 rfl (lv_at hl 2 rfl) ?_
  refine lv_sipush (v := 200) hx hb dX13_init_3 rfl ?_
  obtain ⟨r1, er1, hF⟩ := obn hF
  refine ccr (rest := []) (st1 := []) S hX hM (metX6_init l F D h0 x0 x1 x2 200 r1 er1) (ci_I (As := [.ref x1, .int x2, .int 200]) (rest := []) S rfl q1494 q448 q449 hyX6_init hlX6_init rfl dX13_init_6) q449 q112 (Nat.le_of_ble_eq_true rfl) (Nat.le_of_ble_eq_true rfl) hl.1 (Nat.le_of_ble_eq_true rfl) rfl (fun H locs cs ss hM => ?_)
  refine lv_aload_n hx hb dX13_init_9 rfl (lv_at hl 0 rfl) ?_
  refine lv_aload_n hx hb dX13_init_10 rfl (lv_at hl 3 rfl) ?_
  obtain ⟨σ2, eσ2, hF⟩ := obn hF
  refine cprF (v := (some x3)) S hX hM eσ2 ck_7_7_9 cw_7_7_9 rfl q1495 hin dX13_init_11 (fun H locs hM => ?_)
  have hz := (Option.some.inj hF)
  subst hz
  exact crv S hM hr hlocks dX13_init_14
def fX14_init (h0 : HS) (x0 : Nat) : Unit := ()
theorem hyX14_init : yX14_init.cls ≠ "java/lang/invoke/MethodHandle" ∧ yX14_init.cls ≠ "java/lang/invoke/VarHandle" := by decide +kernel
theorem hlX14_init : (parseMethodDescriptor yX14_init.desc).map (fun d => d.parameters.length) = some 0 := by decide +kernel
set_option maxHeartbeats 4000000 in
set_option maxRecDepth 100000 in
theorem metX14_init (l : Launch) [NoTr l] (D : va_G) (h0 : HS) (x0 : Nat) (r : Unit) (hF : fX14_init h0 x0 = r) : CMet l yX14_init (ws_ yX14_init cX14_init 1 none) 1 20 D [.ref x0] h0 h0 (.inr none) := by
  refine CMet.ofW (by decide) ?_
  intro p e s m below meth c s₁ B S hX hM hr hlocks hnt hin
  obtain ⟨hx, hb, hml, hown, hts⟩ := id S
  have hl := lv_entry ([.ref x0]) (n := 1) (Nat.le_of_ble_eq_true rfl)
  rw [lg_entry_eq]
  generalize (lg_sl ([.ref x0]) ++ List.replicate (1 - (lg_sl ([.ref x0])).length) Slot.unset).toArray = ls at hl ⊢
  have hl : lv_has ls 1 [(0, .ref x0)] := hl
  unfold fX14_init at hF
  refine lv_aload_n hx hb dX14_init_0 rfl (lv_at hl 0 rfl) ?_
  refine cobj S q1564 q148 q149 hl.1 (Nat.le_of_ble_eq_true rfl) dX14_init_1 (Nat.le_of_ble_eq_true rfl) (Nat.le_of_ble_eq_true rfl) ?_
  have hz := hF
  subst hz
  exact crv S hM hr hlocks dX14_init_4
def fX18_init (F : Nat) (h0 : HS) (x0 : Nat) (x1 : Nat) (x2 : Nat) (x3 : Int32) : Option (HS) := ((pR h0 x0 14 14 0 (some x1)).bind fun σ2 => ((pR σ2 x0 14 14 1 (some x2)).bind fun σ3 => gB x3 ((pI σ3 x0 14 14 2 x3).bind fun σ4 => some σ4)))
theorem hyX18_init : yX18_init.cls ≠ "java/lang/invoke/MethodHandle" ∧ yX18_init.cls ≠ "java/lang/invoke/VarHandle" := by decide +kernel
theorem hlX18_init : (parseMethodDescriptor yX18_init.desc).map (fun d => d.parameters.length) = some 3 := by decide +kernel
set_option maxHeartbeats 4000000 in
set_option maxRecDepth 100000 in
theorem metX18_init (l : Launch) [NoTr l] (F : Nat) (D : va_G) (h0 : HS) (x0 : Nat) (x1 : Nat) (x2 : Nat) (x3 : Int32) (r : HS) (hF : fX18_init F h0 x0 x1 x2 x3 = some r) : CMet l yX18_init (ws_ yX18_init cX18_init 4 none) 2 40 D [.ref x0, .ref x1, .ref x2, .int x3] h0 r (.inr none) := by
  refine CMet.ofW (by decide) ?_
  intro p e s m below meth c s₁ B S hX hM hr hlocks hnt hin
  obtain ⟨hx, hb, hml, hown, hts⟩ := id S
  have hl := lv_entry ([.ref x0, .ref x1, .ref x2, .int x3]) (n := 4) (Nat.le_of_ble_eq_true rfl)
  rw [lg_entry_eq]
  generalize (lg_sl ([.ref x0, .ref x1, .ref x2, .int x3]) ++ List.replicate (4 - (lg_sl ([.ref x0, .ref x1, .ref x2, .int x3])).length) Slot.unset).toArray = ls at hl ⊢
  have hl : lv_has ls 4 [(0, .ref x0), (1, .ref x1), (2, .ref x2), (3, .int x3)] := hl
  unfold fX18_init at hF
  refine lv_aload_n hx hb dX18_init_0 rfl (lv_at hl 0 rfl) ?_
  refine ccr (rest := []) (st1 := []) S hX hM (metX14_init l D h0 x0 _ rfl) (ci_IN (As := []) (rest := []) S rfl (uq1615 hX) q1562 q1563 hyX14_init hlX14_init rfl dX18_init_1) q1563 q137 (Nat.le_of_ble_eq_true rfl) (Nat.le_of_ble_eq_true rfl) hl.1 (Nat.le_of_ble_eq_true rfl) rfl (fun H locs cs ss hM => ?_)
  refine lv_aload_n hx hb dX18_init_4 rfl (lv_at hl 0 rfl) ?_
  refine lv_aload_n hx hb dX18_init_5 rfl (lv_at hl 1 rfl) ?_
  obtain ⟨σ2, eσ2, hF⟩ := obn hF
  refine cprF (v := (some x1)) S hX hM eσ2 ck_14_14_0 cw_14_14_0 rfl q1616 hin dX18_init_6 (fun H locs hM => ?_)
  refine lv_aload_n hx hb dX18_init_9 rfl (lv_at hl 0 rfl) ?_
  refine lv_aload_n hx hb dX18_init_10 rfl (lv_at hl 2 rfl) ?_
  obtain ⟨σ3, eσ3, hF⟩ := obn hF
  refine cprF (v := (some x2)) S hX hM eσ3 ck_14_14_1 cw_14_14_1 rfl q1617 hin dX18_init_11 (fun H locs hM => ?_)
  refine lv_aload_n hx hb dX18_init_14 rfl (lv_at hl 0 rfl) ?_
  refine lv_iload_n hx hb dX18_init_15 rfl (lv_at hl 3 rfl) ?_
  obtain ⟨z4, hF⟩ := gBe hF
  obtain ⟨σ4, eσ4, hF⟩ := obn hF
  refine cpiF S hX hM eσ4 ck_14_14_2 cw_14_14_2 (gBn z4) (gBf z4) q1618 hin dX18_init_16 (fun H locs hM => ?_)
  have hz := (Option.some.inj hF)
  subst hz
  exact crv S hM hr hlocks dX18_init_19
def lX13_and_5 (F : Nat) (rec : HS → Nat → Option ((Nat ⊕ Nat) × HS)) : Nat → HS → Nat → Nat → Option ((HS × Nat) ⊕ ((Nat ⊕ Nat) × HS))
  | 0, _, _, _ => none
  | n + 1, σ, y0, y1 => gT σ y0 7 7 (((fX6_is F σ y0 (kG σ 28)).bind fun r2 => (if r2 = 0 then (some (.inl (σ, y1))) else (gT σ y0 7 7 (((fX6_go F σ y0).bind fun r4 => ((nO r4 14 3).bind fun r5 => gT r5.2 y0 7 7 (((rec r5.2 y0).bind fun r6 => thr r6.1 (fun b6 => some (.inr (.inl b6, r6.2))) fun w6 => ((fX18_init F r6.2 r5.1 y1 w6 1).bind fun r7 => lX13_and_5 F rec n r7 y0 r5.1))))))))))
def fX13_and (F : Nat) (rec : HS → Nat → Option ((Nat ⊕ Nat) × HS)) (h0 : HS) (x0 : Nat) : Option ((Nat ⊕ Nat) × HS) := gT h0 x0 7 7 (((rec h0 x0).bind fun r1 => thr r1.1 (fun b1 => some (.inl b1, r1.2)) fun w1 => (osm (lX13_and_5 F rec F r1.2 x0 w1) id fun q8 => some (.inr q8.2, q8.1))))
theorem hyX13_and : yX13_and.cls ≠ "java/lang/invoke/MethodHandle" ∧ yX13_and.cls ≠ "java/lang/invoke/VarHandle" := by decide +kernel
theorem hlX13_and : (parseMethodDescriptor yX13_and.desc).map (fun d => d.parameters.length) = some 0 := by decide +kernel
set_option maxHeartbeats 4000000 in
set_option maxRecDepth 100000 in
theorem wlX13_and_5 {p : Program} {l : Launch} [NoTr l] {e : Env} {s : State} {m : MethodId} {args : Array Value} {below : List Frame} {meth : Method} {c : Code} {D : va_G} {h0 : HS} (S : CallFix p m c cX13_and 2 s args lw_all RX13) (hX : CX D (kG h0) s) (RF RL : Nat) (rec : HS → Nat → Option ((Nat ⊕ Nat) × HS)) (hrec : RecOne l D RF RL rec) (hr : meth.sig.returnType = (some (.object "RugReader$Cond"))) (hlocks : meth.locks = false) (hnt : ∀ x ∈ c.exceptionTable.toList, False) (F : Nat) (res : (Nat ⊕ Nat) × HS) : ∀ (n : Nat) (σ : HS) (y0 : Nat) (y1 : Nat) (out : (HS × Nat) ⊕ ((Nat ⊕ Nat) × HS)), lX13_and_5 F rec n σ y0 y1 = some out → (∀ v, out = .inr v → v = res) → (∀ o, out = .inl o → ∀ (H : Heap) (locs : List Loc) (cs ss : Nat) (ls : Array Slot), HI D h0 o.1 s.heap H locs cs ss → lv_has ls 2 [(1, .ref o.2)] → W p l e (cR (RF + 8) (RL + 195) h0) s m args below meth c H locs cs ss (cMQ below D h0 res.2 (xr res.1) args s) (F0 m 35 ls [])) → ∀ (H : Heap) (locs : List Loc) (cs ss : Nat) (ls : Array Slot), HI D h0 σ s.heap H locs cs ss → lv_has ls 2 [(0, .ref y0), (1, .ref y1)] → W p l e (cR (RF + 8) (RL + 195) h0) s m args below meth c H locs cs ss (cMQ below D h0 res.2 (xr res.1) args s) (F0 m 5 ls []) := by
  intro n
  induction n with
  | zero =>
    intro σ y0 y1 out hF
    cases (show (none : Option _) = some out from hF)
  | succ n ih =>
    intro σ y0 y1 out hF hv hk H locs cs ss ls hM hl
    rw [lX13_and_5] at hF
    obtain ⟨hx, hb, hml, hown, hts⟩ := id S
    refine lv_aload_n hx hb dX13_and_5 rfl (lv_at hl 0 rfl) ?_
    refine cldc S hM (uq1609 hX) dX13_and_6 ?_
    obtain ⟨z2, hF⟩ := gTe hF
    obtain ⟨r2, er2, hF⟩ := obn hF
    refine ccr (rest := []) (st1 := [.int r2]) S hX hM (metX6_is l F D σ y0 (kG σ 28) r2 er2) (ci_U (C := "RugReader$SentenceReader") (As := [.ref (kG σ 28)]) (rest := []) S q1535 q1536 rfl q714 q1537 q715 hyX6_is (HI.cell (ci := 6) hX hM (by decide) (by omega)) hlX6_is rfl dX13_and_8) q715 q112 (by omega) (by omega) hl.1 (Nat.le_of_ble_eq_true rfl) rfl (fun H locs cs ss hM => ?_)
    refine lv_if_eq (tgt := 35) hx hb dX13_and_11 (by decide) (fun c3 => ?_) (fun c3 => ?_)
    · have hF := ifp hF c3
      cases hF
      exact hk _ rfl _ _ _ _ _ hM (lv_sub hl [1] rfl)
    · have hF := ifn hF c3
      refine lv_aload_n hx hb dX13_and_14 rfl (lv_at hl 0 rfl) ?_
      obtain ⟨z4, hF⟩ := gTe hF
      obtain ⟨r4, er4, hF⟩ := obn hF
      refine ccr (rest := []) (st1 := []) S hX hM (metX6_go l F D σ y0 r4 er4) (ci_U (C := "RugReader$SentenceReader") (As := []) (rest := []) S q1519 q1520 rfl q506 q1521 q507 hyX6_go (HI.cell (ci := 6) hX hM (by decide) (by omega)) hlX6_go rfl dX13_and_15) q507 q112 (by omega) (by omega) hl.1 (Nat.le_of_ble_eq_true rfl) rfl (fun H locs cs ss hM => ?_)
      obtain ⟨r5, er5, hF⟩ := obn hF
      refine cno (ci := 13) S hX hM er5 (by decide) q1610 q1611 q141 dX13_and_18 (fun H cs ss hM => ?_)
      refine lv_dup hx hb dX13_and_21 rfl ?_
      refine lv_aload_n hx hb dX13_and_22 rfl (lv_at hl 1 rfl) ?_
      refine lv_aload_n hx hb dX13_and_23 rfl (lv_at hl 0 rfl) ?_
      obtain ⟨z6, hF⟩ := gTe hF
      obtain ⟨r6, er6, hF⟩ := obn hF
      refine cctr (rest := [.ref y1, .ref r5.1, .ref r5.1]) S hX hM (hrec r5.2 y0 r6 er6) (ci_V (C := "RugReader$SentenceReader") (As := []) (rest := [.ref y1, .ref r5.1, .ref r5.1]) S q1530 q1532 qs39 q1533 hyX13_one (HI.cell (ci := 6) hX hM (by decide) (by omega)) hlX13_one rfl dX13_and_24) q1533 q136 (by omega) (by omega) hl.1 (Nat.le_of_ble_eq_true rfl) (fun w6 ew6 H locs cs ss hM => ?_) (fun b6 eb6 H locs cs ss hM => ?_)
      · have hF := thr_r hF ew6
        refine lv_iconst (v := 1) hx hb dX13_and_27 rfl ?_
        obtain ⟨r7, er7, hF⟩ := obn hF
        refine ccr (rest := [.ref r5.1]) (st1 := [.ref r5.1]) S hX hM (metX18_init l F D r6.2 r5.1 y1 w6 1 r7 er7) (ci_I (As := [.ref y1, .ref w6, .int 1]) (rest := [.ref r5.1]) S rfl q1612 q1613 q1614 hyX18_init hlX18_init rfl dX13_and_28) q1614 q141 (by omega) (by omega) hl.1 (Nat.le_of_ble_eq_true rfl) rfl (fun H locs cs ss hM => ?_)
        refine lv_astore_n (lv' := [(1, .ref r5.1), (0, .ref y0)]) hx hb dX13_and_31 rfl hl (by decide) rfl (fun ls hl => ?_)
        refine lv_goto (tgt := 5) hx hb dX13_and_32 (by decide) ?_
        exact ih _ _ _ out hF hv hk _ _ _ _ _ hM (lv_sub hl [1, 0] rfl)
      · have hF := thr_q hF eb6
        have hz := (hv _ ((Option.some.inj hF)).symm)
        subst hz
        exact cxout hM (fun x hx => (hnt x hx).elim) hlocks
set_option maxHeartbeats 4000000 in
set_option maxRecDepth 100000 in
theorem metX13_and (l : Launch) [NoTr l] (F : Nat) (D : va_G) (RF RL : Nat) (rec : HS → Nat → Option ((Nat ⊕ Nat) × HS)) (hrec : RecOne l D RF RL rec) (h0 : HS) (x0 : Nat) (r : (Nat ⊕ Nat) × HS) (hF : fX13_and F rec h0 x0 = some r) : CMet l yX13_and (ws_ yX13_and cX13_and 2 (some (.object "RugReader$Cond"))) (RF + 8) (RL + 195) D [.ref x0] h0 r.2 (xr r.1) := by
  refine CMet.ofW (by decide) ?_
  intro p e s m below meth c s₁ B S hX hM hr hlocks hnt hin
  obtain ⟨hx, hb, hml, hown, hts⟩ := id S
  have hl := lv_entry ([.ref x0]) (n := 2) (Nat.le_of_ble_eq_true rfl)
  rw [lg_entry_eq]
  generalize (lg_sl ([.ref x0]) ++ List.replicate (2 - (lg_sl ([.ref x0])).length) Slot.unset).toArray = ls at hl ⊢
  have hl : lv_has ls 2 [(0, .ref x0)] := hl
  unfold fX13_and at hF
  refine lv_aload_n hx hb dX13_and_0 rfl (lv_at hl 0 rfl) ?_
  obtain ⟨z1, hF⟩ := gTe hF
  obtain ⟨r1, er1, hF⟩ := obn hF
  refine cctr (rest := []) S hX hM (hrec h0 x0 r1 er1) (ci_V (C := "RugReader$SentenceReader") (As := []) (rest := []) S q1530 q1532 qs39 q1533 hyX13_one (HI.cell (ci := 6) hX hM (by decide) (by omega)) hlX13_one rfl dX13_and_1) q1533 q136 (by omega) (by omega) hl.1 (Nat.le_of_ble_eq_true rfl) (fun w1 ew1 H locs cs ss hM => ?_) (fun b1 eb1 H locs cs ss hM => ?_)
  · have hF := thr_r hF ew1
    refine lv_astore_n (lv' := [(1, .ref w1), (0, .ref x0)]) hx hb dX13_and_4 rfl hl (by decide) rfl (fun ls hl => ?_)
    obtain ⟨oq8, hq8, h1q8, h2q8⟩ := osx hF
    refine wlX13_and_5 S hX RF RL rec hrec hr hlocks hnt F _  F _ _ _ oq8 hq8 (fun v e => (h2q8 v e)) (fun q8 eq8 H locs cs ss ls hM hl => ?_) _ _ _ _ _ hM (lv_sub hl [1, 0] rfl)
    have hF := h1q8 _ eq8
    refine lv_aload_n hx hb dX13_and_35 rfl (lv_at hl 0 rfl) ?_
    have hz := (Option.some.inj hF)
    subst hz
    exact cra S hM hr (Or.inl ⟨_, rfl⟩) hlocks dX13_and_36
  · have hF := thr_q hF eb1
    have hz := (Option.some.inj hF)
    subst hz
    exact cxout hM (fun x hx => (hnt x hx).elim) hlocks
def lX13_or_5 (F : Nat) (rec : HS → Nat → Option ((Nat ⊕ Nat) × HS)) : Nat → HS → Nat → Nat → Option ((HS × Nat) ⊕ ((Nat ⊕ Nat) × HS))
  | 0, _, _, _ => none
  | n + 1, σ, y0, y1 => gT σ y0 7 7 (((fX6_is F σ y0 (kG σ 29)).bind fun r2 => (if r2 = 0 then (some (.inl (σ, y1))) else (gT σ y0 7 7 (((fX6_go F σ y0).bind fun r4 => ((nO r4 14 3).bind fun r5 => gT r5.2 y0 7 7 (((fX13_and F rec r5.2 y0).bind fun r6 => thr r6.1 (fun b6 => some (.inr (.inl b6, r6.2))) fun w6 => ((fX18_init F r6.2 r5.1 y1 w6 0).bind fun r7 => lX13_or_5 F rec n r7 y0 r5.1))))))))))
def fX13_or (F : Nat) (rec : HS → Nat → Option ((Nat ⊕ Nat) × HS)) (h0 : HS) (x0 : Nat) : Option ((Nat ⊕ Nat) × HS) := gT h0 x0 7 7 (((fX13_and F rec h0 x0).bind fun r1 => thr r1.1 (fun b1 => some (.inl b1, r1.2)) fun w1 => (osm (lX13_or_5 F rec F r1.2 x0 w1) id fun q8 => some (.inr q8.2, q8.1))))
theorem hyX13_or : yX13_or.cls ≠ "java/lang/invoke/MethodHandle" ∧ yX13_or.cls ≠ "java/lang/invoke/VarHandle" := by decide +kernel
theorem hlX13_or : (parseMethodDescriptor yX13_or.desc).map (fun d => d.parameters.length) = some 0 := by decide +kernel
set_option maxHeartbeats 4000000 in
set_option maxRecDepth 100000 in
theorem wlX13_or_5 {p : Program} {l : Launch} [NoTr l] {e : Env} {s : State} {m : MethodId} {args : Array Value} {below : List Frame} {meth : Method} {c : Code} {D : va_G} {h0 : HS} (S : CallFix p m c cX13_or 2 s args lw_all RX13) (hX : CX D (kG h0) s) (RF RL : Nat) (rec : HS → Nat → Option ((Nat ⊕ Nat) × HS)) (hrec : RecOne l D RF RL rec) (hr : meth.sig.returnType = (some (.object "RugReader$Cond"))) (hlocks : meth.locks = false) (hnt : ∀ x ∈ c.exceptionTable.toList, False) (F : Nat) (res : (Nat ⊕ Nat) × HS) : ∀ (n : Nat) (σ : HS) (y0 : Nat) (y1 : Nat) (out : (HS × Nat) ⊕ ((Nat ⊕ Nat) × HS)), lX13_or_5 F rec n σ y0 y1 = some out → (∀ v, out = .inr v → v = res) → (∀ o, out = .inl o → ∀ (H : Heap) (locs : List Loc) (cs ss : Nat) (ls : Array Slot), HI D h0 o.1 s.heap H locs cs ss → lv_has ls 2 [(1, .ref o.2)] → W p l e (cR (RF + 9) (RL + 216) h0) s m args below meth c H locs cs ss (cMQ below D h0 res.2 (xr res.1) args s) (F0 m 35 ls [])) → ∀ (H : Heap) (locs : List Loc) (cs ss : Nat) (ls : Array Slot), HI D h0 σ s.heap H locs cs ss → lv_has ls 2 [(0, .ref y0), (1, .ref y1)] → W p l e (cR (RF + 9) (RL + 216) h0) s m args below meth c H locs cs ss (cMQ below D h0 res.2 (xr res.1) args s) (F0 m 5 ls []) := by
  intro n
  induction n with
  | zero =>
    intro σ y0 y1 out hF
    cases (show (none : Option _) = some out from hF)
  | succ n ih =>
    intro σ y0 y1 out hF hv hk H locs cs ss ls hM hl
    rw [lX13_or_5] at hF
    obtain ⟨hx, hb, hml, hown, hts⟩ := id S
    refine lv_aload_n hx hb dX13_or_5 rfl (lv_at hl 0 rfl) ?_
    refine cldc S hM (uq1626 hX) dX13_or_6 ?_
    obtain ⟨z2, hF⟩ := gTe hF
    obtain ⟨r2, er2, hF⟩ := obn hF
    refine ccr (rest := []) (st1 := [.int r2]) S hX hM (metX6_is l F D σ y0 (kG σ 29) r2 er2) (ci_U (C := "RugReader$SentenceReader") (As := [.ref (kG σ 29)]) (rest := []) S q1535 q1536 rfl q714 q1537 q715 hyX6_is (HI.cell (ci := 6) hX hM (by decide) (by omega)) hlX6_is rfl dX13_or_8) q715 q112 (by omega) (by omega) hl.1 (Nat.le_of_ble_eq_true rfl) rfl (fun H locs cs ss hM => ?_)
    refine lv_if_eq (tgt := 35) hx hb dX13_or_11 (by decide) (fun c3 => ?_) (fun c3 => ?_)
    · have hF := ifp hF c3
      cases hF
      exact hk _ rfl _ _ _ _ _ hM (lv_sub hl [1] rfl)
    · have hF := ifn hF c3
      refine lv_aload_n hx hb dX13_or_14 rfl (lv_at hl 0 rfl) ?_
      obtain ⟨z4, hF⟩ := gTe hF
      obtain ⟨r4, er4, hF⟩ := obn hF
      refine ccr (rest := []) (st1 := []) S hX hM (metX6_go l F D σ y0 r4 er4) (ci_U (C := "RugReader$SentenceReader") (As := []) (rest := []) S q1519 q1520 rfl q506 q1521 q507 hyX6_go (HI.cell (ci := 6) hX hM (by decide) (by omega)) hlX6_go rfl dX13_or_15) q507 q112 (by omega) (by omega) hl.1 (Nat.le_of_ble_eq_true rfl) rfl (fun H locs cs ss hM => ?_)
      obtain ⟨r5, er5, hF⟩ := obn hF
      refine cno (ci := 13) S hX hM er5 (by decide) q1610 q1611 q141 dX13_or_18 (fun H cs ss hM => ?_)
      refine lv_dup hx hb dX13_or_21 rfl ?_
      refine lv_aload_n hx hb dX13_or_22 rfl (lv_at hl 1 rfl) ?_
      refine lv_aload_n hx hb dX13_or_23 rfl (lv_at hl 0 rfl) ?_
      obtain ⟨z6, hF⟩ := gTe hF
      obtain ⟨r6, er6, hF⟩ := obn hF
      refine cctr (rest := [.ref y1, .ref r5.1, .ref r5.1]) S hX hM (metX13_and l F D RF RL rec hrec r5.2 y0 r6 er6) (ci_V (C := "RugReader$SentenceReader") (As := []) (rest := [.ref y1, .ref r5.1, .ref r5.1]) S q1526 q1528 qs38 q1529 hyX13_and (HI.cell (ci := 6) hX hM (by decide) (by omega)) hlX13_and rfl dX13_or_24) q1529 q136 (by omega) (by omega) hl.1 (Nat.le_of_ble_eq_true rfl) (fun w6 ew6 H locs cs ss hM => ?_) (fun b6 eb6 H locs cs ss hM => ?_)
      · have hF := thr_r hF ew6
        refine lv_iconst (v := 0) hx hb dX13_or_27 rfl ?_
        obtain ⟨r7, er7, hF⟩ := obn hF
        refine ccr (rest := [.ref r5.1]) (st1 := [.ref r5.1]) S hX hM (metX18_init l F D r6.2 r5.1 y1 w6 0 r7 er7) (ci_I (As := [.ref y1, .ref w6, .int 0]) (rest := [.ref r5.1]) S rfl q1612 q1613 q1614 hyX18_init hlX18_init rfl dX13_or_28) q1614 q141 (by omega) (by omega) hl.1 (Nat.le_of_ble_eq_true rfl) rfl (fun H locs cs ss hM => ?_)
        refine lv_astore_n (lv' := [(1, .ref r5.1), (0, .ref y0)]) hx hb dX13_or_31 rfl hl (by decide) rfl (fun ls hl => ?_)
        refine lv_goto (tgt := 5) hx hb dX13_or_32 (by decide) ?_
        exact ih _ _ _ out hF hv hk _ _ _ _ _ hM (lv_sub hl [1, 0] rfl)
      · have hF := thr_q hF eb6
        have hz := (hv _ ((Option.some.inj hF)).symm)
        subst hz
        exact cxout hM (fun x hx => (hnt x hx).elim) hlocks
set_option maxHeartbeats 4000000 in
set_option maxRecDepth 100000 in
theorem metX13_or (l : Launch) [NoTr l] (F : Nat) (D : va_G) (RF RL : Nat) (rec : HS → Nat → Option ((Nat ⊕ Nat) × HS)) (hrec : RecOne l D RF RL rec) (h0 : HS) (x0 : Nat) (r : (Nat ⊕ Nat) × HS) (hF : fX13_or F rec h0 x0 = some r) : CMet l yX13_or (ws_ yX13_or cX13_or 2 (some (.object "RugReader$Cond"))) (RF + 9) (RL + 216) D [.ref x0] h0 r.2 (xr r.1) := by
  refine CMet.ofW (by decide) ?_
  intro p e s m below meth c s₁ B S hX hM hr hlocks hnt hin
  obtain ⟨hx, hb, hml, hown, hts⟩ := id S
  have hl := lv_entry ([.ref x0]) (n := 2) (Nat.le_of_ble_eq_true rfl)
  rw [lg_entry_eq]
  generalize (lg_sl ([.ref x0]) ++ List.replicate (2 - (lg_sl ([.ref x0])).length) Slot.unset).toArray = ls at hl ⊢
  have hl : lv_has ls 2 [(0, .ref x0)] := hl
  unfold fX13_or at hF
  refine lv_aload_n hx hb dX13_or_0 rfl (lv_at hl 0 rfl) ?_
  obtain ⟨z1, hF⟩ := gTe hF
  obtain ⟨r1, er1, hF⟩ := obn hF
  refine cctr (rest := []) S hX hM (metX13_and l F D RF RL rec hrec h0 x0 r1 er1) (ci_V (C := "RugReader$SentenceReader") (As := []) (rest := []) S q1526 q1528 qs38 q1529 hyX13_and (HI.cell (ci := 6) hX hM (by decide) (by omega)) hlX13_and rfl dX13_or_1) q1529 q136 (by omega) (by omega) hl.1 (Nat.le_of_ble_eq_true rfl) (fun w1 ew1 H locs cs ss hM => ?_) (fun b1 eb1 H locs cs ss hM => ?_)
  · have hF := thr_r hF ew1
    refine lv_astore_n (lv' := [(1, .ref w1), (0, .ref x0)]) hx hb dX13_or_4 rfl hl (by decide) rfl (fun ls hl => ?_)
    obtain ⟨oq8, hq8, h1q8, h2q8⟩ := osx hF
    refine wlX13_or_5 S hX RF RL rec hrec hr hlocks hnt F _  F _ _ _ oq8 hq8 (fun v e => (h2q8 v e)) (fun q8 eq8 H locs cs ss ls hM hl => ?_) _ _ _ _ _ hM (lv_sub hl [1, 0] rfl)
    have hF := h1q8 _ eq8
    refine lv_aload_n hx hb dX13_or_35 rfl (lv_at hl 0 rfl) ?_
    have hz := (Option.some.inj hF)
    subst hz
    exact cra S hM hr (Or.inl ⟨_, rfl⟩) hlocks dX13_or_36
  · have hF := thr_q hF eb1
    have hz := (Option.some.inj hF)
    subst hz
    exact cxout hM (fun x hx => (hnt x hx).elim) hlocks
def fX13_read (F : Nat) (rec : HS → Nat → Option ((Nat ⊕ Nat) × HS)) (h0 : HS) (x0 : Nat) : Option ((Nat ⊕ Nat) × HS) := gT h0 x0 7 7 (((fX6_go F h0 x0).bind fun r1 => gT r1 x0 7 7 (((fX13_or F rec r1 x0).bind fun r2 => thr r2.1 (fun b2 => some (.inl b2, r2.2)) fun w2 => ((oI r2.2 x0 7 7 4).bind fun v3 => (if v3 = 0 then (gT r2.2 x0 7 7 (((fX6_need F r2.2 x0 1 1).bind fun r6 => thr r6.1 (fun b6 => some (.inl b6, r6.2)) fun w6 => some (.inr w2, r6.2)))) else (gT r2.2 x0 7 7 (((fX6_need F r2.2 x0 0 1).bind fun r5 => thr r5.1 (fun b5 => some (.inl b5, r5.2)) fun w5 => some (.inr w2, r5.2))))))))))
theorem hyX13_read : yX13_read.cls ≠ "java/lang/invoke/MethodHandle" ∧ yX13_read.cls ≠ "java/lang/invoke/VarHandle" := by decide +kernel
theorem hlX13_read : (parseMethodDescriptor yX13_read.desc).map (fun d => d.parameters.length) = some 0 := by decide +kernel
set_option maxHeartbeats 4000000 in
set_option maxRecDepth 100000 in
theorem metX13_read (l : Launch) [NoTr l] (F : Nat) (D : va_G) (RF RL : Nat) (rec : HS → Nat → Option ((Nat ⊕ Nat) × HS)) (hrec : RecOne l D RF RL rec) (h0 : HS) (x0 : Nat) (r : (Nat ⊕ Nat) × HS) (hF : fX13_read F rec h0 x0 = some r) : CMet l yX13_read (ws_ yX13_read cX13_read 2 (some (.object "RugReader$Cond"))) (RF + 10) (RL + 244) D [.ref x0] h0 r.2 (xr r.1) := by
  refine CMet.ofW (by decide) ?_
  intro p e s m below meth c s₁ B S hX hM hr hlocks hnt hin
  obtain ⟨hx, hb, hml, hown, hts⟩ := id S
  have hl := lv_entry ([.ref x0]) (n := 2) (Nat.le_of_ble_eq_true rfl)
  rw [lg_entry_eq]
  generalize (lg_sl ([.ref x0]) ++ List.replicate (2 - (lg_sl ([.ref x0])).length) Slot.unset).toArray = ls at hl ⊢
  have hl : lv_has ls 2 [(0, .ref x0)] := hl
  unfold fX13_read at hF
  refine lv_aload_n hx hb dX13_read_0 rfl (lv_at hl 0 rfl) ?_
  obtain ⟨z1, hF⟩ := gTe hF
  obtain ⟨r1, er1, hF⟩ := obn hF
  refine ccr (rest := []) (st1 := []) S hX hM (metX6_go l F D h0 x0 r1 er1) (ci_U (C := "RugReader$SentenceReader") (As := []) (rest := []) S q1519 q1520 rfl q506 q1521 q507 hyX6_go (HI.cell (ci := 6) hX hM (by decide) (by omega)) hlX6_go rfl dX13_read_1) q507 q112 (by omega) (by omega) hl.1 (Nat.le_of_ble_eq_true rfl) rfl (fun H locs cs ss hM => ?_)
  refine lv_aload_n hx hb dX13_read_4 rfl (lv_at hl 0 rfl) ?_
  obtain ⟨z2, hF⟩ := gTe hF
  obtain ⟨r2, er2, hF⟩ := obn hF
  refine cctr (rest := []) S hX hM (metX13_or l F D RF RL rec hrec r1 x0 r2 er2) (ci_V (C := "RugReader$SentenceReader") (As := []) (rest := []) S q1522 q1524 qs37 q1525 hyX13_or (HI.cell (ci := 6) hX hM (by decide) (by omega)) hlX13_or rfl dX13_read_5) q1525 q136 (by omega) (by omega) hl.1 (Nat.le_of_ble_eq_true rfl) (fun w2 ew2 H locs cs ss hM => ?_) (fun b2 eb2 H locs cs ss hM => ?_)
  · have hF := thr_r hF ew2
    refine lv_astore_n (lv' := [(1, .ref w2), (0, .ref x0)]) hx hb dX13_read_8 rfl hl (by decide) rfl (fun ls hl => ?_)
    refine lv_aload_n hx hb dX13_read_9 rfl (lv_at hl 1 rfl) ?_
    refine lv_aload_n hx hb dX13_read_10 rfl (lv_at hl 1 rfl) ?_
    obtain ⟨v3, ev3, hF⟩ := obn hF
    refine cgi S hX hM ev3 ck_7_7_4 q462 (u_same (hts _ q463)) dX13_read_11 ?_
    refine lv_if_ne (tgt := 21) hx hb dX13_read_14 (by decide) (fun c4 => ?_) (fun c4 => ?_)
    · have hF := ifn hF c4
      refine lv_iconst (v := 0) hx hb dX13_read_21 rfl ?_
      refine lv_iconst (v := 1) hx hb dX13_read_22 rfl ?_
      obtain ⟨z5, hF⟩ := gTe hF
      obtain ⟨r5, er5, hF⟩ := obn hF
      refine cctv (rest := []) S hX hM (metX6_need l F D r2.2 x0 0 1 r5 er5) (ci_U (C := "RugReader$SentenceReader") (As := [.int 0, .int 1]) (rest := []) S q1549 q1550 rfl q739 q1551 q740 hyX6_need (HI.cell (ci := 6) hX hM (by decide) (by omega)) hlX6_need rfl dX13_read_23) q740 q112 (by omega) (by omega) hl.1 (Nat.le_of_ble_eq_true rfl) (fun w5 ew5 H locs cs ss hM => ?_) (fun b5 eb5 H locs cs ss hM => ?_)
      · have hF := thr_r hF ew5
        refine lv_aload_n hx hb dX13_read_26 rfl (lv_at hl 0 rfl) ?_
        have hz := (Option.some.inj hF)
        subst hz
        exact cra S hM hr (Or.inl ⟨_, rfl⟩) hlocks dX13_read_27
      · have hF := thr_q hF eb5
        have hz := (Option.some.inj hF)
        subst hz
        exact cxout hM (fun x hx => (hnt x hx).elim) hlocks
    · have hF := ifp hF c4
      refine lv_iconst (v := 1) hx hb dX13_read_17 rfl ?_
      refine lv_goto (tgt := 22) hx hb dX13_read_18 (by decide) ?_
      refine lv_iconst (v := 1) hx hb dX13_read_22 rfl ?_
      obtain ⟨z6, hF⟩ := gTe hF
      obtain ⟨r6, er6, hF⟩ := obn hF
      refine cctv (rest := []) S hX hM (metX6_need l F D r2.2 x0 1 1 r6 er6) (ci_U (C := "RugReader$SentenceReader") (As := [.int 1, .int 1]) (rest := []) S q1549 q1550 rfl q739 q1551 q740 hyX6_need (HI.cell (ci := 6) hX hM (by decide) (by omega)) hlX6_need rfl dX13_read_23) q740 q112 (by omega) (by omega) hl.1 (Nat.le_of_ble_eq_true rfl) (fun w6 ew6 H locs cs ss hM => ?_) (fun b6 eb6 H locs cs ss hM => ?_)
      · have hF := thr_r hF ew6
        refine lv_aload_n hx hb dX13_read_26 rfl (lv_at hl 0 rfl) ?_
        have hz := (Option.some.inj hF)
        subst hz
        exact cra S hM hr (Or.inl ⟨_, rfl⟩) hlocks dX13_read_27
      · have hF := thr_q hF eb6
        have hz := (Option.some.inj hF)
        subst hz
        exact cxout hM (fun x hx => (hnt x hx).elim) hlocks
  · have hF := thr_q hF eb2
    have hz := (Option.some.inj hF)
    subst hz
    exact cxout hM (fun x hx => (hnt x hx).elim) hlocks
def fX1_sentence (F : Nat) (rec : HS → Nat → Option ((Nat ⊕ Nat) × HS)) (h0 : HS) (x0 : Nat) : Option (Int32 × HS) := gT h0 x0 1 1 (((fX1_take F h0 x0).bind fun r1 => ((pI r1.2 x0 1 1 2 0).bind fun σ2 => ((nO σ2 7 12).bind fun r3 => ((fR r3.2 x0 1 1 0).bind fun a4 => ((fR r3.2 x0 1 1 3).bind fun a5 => ((fX13_init F r3.2 r3.1 a4 r1.1 a5).bind fun r6 => gT r6 r3.1 7 7 (((fX13_read F rec r6 r3.1).bind fun r7 => thr r7.1 (fun b7 => gT r7.2 b7 8 8 (((oI r7.2 b7 8 8 0).bind fun v10 => ((pI r7.2 x0 1 1 2 v10).bind fun σ11 => ((oI σ11 b7 8 8 1).bind fun v12 => some (((-1) - v12), σ11)))))) fun w7 => ((pR r7.2 x0 1 1 5 (some w7)).bind fun σ8 => ((oI σ8 r3.1 7 7 10).bind fun v9 => some (v9, σ8))))))))))))
theorem hyX1_sentence : yX1_sentence.cls ≠ "java/lang/invoke/MethodHandle" ∧ yX1_sentence.cls ≠ "java/lang/invoke/VarHandle" := by decide +kernel
theorem hlX1_sentence : (parseMethodDescriptor yX1_sentence.desc).map (fun d => d.parameters.length) = some 0 := by decide +kernel
set_option maxHeartbeats 4000000 in
set_option maxRecDepth 100000 in
theorem metX1_sentence (l : Launch) [NoTr l] (F : Nat) (D : va_G) (RF RL : Nat) (rec : HS → Nat → Option ((Nat ⊕ Nat) × HS)) (hrec : RecOne l D RF RL rec) (h0 : HS) (x0 : Nat) (r : Int32 × HS) (hF : fX1_sentence F rec h0 x0 = some r) : CMet l yX1_sentence (wsW_ yX1_sentence cX1_sentence 3 (some .int) [(10, 39, 40, 136)]) (RF + 11) (RL + 265) D [.ref x0] h0 r.2 (.inr (some (.int r.1))) := by
  refine CMet.ofWH (by decide) ?_
  intro p e s m below meth c s₁ B S hX hM hr hlocks hnt hin
  obtain ⟨hx, hb, hml, hown, hts⟩ := id S
  have hl := lv_entry ([.ref x0]) (n := 3) (Nat.le_of_ble_eq_true rfl)
  rw [lg_entry_eq]
  generalize (lg_sl ([.ref x0]) ++ List.replicate (3 - (lg_sl ([.ref x0])).length) Slot.unset).toArray = ls at hl ⊢
  have hl : lv_has ls 3 [(0, .ref x0)] := hl
  unfold fX1_sentence at hF
  refine lv_aload_n hx hb dX1_sentence_0 rfl (lv_at hl 0 rfl) ?_
  obtain ⟨z1, hF⟩ := gTe hF
  obtain ⟨r1, er1, hF⟩ := obn hF
  refine ccr (rest := []) (st1 := [.int r1.1]) S hX hM (metX1_take l F D h0 x0 r1 er1) (ci_V (C := "RugReader") (As := []) (rest := []) S q438 q440 qs1 q441 hyX1_take (HI.cell (ci := 0) hX hM (by decide) (by omega)) hlX1_take rfl dX1_sentence_1) q441 q103 (by omega) (by omega) hl.1 (Nat.le_of_ble_eq_true rfl) rfl (fun H locs cs ss hM => ?_)
  refine lv_istore_n (lv' := [(1, .int r1.1), (0, .ref x0)]) hx hb dX1_sentence_4 rfl hl (by decide) rfl (fun ls hl => ?_)
  refine lv_aload_n hx hb dX1_sentence_5 rfl (lv_at hl 1 rfl) ?_
  refine lv_iconst (v := 0) hx hb dX1_sentence_6 rfl ?_
  obtain ⟨σ2, eσ2, hF⟩ := obn hF
  refine cpi S hX hM eσ2 ck_1_1_2 cw_1_1_2 rfl rfl q326 (fun _ h => h) dX1_sentence_7 (fun H locs hM => ?_)
  obtain ⟨r3, er3, hF⟩ := obn hF
  refine cno (ci := 6) S hX hM er3 (by decide) q1489 q1490 q136 dX1_sentence_10 (fun H cs ss hM => ?_)
  refine lv_dup hx hb dX1_sentence_13 rfl ?_
  refine lv_aload_n hx hb dX1_sentence_14 rfl (lv_at hl 1 rfl) ?_
  obtain ⟨a4, ea4, hF⟩ := obn hF
  refine cgn S hX hM ea4 ck_1_1_0 q324 (fun _ h => h) dX1_sentence_15 ?_
  refine lv_iload_n hx hb dX1_sentence_18 rfl (lv_at hl 0 rfl) ?_
  refine lv_aload_n hx hb dX1_sentence_19 rfl (lv_at hl 1 rfl) ?_
  obtain ⟨a5, ea5, hF⟩ := obn hF
  refine cgn S hX hM ea5 ck_1_1_3 q327 (fun _ h => h) dX1_sentence_20 ?_
  obtain ⟨r6, er6, hF⟩ := obn hF
  refine ccr (rest := [.ref r3.1]) (st1 := [.ref r3.1]) S hX hM (metX13_init l F D r3.2 r3.1 a4 r1.1 a5 r6 er6) (ci_I (As := [.ref a4, .int r1.1, .ref a5]) (rest := [.ref r3.1]) S rfl q1491 q1492 q1493 hyX13_init hlX13_init rfl dX1_sentence_23) q1493 q136 (by omega) (by omega) hl.1 (Nat.le_of_ble_eq_true rfl) rfl (fun H locs cs ss hM => ?_)
  refine lv_astore_n (lv' := [(2, .ref r3.1), (1, .int r1.1), (0, .ref x0)]) hx hb dX1_sentence_26 rfl hl (by decide) rfl (fun ls hl => ?_)
  refine lv_aload_n hx hb dX1_sentence_27 rfl (lv_at hl 2 rfl) ?_
  refine lv_aload_n hx hb dX1_sentence_28 rfl (lv_at hl 0 rfl) ?_
  obtain ⟨z7, hF⟩ := gTe hF
  obtain ⟨r7, er7, hF⟩ := obn hF
  refine cctr (rest := [.ref x0]) S hX hM (metX13_read l F D RF RL rec hrec r6 r3.1 r7 er7) (ci_V (C := "RugReader$SentenceReader") (As := []) (rest := [.ref x0]) S q1515 q1516 q1517 q1518 hyX13_read (HI.cell (ci := 6) hX hM (by decide) (by omega)) hlX13_read rfl dX1_sentence_29) q1518 q136 (by omega) (by omega) hl.1 (Nat.le_of_ble_eq_true rfl) (fun w7 ew7 H locs cs ss hM => ?_) (fun b7 eb7 H locs cs ss hM => ?_)
  · have hF := thr_r hF ew7
    obtain ⟨σ8, eσ8, hF⟩ := obn hF
    refine cpr (v := (some w7)) S hX hM eσ8 ck_1_1_5 cw_1_1_5 rfl q329 (fun _ h => h) dX1_sentence_32 (fun H locs hM => ?_)
    refine lv_aload_n hx hb dX1_sentence_35 rfl (lv_at hl 0 rfl) ?_
    obtain ⟨v9, ev9, hF⟩ := obn hF
    refine cgiN S hX hM ev9 ck_7_7_10 (uq1497 hX) dX1_sentence_36 ?_
    have hz := (Option.some.inj hF)
    subst hz
    exact cri S hM hr hlocks dX1_sentence_39
  · have hF := thr_q hF eb7
    obtain ⟨zb7, hF⟩ := gTe hF
    refine cxcatch (ci := 7) (nm := "") S hX hM (by decide) (by omega) hnt (by decide) (by decide) q437 ?_
    refine lv_astore_n (lv' := [(2, .ref b7), (1, .int r1.1), (0, .ref x0)]) hx hb dX1_sentence_40 rfl hl (by decide) rfl (fun ls hl => ?_)
    refine lv_aload_n hx hb dX1_sentence_41 rfl (lv_at hl 2 rfl) ?_
    refine lv_aload_n hx hb dX1_sentence_42 rfl (lv_at hl 0 rfl) ?_
    obtain ⟨v10, ev10, hF⟩ := obn hF
    refine cgiN S hX hM ev10 ck_8_8_0 (uq787 hX) dX1_sentence_43 ?_
    obtain ⟨σ11, eσ11, hF⟩ := obn hF
    refine cpi S hX hM eσ11 ck_1_1_2 cw_1_1_2 rfl rfl q326 (fun _ h => h) dX1_sentence_46 (fun H locs hM => ?_)
    refine lv_iconst (v := (-1)) hx hb dX1_sentence_49 rfl ?_
    refine lv_aload_n hx hb dX1_sentence_50 rfl (lv_at hl 0 rfl) ?_
    obtain ⟨v12, ev12, hF⟩ := obn hF
    refine cgiN S hX hM ev12 ck_8_8_1 (uq789 hX) dX1_sentence_51 ?_
    refine lv_isub hx hb dX1_sentence_54 ?_
    have hz := (Option.some.inj hF)
    subst hz
    exact cri S hM hr hlocks dX1_sentence_55
def lX1_said_13 (F : Nat) (rec : HS → Nat → Nat → Int32 → Option Int32) (σ : HS) : Nat → Nat → Int32 → Int32 → Int32 → Option ((Int32) ⊕ (Int32))
  | 0, _, _, _, _ => none
  | n + 1, y0, y1, y2, y3 => ((fR σ y0 1 1 3).bind fun a3 => ((fR σ a3 2 2 5).bind fun a4 => gT σ a4 15 15 (((fJ2_size F σ a4).bind fun r5 => (if r5 ≤ y3 then (some (.inl y2)) else ((fR σ y0 1 1 5).bind fun a7 => ((fR σ y0 1 1 4).bind fun a8 => ((rec σ a7 a8 y3).bind fun r9 => (if r9 = 0 then (lX1_said_13 F rec σ n y0 y1 y2 (y3 + 1)) else (if y2 = y1 then (some (.inr y3)) else (lX1_said_13 F rec σ n y0 y1 (y2 + 1) (y3 + 1))))))))))))
def fX1_said (F : Nat) (rec : HS → Nat → Nat → Int32 → Option Int32) (h0 : HS) (x0 : Nat) (x1 : Int32) : Option (Int32) := ((oR h0 x0 1 1 5).bind fun o1 => (onl o1 (some (-1)) fun a2 => (osm (lX1_said_13 F rec h0 F x0 x1 0 0) id fun q12 => (if x1 = (-1) then (some q12) else (some (-1))))))
theorem hyX1_said : yX1_said.cls ≠ "java/lang/invoke/MethodHandle" ∧ yX1_said.cls ≠ "java/lang/invoke/VarHandle" := by decide +kernel
theorem hlX1_said : (parseMethodDescriptor yX1_said.desc).map (fun d => d.parameters.length) = some 1 := by decide +kernel
set_option maxHeartbeats 4000000 in
set_option maxRecDepth 100000 in
theorem wlX1_said_13 {p : Program} {l : Launch} [NoTr l] {e : Env} {s : State} {m : MethodId} {args : Array Value} {below : List Frame} {meth : Method} {c : Code} {D : va_G} {h0 : HS} (S : CallFix p m c cX1_said 4 s args lw_all RX1) (hX : CX D (kG h0) s) (RF RL : Nat) (rec : HS → Nat → Nat → Int32 → Option Int32) (hrec : RecHolds l D RF RL rec) (σ : HS) (hr : meth.sig.returnType = (some .int)) (hlocks : meth.locks = false) (hnt : ∀ x ∈ c.exceptionTable.toList, False) (F : Nat) (res : Int32) : ∀ (n : Nat) (y0 : Nat) (y1 : Int32) (y2 : Int32) (y3 : Int32) (out : (Int32) ⊕ (Int32)), lX1_said_13 F rec σ n y0 y1 y2 y3 = some out → (∀ v, out = .inr v → v = res) → (∀ o, out = .inl o → ∀ (H : Heap) (locs : List Loc) (cs ss : Nat) (ls : Array Slot), HI D h0 σ s.heap H locs cs ss → lv_has ls 4 [(1, .int y1), (2, .int o)] → W p l e (cR (RF + 1) (RL + 40) h0) s m args below meth c H locs cs ss (cMQ below D h0 σ (.inr (some (.int res))) args s) (F0 m 61 ls [])) → ∀ (H : Heap) (locs : List Loc) (cs ss : Nat) (ls : Array Slot), HI D h0 σ s.heap H locs cs ss → lv_has ls 4 [(0, .ref y0), (1, .int y1), (2, .int y2), (3, .int y3)] → W p l e (cR (RF + 1) (RL + 40) h0) s m args below meth c H locs cs ss (cMQ below D h0 σ (.inr (some (.int res))) args s) (F0 m 13 ls []) := by
  intro n
  induction n with
  | zero =>
    intro y0 y1 y2 y3 out hF
    cases (show (none : Option _) = some out from hF)
  | succ n ih =>
    intro y0 y1 y2 y3 out hF hv hk H locs cs ss ls hM hl
    rw [lX1_said_13] at hF
    obtain ⟨hx, hb, hml, hown, hts⟩ := id S
    refine lv_iload_n hx hb dX1_said_13 rfl (lv_at hl 3 rfl) ?_
    refine lv_aload_n hx hb dX1_said_14 rfl (lv_at hl 0 rfl) ?_
    obtain ⟨a3, ea3, hF⟩ := obn hF
    refine cgn S hX hM ea3 ck_1_1_3 q327 (fun _ h => h) dX1_said_15 ?_
    obtain ⟨a4, ea4, hF⟩ := obn hF
    refine cgnN S hX hM ea4 ck_2_2_5 (uq204 hX) dX1_said_18 ?_
    obtain ⟨z5, hF⟩ := gTe hF
    obtain ⟨r5, er5, hF⟩ := obn hF
    refine ccr (rest := [.int y3]) (st1 := [.int r5, .int y3]) S hX hM (metJ2_size l F D σ a4 r5 er5) (ci_V (C := "java/util/ArrayList") (As := []) (rest := [.int y3]) S q1149 q830 q831 q832 hyJ2_size (HI.cell (ci := 14) hX hM (by decide) (by omega)) hlJ2_size rfl dX1_said_21) q832 q107 (by omega) (by omega) hl.1 (Nat.le_of_ble_eq_true rfl) rfl (fun H locs cs ss hM => ?_)
    refine lv_icmp_ge (tgt := 61) hx hb dX1_said_24 (by decide) (fun c6 => ?_) (fun c6 => ?_)
    · have hF := ifp hF c6
      cases hF
      exact hk _ rfl _ _ _ _ _ hM (lv_sub hl [1, 2] rfl)
    · have hF := ifn hF c6
      refine lv_aload_n hx hb dX1_said_27 rfl (lv_at hl 0 rfl) ?_
      obtain ⟨a7, ea7, hF⟩ := obn hF
      refine cgn S hX hM ea7 ck_1_1_5 q329 (fun _ h => h) dX1_said_28 ?_
      refine lv_aload_n hx hb dX1_said_31 rfl (lv_at hl 0 rfl) ?_
      obtain ⟨a8, ea8, hF⟩ := obn hF
      refine cgn S hX hM ea8 ck_1_1_4 q328 (fun _ h => h) dX1_said_32 ?_
      refine lv_iload_n hx hb dX1_said_35 rfl (lv_at hl 3 rfl) ?_
      obtain ⟨r9, er9, hF⟩ := obn hF
      refine cdisp (rest := []) S hX hM hrec er9 q1631 hl.1 (Nat.le_of_ble_eq_true rfl) (by omega) (by omega) dX1_said_36 (fun H locs cs ss hM => ?_)
      refine lv_if_ne (tgt := 45) hx hb dX1_said_39 (by decide) (fun c10 => ?_) (fun c10 => ?_)
      · have hF := ifn hF c10
        refine lv_iload_n hx hb dX1_said_45 rfl (lv_at hl 2 rfl) ?_
        refine lv_iload_n hx hb dX1_said_46 rfl (lv_at hl 1 rfl) ?_
        refine lv_icmp_ne (tgt := 52) hx hb dX1_said_47 (by decide) (fun c11 => ?_) (fun c11 => ?_)
        · have hF := ifn hF c11
          refine lv_iinc (v := y2 + 1) (lv' := [(2, .int (y2 + 1)), (0, .ref y0), (1, .int y1), (3, .int y3)]) hx hb dX1_said_52 hl (k := 2) rfl rfl (by decide) rfl (fun ls hl => ?_)
          refine lv_iinc (v := y3 + 1) (lv' := [(3, .int (y3 + 1)), (2, .int (y2 + 1)), (0, .ref y0), (1, .int y1)]) hx hb dX1_said_55 hl (k := 3) rfl rfl (by decide) rfl (fun ls hl => ?_)
          refine lv_goto (tgt := 13) hx hb dX1_said_58 (by decide) ?_
          exact ih _ _ _ _ out hF hv hk _ _ _ _ _ hM (lv_sub hl [2, 3, 1, 0] rfl)
        · have hF := ifp hF c11
          refine lv_iload_n hx hb dX1_said_50 rfl (lv_at hl 3 rfl) ?_
          have hz := (hv _ ((Option.some.inj hF)).symm)
          subst hz
          exact cri S hM hr hlocks dX1_said_51
      · have hF := ifp hF c10
        refine lv_goto (tgt := 55) hx hb dX1_said_42 (by decide) ?_
        refine lv_iinc (v := y3 + 1) (lv' := [(3, .int (y3 + 1)), (0, .ref y0), (1, .int y1), (2, .int y2)]) hx hb dX1_said_55 hl (k := 3) rfl rfl (by decide) rfl (fun ls hl => ?_)
        refine lv_goto (tgt := 13) hx hb dX1_said_58 (by decide) ?_
        exact ih _ _ _ _ out hF hv hk _ _ _ _ _ hM (lv_sub hl [1, 2, 3, 0] rfl)
set_option maxHeartbeats 4000000 in
set_option maxRecDepth 100000 in
theorem metX1_said (l : Launch) [NoTr l] (F : Nat) (D : va_G) (RF RL : Nat) (rec : HS → Nat → Nat → Int32 → Option Int32) (hrec : RecHolds l D RF RL rec) (h0 : HS) (x0 : Nat) (x1 : Int32) (r : Int32) (hF : fX1_said F rec h0 x0 x1 = some r) : CMet l yX1_said (ws_ yX1_said cX1_said 4 (some .int)) (RF + 1) (RL + 40) D [.ref x0, .int x1] h0 h0 (.inr (some (.int r))) := by
  refine CMet.ofW (by decide) ?_
  intro p e s m below meth c s₁ B S hX hM hr hlocks hnt hin
  obtain ⟨hx, hb, hml, hown, hts⟩ := id S
  have hl := lv_entry ([.ref x0, .int x1]) (n := 4) (Nat.le_of_ble_eq_true rfl)
  rw [lg_entry_eq]
  generalize (lg_sl ([.ref x0, .int x1]) ++ List.replicate (4 - (lg_sl ([.ref x0, .int x1])).length) Slot.unset).toArray = ls at hl ⊢
  have hl : lv_has ls 4 [(0, .ref x0), (1, .int x1)] := hl
  unfold fX1_said at hF
  refine lv_aload_n hx hb dX1_said_0 rfl (lv_at hl 0 rfl) ?_
  obtain ⟨o1, eo1, hF⟩ := obn hF
  refine cgr S hX hM eo1 ck_1_1_5 q329 (fun _ h => h) dX1_said_1 ?_
  rcases onl_e hF with ⟨er, hF⟩ | ⟨a2, er, hF⟩
  · subst er
    refine lv_ifnonnullN hx hb dX1_said_4 ?_
    refine lv_iconst (v := (-1)) hx hb dX1_said_7 rfl ?_
    have hz := (Option.some.inj hF)
    subst hz
    exact cri S hM hr hlocks dX1_said_8
  · subst er
    refine lv_ifnonnull (tgt := 9) hx hb dX1_said_4 (by decide) ?_
    refine lv_iconst (v := 0) hx hb dX1_said_9 rfl ?_
    refine lv_istore_n (lv' := [(2, .int 0), (0, .ref x0), (1, .int x1)]) hx hb dX1_said_10 rfl hl (by decide) rfl (fun ls hl => ?_)
    refine lv_iconst (v := 0) hx hb dX1_said_11 rfl ?_
    refine lv_istore_n (lv' := [(3, .int 0), (2, .int 0), (0, .ref x0), (1, .int x1)]) hx hb dX1_said_12 rfl hl (by decide) rfl (fun ls hl => ?_)
    obtain ⟨oq12, hq12, h1q12, h2q12⟩ := osx hF
    refine wlX1_said_13 S hX RF RL rec hrec _ hr hlocks hnt F _  F _ _ _ _ oq12 hq12 (fun v e => (h2q12 v e)) (fun q12 eq12 H locs cs ss ls hM hl => ?_) _ _ _ _ _ hM (lv_sub hl [2, 3, 1, 0] rfl)
    have hF := h1q12 _ eq12
    refine lv_iload_n hx hb dX1_said_61 rfl (lv_at hl 0 rfl) ?_
    refine lv_iconst (v := (-1)) hx hb dX1_said_62 rfl ?_
    refine lv_icmp_ne (tgt := 70) hx hb dX1_said_63 (by decide) (fun c13 => ?_) (fun c13 => ?_)
    · have hF := ifn hF c13
      refine lv_iconst (v := (-1)) hx hb dX1_said_70 rfl ?_
      have hz := (Option.some.inj hF)
      subst hz
      exact cri S hM hr hlocks dX1_said_71
    · have hF := ifp hF c13
      refine lv_iload_n hx hb dX1_said_66 rfl (lv_at hl 1 rfl) ?_
      refine lv_goto (tgt := 71) hx hb dX1_said_67 (by decide) ?_
      have hz := (Option.some.inj hF)
      subst hz
      exact cri S hM hr hlocks dX1_said_71
def fX1_image (F : Nat) (h0 : HS) (x0 : Nat) (x1 : Int32) : Option (Int32 × HS) := (if (fX1_isIn x1 0 1) = 0 then (some (0, h0)) else ((fR h0 x0 1 1 31).bind fun a3 => ((fA h0 a3 37 x1).bind fun a4 => ((oR h0 x0 1 1 3).bind fun o5 => ((pR h0 a4 4 4 0 o5).bind fun σ6 => ((fR σ6 x0 1 1 31).bind fun a7 => ((fA σ6 a7 37 x1).bind fun a8 => ((oR σ6 x0 1 1 5).bind fun o9 => ((pR σ6 a8 4 4 1 o9).bind fun σ10 => ((fR σ10 x0 1 1 31).bind fun a11 => ((fA σ10 a11 37 x1).bind fun a12 => ((fR σ10 a12 4 4 2).bind fun a13 => ((fR σ10 x0 1 1 4).bind fun a14 => gT σ10 a13 3 3 (((fX3_as F σ10 a13 a14).bind fun r15 => some (1, r15.2))))))))))))))))
theorem hyX1_image : yX1_image.cls ≠ "java/lang/invoke/MethodHandle" ∧ yX1_image.cls ≠ "java/lang/invoke/VarHandle" := by decide +kernel
theorem hlX1_image : (parseMethodDescriptor yX1_image.desc).map (fun d => d.parameters.length) = some 1 := by decide +kernel
set_option maxHeartbeats 4000000 in
set_option maxRecDepth 100000 in
theorem metX1_image (l : Launch) [NoTr l] (F : Nat) (D : va_G) (h0 : HS) (x0 : Nat) (x1 : Int32) (r : Int32 × HS) (hF : fX1_image F h0 x0 x1 = some r) : CMet l yX1_image (ws_ yX1_image cX1_image 2 (some .boolean)) 3 104 D [.ref x0, .int x1] h0 r.2 (.inr (some (.int r.1))) := by
  refine CMet.ofW (by decide) ?_
  intro p e s m below meth c s₁ B S hX hM hr hlocks hnt hin
  obtain ⟨hx, hb, hml, hown, hts⟩ := id S
  have hl := lv_entry ([.ref x0, .int x1]) (n := 2) (Nat.le_of_ble_eq_true rfl)
  rw [lg_entry_eq]
  generalize (lg_sl ([.ref x0, .int x1]) ++ List.replicate (2 - (lg_sl ([.ref x0, .int x1])).length) Slot.unset).toArray = ls at hl ⊢
  have hl : lv_has ls 2 [(0, .ref x0), (1, .int x1)] := hl
  unfold fX1_image at hF
  refine lv_iload_n hx hb dX1_image_0 rfl (lv_at hl 1 rfl) ?_
  refine lv_iconst (v := 0) hx hb dX1_image_1 rfl ?_
  refine lv_iconst (v := 1) hx hb dX1_image_2 rfl ?_
  refine ccr (rest := []) (st1 := [.int (fX1_isIn x1 0 1)]) S hX hM (metX1_isIn l D h0 x1 0 1 _ rfl) (ci_S (As := [.int x1, .int 0, .int 1]) (rest := []) S q1150 q821 q103 q822 hyX1_isIn hlX1_isIn rfl dX1_image_3) q822 q103 (Nat.le_of_ble_eq_true rfl) (Nat.le_of_ble_eq_true rfl) hl.1 (Nat.le_of_ble_eq_true rfl) rfl (fun H locs cs ss hM => ?_)
  refine lv_if_ne (tgt := 11) hx hb dX1_image_6 (by decide) (fun c2 => ?_) (fun c2 => ?_)
  · have hF := ifn hF c2
    refine lv_aload_n hx hb dX1_image_11 rfl (lv_at hl 0 rfl) ?_
    obtain ⟨a3, ea3, hF⟩ := obn hF
    refine cgn S hX hM ea3 ck_1_1_31 q355 (fun _ h => h) dX1_image_12 ?_
    refine lv_iload_n hx hb dX1_image_15 rfl (lv_at hl 1 rfl) ?_
    obtain ⟨a4, ea4, hF⟩ := obn hF
    refine can37 S hX hM ea4 dX1_image_16 ?_
    refine lv_aload_n hx hb dX1_image_17 rfl (lv_at hl 0 rfl) ?_
    obtain ⟨o5, eo5, hF⟩ := obn hF
    refine cgr S hX hM eo5 ck_1_1_3 q327 (fun _ h => h) dX1_image_18 ?_
    obtain ⟨σ6, eσ6, hF⟩ := obn hF
    refine cprN (v := o5) S hX hM eσ6 ck_4_4_0 cw_4_4_0 rfl (uq313 hX) dX1_image_21 (fun H locs hM => ?_)
    refine lv_aload_n hx hb dX1_image_24 rfl (lv_at hl 0 rfl) ?_
    obtain ⟨a7, ea7, hF⟩ := obn hF
    refine cgn S hX hM ea7 ck_1_1_31 q355 (fun _ h => h) dX1_image_25 ?_
    refine lv_iload_n hx hb dX1_image_28 rfl (lv_at hl 1 rfl) ?_
    obtain ⟨a8, ea8, hF⟩ := obn hF
    refine can37 S hX hM ea8 dX1_image_29 ?_
    refine lv_aload_n hx hb dX1_image_30 rfl (lv_at hl 0 rfl) ?_
    obtain ⟨o9, eo9, hF⟩ := obn hF
    refine cgr S hX hM eo9 ck_1_1_5 q329 (fun _ h => h) dX1_image_31 ?_
    obtain ⟨σ10, eσ10, hF⟩ := obn hF
    refine cprN (v := o9) S hX hM eσ10 ck_4_4_1 cw_4_4_1 rfl (uq314 hX) dX1_image_34 (fun H locs hM => ?_)
    refine lv_aload_n hx hb dX1_image_37 rfl (lv_at hl 0 rfl) ?_
    obtain ⟨a11, ea11, hF⟩ := obn hF
    refine cgn S hX hM ea11 ck_1_1_31 q355 (fun _ h => h) dX1_image_38 ?_
    refine lv_iload_n hx hb dX1_image_41 rfl (lv_at hl 1 rfl) ?_
    obtain ⟨a12, ea12, hF⟩ := obn hF
    refine can37 S hX hM ea12 dX1_image_42 ?_
    obtain ⟨a13, ea13, hF⟩ := obn hF
    refine cgnN S hX hM ea13 ck_4_4_2 (uq316 hX) dX1_image_43 ?_
    refine lv_aload_n hx hb dX1_image_46 rfl (lv_at hl 0 rfl) ?_
    obtain ⟨a14, ea14, hF⟩ := obn hF
    refine cgn S hX hM ea14 ck_1_1_4 q328 (fun _ h => h) dX1_image_47 ?_
    obtain ⟨z15, hF⟩ := gTe hF
    obtain ⟨r15, er15, hF⟩ := obn hF
    refine ccr (rest := []) (st1 := [.ref r15.1]) S hX hM (metX3_as l F D σ10 a13 a14 r15 er15) (ci_V (C := "RugReader$Rug") (As := [.ref a14]) (rest := []) S q1165 q1166 q1167 q1168 hyX3_as (HI.cell (ci := 2) hX hM (by decide) (by omega)) hlX3_as rfl dX1_image_50) q1168 q108 (Nat.le_of_ble_eq_true rfl) (Nat.le_of_ble_eq_true rfl) hl.1 (Nat.le_of_ble_eq_true rfl) rfl (fun H locs cs ss hM => ?_)
    refine lv_pop hx hb dX1_image_53 rfl ?_
    refine lv_iconst (v := 1) hx hb dX1_image_54 rfl ?_
    have hz := (Option.some.inj hF)
    subst hz
    exact crz S hM hr hlocks (gBn gB1) dX1_image_55
  · have hF := ifp hF c2
    refine lv_iconst (v := 0) hx hb dX1_image_9 rfl ?_
    have hz := (Option.some.inj hF)
    subst hz
    exact crz S hM hr hlocks (gBn gB0) dX1_image_10
def fX1_restore (F : Nat) (h0 : HS) (x0 : Nat) (x1 : Int32) : Option (Int32 × HS) := (if (fX1_isIn x1 0 1) = 0 then (some (0, h0)) else ((fR h0 x0 1 1 31).bind fun a3 => ((fA h0 a3 37 x1).bind fun a4 => ((oR h0 a4 4 4 0).bind fun o5 => (onl o5 (some (0, h0)) fun a6 => ((fR h0 x0 1 1 31).bind fun a7 => ((fA h0 a7 37 x1).bind fun a8 => ((oR h0 a8 4 4 0).bind fun o9 => ((pR h0 x0 1 1 3 o9).bind fun σ10 => ((fR σ10 x0 1 1 31).bind fun a11 => ((fA σ10 a11 37 x1).bind fun a12 => ((oR σ10 a12 4 4 1).bind fun o13 => ((pR σ10 x0 1 1 5 o13).bind fun σ14 => ((fR σ14 x0 1 1 4).bind fun a15 => ((fR σ14 x0 1 1 31).bind fun a16 => ((fA σ14 a16 37 x1).bind fun a17 => ((fR σ14 a17 4 4 2).bind fun a18 => gT σ14 a15 3 3 (((fX3_as F σ14 a15 a18).bind fun r19 => ((pI r19.2 x0 1 1 7 0).bind fun σ20 => some (1, σ20)))))))))))))))))))))
theorem hyX1_restore : yX1_restore.cls ≠ "java/lang/invoke/MethodHandle" ∧ yX1_restore.cls ≠ "java/lang/invoke/VarHandle" := by decide +kernel
theorem hlX1_restore : (parseMethodDescriptor yX1_restore.desc).map (fun d => d.parameters.length) = some 1 := by decide +kernel
set_option maxHeartbeats 4000000 in
set_option maxRecDepth 100000 in
theorem metX1_restore (l : Launch) [NoTr l] (F : Nat) (D : va_G) (h0 : HS) (x0 : Nat) (x1 : Int32) (r : Int32 × HS) (hF : fX1_restore F h0 x0 x1 = some r) : CMet l yX1_restore (ws_ yX1_restore cX1_restore 2 (some .boolean)) 3 104 D [.ref x0, .int x1] h0 r.2 (.inr (some (.int r.1))) := by
  refine CMet.ofW (by decide) ?_
  intro p e s m below meth c s₁ B S hX hM hr hlocks hnt hin
  obtain ⟨hx, hb, hml, hown, hts⟩ := id S
  have hl := lv_entry ([.ref x0, .int x1]) (n := 2) (Nat.le_of_ble_eq_true rfl)
  rw [lg_entry_eq]
  generalize (lg_sl ([.ref x0, .int x1]) ++ List.replicate (2 - (lg_sl ([.ref x0, .int x1])).length) Slot.unset).toArray = ls at hl ⊢
  have hl : lv_has ls 2 [(0, .ref x0), (1, .int x1)] := hl
  unfold fX1_restore at hF
  refine lv_iload_n hx hb dX1_restore_0 rfl (lv_at hl 1 rfl) ?_
  refine lv_iconst (v := 0) hx hb dX1_restore_1 rfl ?_
  refine lv_iconst (v := 1) hx hb dX1_restore_2 rfl ?_
  refine ccr (rest := []) (st1 := [.int (fX1_isIn x1 0 1)]) S hX hM (metX1_isIn l D h0 x1 0 1 _ rfl) (ci_S (As := [.int x1, .int 0, .int 1]) (rest := []) S q1150 q821 q103 q822 hyX1_isIn hlX1_isIn rfl dX1_restore_3) q822 q103 (Nat.le_of_ble_eq_true rfl) (Nat.le_of_ble_eq_true rfl) hl.1 (Nat.le_of_ble_eq_true rfl) rfl (fun H locs cs ss hM => ?_)
  refine lv_if_eq (tgt := 21) hx hb dX1_restore_6 (by decide) (fun c2 => ?_) (fun c2 => ?_)
  · have hF := ifp hF c2
    refine lv_iconst (v := 0) hx hb dX1_restore_21 rfl ?_
    have hz := (Option.some.inj hF)
    subst hz
    exact crz S hM hr hlocks (gBn gB0) dX1_restore_22
  · have hF := ifn hF c2
    refine lv_aload_n hx hb dX1_restore_9 rfl (lv_at hl 0 rfl) ?_
    obtain ⟨a3, ea3, hF⟩ := obn hF
    refine cgn S hX hM ea3 ck_1_1_31 q355 (fun _ h => h) dX1_restore_10 ?_
    refine lv_iload_n hx hb dX1_restore_13 rfl (lv_at hl 1 rfl) ?_
    obtain ⟨a4, ea4, hF⟩ := obn hF
    refine can37 S hX hM ea4 dX1_restore_14 ?_
    obtain ⟨o5, eo5, hF⟩ := obn hF
    refine cgrN S hX hM eo5 ck_4_4_0 (uq313 hX) dX1_restore_15 ?_
    rcases onl_e hF with ⟨er, hF⟩ | ⟨a6, er, hF⟩
    · subst er
      refine lv_ifnonnullN hx hb dX1_restore_18 ?_
      refine lv_iconst (v := 0) hx hb dX1_restore_21 rfl ?_
      have hz := (Option.some.inj hF)
      subst hz
      exact crz S hM hr hlocks (gBn gB0) dX1_restore_22
    · subst er
      refine lv_ifnonnull (tgt := 23) hx hb dX1_restore_18 (by decide) ?_
      refine lv_aload_n hx hb dX1_restore_23 rfl (lv_at hl 0 rfl) ?_
      refine lv_aload_n hx hb dX1_restore_24 rfl (lv_at hl 0 rfl) ?_
      obtain ⟨a7, ea7, hF⟩ := obn hF
      refine cgn S hX hM ea7 ck_1_1_31 q355 (fun _ h => h) dX1_restore_25 ?_
      refine lv_iload_n hx hb dX1_restore_28 rfl (lv_at hl 1 rfl) ?_
      obtain ⟨a8, ea8, hF⟩ := obn hF
      refine can37 S hX hM ea8 dX1_restore_29 ?_
      obtain ⟨o9, eo9, hF⟩ := obn hF
      refine cgrN S hX hM eo9 ck_4_4_0 (uq313 hX) dX1_restore_30 ?_
      obtain ⟨σ10, eσ10, hF⟩ := obn hF
      refine cpr (v := o9) S hX hM eσ10 ck_1_1_3 cw_1_1_3 rfl q327 (fun _ h => h) dX1_restore_33 (fun H locs hM => ?_)
      refine lv_aload_n hx hb dX1_restore_36 rfl (lv_at hl 0 rfl) ?_
      refine lv_aload_n hx hb dX1_restore_37 rfl (lv_at hl 0 rfl) ?_
      obtain ⟨a11, ea11, hF⟩ := obn hF
      refine cgn S hX hM ea11 ck_1_1_31 q355 (fun _ h => h) dX1_restore_38 ?_
      refine lv_iload_n hx hb dX1_restore_41 rfl (lv_at hl 1 rfl) ?_
      obtain ⟨a12, ea12, hF⟩ := obn hF
      refine can37 S hX hM ea12 dX1_restore_42 ?_
      obtain ⟨o13, eo13, hF⟩ := obn hF
      refine cgrN S hX hM eo13 ck_4_4_1 (uq314 hX) dX1_restore_43 ?_
      obtain ⟨σ14, eσ14, hF⟩ := obn hF
      refine cpr (v := o13) S hX hM eσ14 ck_1_1_5 cw_1_1_5 rfl q329 (fun _ h => h) dX1_restore_46 (fun H locs hM => ?_)
      refine lv_aload_n hx hb dX1_restore_49 rfl (lv_at hl 0 rfl) ?_
      obtain ⟨a15, ea15, hF⟩ := obn hF
      refine cgn S hX hM ea15 ck_1_1_4 q328 (fun _ h => h) dX1_restore_50 ?_
      refine lv_aload_n hx hb dX1_restore_53 rfl (lv_at hl 0 rfl) ?_
      obtain ⟨a16, ea16, hF⟩ := obn hF
      refine cgn S hX hM ea16 ck_1_1_31 q355 (fun _ h => h) dX1_restore_54 ?_
      refine lv_iload_n hx hb dX1_restore_57 rfl (lv_at hl 1 rfl) ?_
      obtain ⟨a17, ea17, hF⟩ := obn hF
      refine can37 S hX hM ea17 dX1_restore_58 ?_
      obtain ⟨a18, ea18, hF⟩ := obn hF
      refine cgnN S hX hM ea18 ck_4_4_2 (uq316 hX) dX1_restore_59 ?_
      obtain ⟨z19, hF⟩ := gTe hF
      obtain ⟨r19, er19, hF⟩ := obn hF
      refine ccr (rest := []) (st1 := [.ref r19.1]) S hX hM (metX3_as l F D σ14 a15 a18 r19 er19) (ci_V (C := "RugReader$Rug") (As := [.ref a18]) (rest := []) S q1165 q1166 q1167 q1168 hyX3_as (HI.cell (ci := 2) hX hM (by decide) (by omega)) hlX3_as rfl dX1_restore_62) q1168 q108 (Nat.le_of_ble_eq_true rfl) (Nat.le_of_ble_eq_true rfl) hl.1 (Nat.le_of_ble_eq_true rfl) rfl (fun H locs cs ss hM => ?_)
      refine lv_pop hx hb dX1_restore_65 rfl ?_
      refine lv_aload_n hx hb dX1_restore_66 rfl (lv_at hl 0 rfl) ?_
      refine lv_iconst (v := 0) hx hb dX1_restore_67 rfl ?_
      obtain ⟨σ20, eσ20, hF⟩ := obn hF
      refine cpi S hX hM eσ20 ck_1_1_7 cw_1_1_7 rfl rfl q331 (fun _ h => h) dX1_restore_68 (fun H locs hM => ?_)
      refine lv_iconst (v := 1) hx hb dX1_restore_71 rfl ?_
      have hz := (Option.some.inj hF)
      subst hz
      exact crz S hM hr hlocks (gBn gB1) dX1_restore_72
def fX1_count (F : Nat) (h0 : HS) (x0 : Nat) (x1 : Int32) : Option (Int32) := (if x1 = 0 then ((fR h0 x0 1 1 3).bind fun a1 => ((oI h0 a1 2 2 0).bind fun v2 => some v2)) else (if x1 = 1 then ((fR h0 x0 1 1 3).bind fun a4 => ((oI h0 a4 2 2 1).bind fun v5 => some v5)) else (if x1 = 2 then ((fR h0 x0 1 1 3).bind fun a7 => ((fR h0 a7 2 2 5).bind fun a8 => gT h0 a8 15 15 (((fJ2_size F h0 a8).bind fun r9 => some r9)))) else (if x1 = 3 then ((fR h0 x0 1 1 3).bind fun a11 => ((fR h0 a11 2 2 6).bind fun a12 => gT h0 a12 15 15 (((fJ2_size F h0 a12).bind fun r13 => some r13)))) else (if x1 = 4 then ((fR h0 x0 1 1 3).bind fun a15 => ((oI h0 a15 2 2 4).bind fun v16 => some v16)) else (if x1 = 5 then ((fR h0 x0 1 1 3).bind fun a18 => ((fR h0 a18 2 2 7).bind fun a19 => gT h0 a19 15 15 (((fJ2_size F h0 a19).bind fun r20 => some r20)))) else (if x1 = 6 then ((fR h0 x0 1 1 3).bind fun a22 => ((oI h0 a22 2 2 2).bind fun v23 => some v23)) else (if x1 = 7 then ((fR h0 x0 1 1 4).bind fun a25 => ((oI h0 a25 3 3 1).bind fun v26 => some v26)) else (if x1 = 8 then ((oI h0 x0 1 1 1).bind fun v28 => some v28) else (some (-1)))))))))))
theorem hyX1_count : yX1_count.cls ≠ "java/lang/invoke/MethodHandle" ∧ yX1_count.cls ≠ "java/lang/invoke/VarHandle" := by decide +kernel
theorem hlX1_count : (parseMethodDescriptor yX1_count.desc).map (fun d => d.parameters.length) = some 1 := by decide +kernel
set_option maxHeartbeats 4000000 in
set_option maxRecDepth 100000 in
theorem metX1_count (l : Launch) [NoTr l] (F : Nat) (D : va_G) (h0 : HS) (x0 : Nat) (x1 : Int32) (r : Int32) (hF : fX1_count F h0 x0 x1 = some r) : CMet l yX1_count (ws_ yX1_count cX1_count 2 (some .int)) 1 20 D [.ref x0, .int x1] h0 h0 (.inr (some (.int r))) := by
  refine CMet.ofW (by decide) ?_
  intro p e s m below meth c s₁ B S hX hM hr hlocks hnt hin
  obtain ⟨hx, hb, hml, hown, hts⟩ := id S
  have hl := lv_entry ([.ref x0, .int x1]) (n := 2) (Nat.le_of_ble_eq_true rfl)
  rw [lg_entry_eq]
  generalize (lg_sl ([.ref x0, .int x1]) ++ List.replicate (2 - (lg_sl ([.ref x0, .int x1])).length) Slot.unset).toArray = ls at hl ⊢
  have hl : lv_has ls 2 [(0, .ref x0), (1, .int x1)] := hl
  unfold fX1_count at hF
  refine lv_iload_n hx hb dX1_count_0 rfl (lv_at hl 1 rfl) ?_
  by_cases c3 : x1 = 0
  · have hF := ifp hF c3
    refine lv_tableIn (off := 51) (tgt := 52) hx hb dX1_count_1 (by rw [c3]; decide) (by rw [c3]; decide) (by rw [c3]; rfl) (by decide) ?_
    refine lv_aload_n hx hb dX1_count_52 rfl (lv_at hl 0 rfl) ?_
    obtain ⟨a1, ea1, hF⟩ := obn hF
    refine cgn S hX hM ea1 ck_1_1_3 q327 (fun _ h => h) dX1_count_53 ?_
    obtain ⟨v2, ev2, hF⟩ := obn hF
    refine cgiN S hX hM ev2 ck_2_2_0 (uq186 hX) dX1_count_56 ?_
    have hz := (Option.some.inj hF)
    subst hz
    exact cri S hM hr hlocks dX1_count_59
  · have hF := ifn hF c3
    by_cases c6 : x1 = 1
    · have hF := ifp hF c6
      refine lv_tableIn (off := 59) (tgt := 60) hx hb dX1_count_1 (by rw [c6]; decide) (by rw [c6]; decide) (by rw [c6]; rfl) (by decide) ?_
      refine lv_aload_n hx hb dX1_count_60 rfl (lv_at hl 0 rfl) ?_
      obtain ⟨a4, ea4, hF⟩ := obn hF
      refine cgn S hX hM ea4 ck_1_1_3 q327 (fun _ h => h) dX1_count_61 ?_
      obtain ⟨v5, ev5, hF⟩ := obn hF
      refine cgiN S hX hM ev5 ck_2_2_1 (uq190 hX) dX1_count_64 ?_
      have hz := (Option.some.inj hF)
      subst hz
      exact cri S hM hr hlocks dX1_count_67
    · have hF := ifn hF c6
      by_cases c10 : x1 = 2
      · have hF := ifp hF c10
        refine lv_tableIn (off := 67) (tgt := 68) hx hb dX1_count_1 (by rw [c10]; decide) (by rw [c10]; decide) (by rw [c10]; rfl) (by decide) ?_
        refine lv_aload_n hx hb dX1_count_68 rfl (lv_at hl 0 rfl) ?_
        obtain ⟨a7, ea7, hF⟩ := obn hF
        refine cgn S hX hM ea7 ck_1_1_3 q327 (fun _ h => h) dX1_count_69 ?_
        obtain ⟨a8, ea8, hF⟩ := obn hF
        refine cgnN S hX hM ea8 ck_2_2_5 (uq204 hX) dX1_count_72 ?_
        obtain ⟨z9, hF⟩ := gTe hF
        obtain ⟨r9, er9, hF⟩ := obn hF
        refine ccr (rest := []) (st1 := [.int r9]) S hX hM (metJ2_size l F D h0 a8 r9 er9) (ci_V (C := "java/util/ArrayList") (As := []) (rest := []) S q1149 q830 q831 q832 hyJ2_size (HI.cell (ci := 14) hX hM (by decide) (by omega)) hlJ2_size rfl dX1_count_75) q832 q107 (Nat.le_of_ble_eq_true rfl) (Nat.le_of_ble_eq_true rfl) hl.1 (Nat.le_of_ble_eq_true rfl) rfl (fun H locs cs ss hM => ?_)
        have hz := (Option.some.inj hF)
        subst hz
        exact cri S hM hr hlocks dX1_count_78
      · have hF := ifn hF c10
        by_cases c14 : x1 = 3
        · have hF := ifp hF c14
          refine lv_tableIn (off := 78) (tgt := 79) hx hb dX1_count_1 (by rw [c14]; decide) (by rw [c14]; decide) (by rw [c14]; rfl) (by decide) ?_
          refine lv_aload_n hx hb dX1_count_79 rfl (lv_at hl 0 rfl) ?_
          obtain ⟨a11, ea11, hF⟩ := obn hF
          refine cgn S hX hM ea11 ck_1_1_3 q327 (fun _ h => h) dX1_count_80 ?_
          obtain ⟨a12, ea12, hF⟩ := obn hF
          refine cgnN S hX hM ea12 ck_2_2_6 (uq210 hX) dX1_count_83 ?_
          obtain ⟨z13, hF⟩ := gTe hF
          obtain ⟨r13, er13, hF⟩ := obn hF
          refine ccr (rest := []) (st1 := [.int r13]) S hX hM (metJ2_size l F D h0 a12 r13 er13) (ci_V (C := "java/util/ArrayList") (As := []) (rest := []) S q1149 q830 q831 q832 hyJ2_size (HI.cell (ci := 14) hX hM (by decide) (by omega)) hlJ2_size rfl dX1_count_86) q832 q107 (Nat.le_of_ble_eq_true rfl) (Nat.le_of_ble_eq_true rfl) hl.1 (Nat.le_of_ble_eq_true rfl) rfl (fun H locs cs ss hM => ?_)
          have hz := (Option.some.inj hF)
          subst hz
          exact cri S hM hr hlocks dX1_count_89
        · have hF := ifn hF c14
          by_cases c17 : x1 = 4
          · have hF := ifp hF c17
            refine lv_tableIn (off := 89) (tgt := 90) hx hb dX1_count_1 (by rw [c17]; decide) (by rw [c17]; decide) (by rw [c17]; rfl) (by decide) ?_
            refine lv_aload_n hx hb dX1_count_90 rfl (lv_at hl 0 rfl) ?_
            obtain ⟨a15, ea15, hF⟩ := obn hF
            refine cgn S hX hM ea15 ck_1_1_3 q327 (fun _ h => h) dX1_count_91 ?_
            obtain ⟨v16, ev16, hF⟩ := obn hF
            refine cgiN S hX hM ev16 ck_2_2_4 (uq198 hX) dX1_count_94 ?_
            have hz := (Option.some.inj hF)
            subst hz
            exact cri S hM hr hlocks dX1_count_97
          · have hF := ifn hF c17
            by_cases c21 : x1 = 5
            · have hF := ifp hF c21
              refine lv_tableIn (off := 97) (tgt := 98) hx hb dX1_count_1 (by rw [c21]; decide) (by rw [c21]; decide) (by rw [c21]; rfl) (by decide) ?_
              refine lv_aload_n hx hb dX1_count_98 rfl (lv_at hl 0 rfl) ?_
              obtain ⟨a18, ea18, hF⟩ := obn hF
              refine cgn S hX hM ea18 ck_1_1_3 q327 (fun _ h => h) dX1_count_99 ?_
              obtain ⟨a19, ea19, hF⟩ := obn hF
              refine cgnN S hX hM ea19 ck_2_2_7 (uq213 hX) dX1_count_102 ?_
              obtain ⟨z20, hF⟩ := gTe hF
              obtain ⟨r20, er20, hF⟩ := obn hF
              refine ccr (rest := []) (st1 := [.int r20]) S hX hM (metJ2_size l F D h0 a19 r20 er20) (ci_V (C := "java/util/ArrayList") (As := []) (rest := []) S q1149 q830 q831 q832 hyJ2_size (HI.cell (ci := 14) hX hM (by decide) (by omega)) hlJ2_size rfl dX1_count_105) q832 q107 (Nat.le_of_ble_eq_true rfl) (Nat.le_of_ble_eq_true rfl) hl.1 (Nat.le_of_ble_eq_true rfl) rfl (fun H locs cs ss hM => ?_)
              have hz := (Option.some.inj hF)
              subst hz
              exact cri S hM hr hlocks dX1_count_108
            · have hF := ifn hF c21
              by_cases c24 : x1 = 6
              · have hF := ifp hF c24
                refine lv_tableIn (off := 108) (tgt := 109) hx hb dX1_count_1 (by rw [c24]; decide) (by rw [c24]; decide) (by rw [c24]; rfl) (by decide) ?_
                refine lv_aload_n hx hb dX1_count_109 rfl (lv_at hl 0 rfl) ?_
                obtain ⟨a22, ea22, hF⟩ := obn hF
                refine cgn S hX hM ea22 ck_1_1_3 q327 (fun _ h => h) dX1_count_110 ?_
                obtain ⟨v23, ev23, hF⟩ := obn hF
                refine cgiN S hX hM ev23 ck_2_2_2 (uq194 hX) dX1_count_113 ?_
                have hz := (Option.some.inj hF)
                subst hz
                exact cri S hM hr hlocks dX1_count_116
              · have hF := ifn hF c24
                by_cases c27 : x1 = 7
                · have hF := ifp hF c27
                  refine lv_tableIn (off := 116) (tgt := 117) hx hb dX1_count_1 (by rw [c27]; decide) (by rw [c27]; decide) (by rw [c27]; rfl) (by decide) ?_
                  refine lv_aload_n hx hb dX1_count_117 rfl (lv_at hl 0 rfl) ?_
                  obtain ⟨a25, ea25, hF⟩ := obn hF
                  refine cgn S hX hM ea25 ck_1_1_4 q328 (fun _ h => h) dX1_count_118 ?_
                  obtain ⟨v26, ev26, hF⟩ := obn hF
                  refine cgiN S hX hM ev26 ck_3_3_1 (uq256 hX) dX1_count_121 ?_
                  have hz := (Option.some.inj hF)
                  subst hz
                  exact cri S hM hr hlocks dX1_count_124
                · have hF := ifn hF c27
                  by_cases c29 : x1 = 8
                  · have hF := ifp hF c29
                    refine lv_tableIn (off := 124) (tgt := 125) hx hb dX1_count_1 (by rw [c29]; decide) (by rw [c29]; decide) (by rw [c29]; rfl) (by decide) ?_
                    refine lv_aload_n hx hb dX1_count_125 rfl (lv_at hl 0 rfl) ?_
                    obtain ⟨v28, ev28, hF⟩ := obn hF
                    refine cgi S hX hM ev28 ck_1_1_1 q325 (fun _ h => h) dX1_count_126 ?_
                    have hz := (Option.some.inj hF)
                    subst hz
                    exact cri S hM hr hlocks dX1_count_129
                  · have hF := ifn hF c29
                    refine lv_tableOut (tgt := 130) hx hb dX1_count_1 (by first | omega | (have := lv_neT (a := 0) c3 rfl; have := lv_neT (a := 1) c6 rfl; have := lv_neT (a := 2) c10 rfl; have := lv_neT (a := 3) c14 rfl; have := lv_neT (a := 4) c17 rfl; have := lv_neT (a := 5) c21 rfl; have := lv_neT (a := 6) c24 rfl; have := lv_neT (a := 7) c27 rfl; have := lv_neT (a := 8) c29 rfl; omega)) (by decide) ?_
                    refine lv_iconst (v := (-1)) hx hb dX1_count_130 rfl ?_
                    have hz := (Option.some.inj hF)
                    subst hz
                    exact cri S hM hr hlocks dX1_count_131
def fX1_need (F : Nat) (h0 : HS) (x0 : Int32) : Option ((Nat ⊕ Unit) × HS) := (if x0 = 0 then ((nO h0 21 6).bind fun r2 => ((fJ18_init F r2.2 r2.1).bind fun r3 => some (.inl r2.1, r3))) else (some (.inr (), h0)))
theorem hyX1_need : yX1_need.cls ≠ "java/lang/invoke/MethodHandle" ∧ yX1_need.cls ≠ "java/lang/invoke/VarHandle" := by decide +kernel
theorem hlX1_need : (parseMethodDescriptor yX1_need.desc).map (fun d => d.parameters.length) = some 1 := by decide +kernel
set_option maxHeartbeats 4000000 in
set_option maxRecDepth 100000 in
theorem metX1_need (l : Launch) [NoTr l] (F : Nat) (D : va_G) (h0 : HS) (x0 : Int32) (r : (Nat ⊕ Unit) × HS) (hF : fX1_need F h0 x0 = some r) : CMet l yX1_need (ws_ yX1_need cX1_need 1 none) 9 220 D [.int x0] h0 r.2 (xv r.1) := by
  refine CMet.ofW (by decide) ?_
  intro p e s m below meth c s₁ B S hX hM hr hlocks hnt hin
  obtain ⟨hx, hb, hml, hown, hts⟩ := id S
  have hl := lv_entry ([.int x0]) (n := 1) (Nat.le_of_ble_eq_true rfl)
  rw [lg_entry_eq]
  generalize (lg_sl ([.int x0]) ++ List.replicate (1 - (lg_sl ([.int x0])).length) Slot.unset).toArray = ls at hl ⊢
  have hl : lv_has ls 1 [(0, .int x0)] := hl
  unfold fX1_need at hF
  refine lv_iload_n hx hb dX1_need_0 rfl (lv_at hl 0 rfl) ?_
  refine lv_if_ne (tgt := 12) hx hb dX1_need_1 (by decide) (fun c1 => ?_) (fun c1 => ?_)
  · have hF := ifn hF c1
    have hz := (Option.some.inj hF)
    subst hz
    exact crv S hM hr hlocks dX1_need_12
  · have hF := ifp hF c1
    obtain ⟨r2, er2, hF⟩ := obn hF
    refine cno (ci := 20) S hX hM er2 (by decide) q1695 q1696 q134 dX1_need_4 (fun H cs ss hM => ?_)
    refine lv_dup hx hb dX1_need_7 rfl ?_
    obtain ⟨r3, er3, hF⟩ := obn hF
    refine ccr (rest := [.ref r2.1]) (st1 := [.ref r2.1]) S hX hM (metJ18_init l F D r2.2 r2.1 r3 er3) (ci_I (As := []) (rest := [.ref r2.1]) S rfl q1706 q1707 q1708 hyJ18_init hlJ18_init rfl dX1_need_8) q1708 q134 (Nat.le_of_ble_eq_true rfl) (Nat.le_of_ble_eq_true rfl) hl.1 (Nat.le_of_ble_eq_true rfl) rfl (fun H locs cs ss hM => ?_)
    refine cathrow S dX1_need_11 ?_
    have hz := (Option.some.inj hF)
    subst hz
    exact cxout hM (fun x hx => (hnt x hx).elim) hlocks
def lX3_treadsOn_15 (F : Nat) (σ : HS) : Nat → Nat → Int32 → Int32 → Int32 → Int32 → Int32 → Option (Int32)
  | 0, _, _, _, _, _, _ => none
  | n + 1, y0, y1, y2, y3, y4, y5 => (if 9 ≤ y5 then (some y3) else (lt_ (if y2 = (-1) then true else (if y2 = y4 then true else false)) fun q3 => (if q3 = true then ((fR σ y0 3 3 2).bind fun a6 => ((fA σ a6 35 y1).bind fun a7 => ((fA σ a7 34 y4).bind fun a8 => ((aI σ a8 31 y5).bind fun v9 => lX3_treadsOn_15 F σ n y0 y1 y2 (y3 + v9) y4 (y5 + 1))))) else (some y3))))
def lX3_treadsOn_5 (F : Nat) (σ : HS) : Nat → Nat → Int32 → Int32 → Int32 → Int32 → Option (Int32)
  | 0, _, _, _, _, _ => none
  | n + 1, y0, y1, y2, y3, y4 => (if 6 ≤ y4 then (some y3) else ((lX3_treadsOn_15 F σ F y0 y1 y2 y3 y4 0).bind fun q10 => lX3_treadsOn_5 F σ n y0 y1 y2 q10 (y4 + 1)))
def fX3_treadsOn (F : Nat) (h0 : HS) (x0 : Nat) (x1 : Int32) (x2 : Int32) : Option (Int32) := ((lX3_treadsOn_5 F h0 F x0 x1 x2 0 0).bind fun q11 => some q11)
theorem hyX3_treadsOn : yX3_treadsOn.cls ≠ "java/lang/invoke/MethodHandle" ∧ yX3_treadsOn.cls ≠ "java/lang/invoke/VarHandle" := by decide +kernel
theorem hlX3_treadsOn : (parseMethodDescriptor yX3_treadsOn.desc).map (fun d => d.parameters.length) = some 2 := by decide +kernel
set_option maxHeartbeats 4000000 in
set_option maxRecDepth 100000 in
theorem wlX3_treadsOn_15 {p : Program} {l : Launch} [NoTr l] {e : Env} {s : State} {m : MethodId} {args : Array Value} {below : List Frame} {meth : Method} {c : Code} {D : va_G} {h0 : HS} (S : CallFix p m c cX3_treadsOn 6 s args lw_all RX3) (hX : CX D (kG h0) s) (σ : HS) (F : Nat) {Q : State → Prop} : ∀ (n : Nat) (y0 : Nat) (y1 : Int32) (y2 : Int32) (y3 : Int32) (y4 : Int32) (y5 : Int32) (out : Int32), lX3_treadsOn_15 F σ n y0 y1 y2 y3 y4 y5 = some out → (∀ (H : Heap) (locs : List Loc) (cs ss : Nat) (ls : Array Slot), HI D h0 σ s.heap H locs cs ss → lv_has ls 6 [(0, .ref y0), (1, .int y1), (2, .int y2), (3, .int out), (4, .int y4)] → W p l e (cR 0 0 h0) s m args below meth c H locs cs ss Q (F0 m 54 ls [])) → ∀ (H : Heap) (locs : List Loc) (cs ss : Nat) (ls : Array Slot), HI D h0 σ s.heap H locs cs ss → lv_has ls 6 [(0, .ref y0), (1, .int y1), (2, .int y2), (3, .int y3), (4, .int y4), (5, .int y5)] → W p l e (cR 0 0 h0) s m args below meth c H locs cs ss Q (F0 m 15 ls []) := by
  intro n
  induction n with
  | zero =>
    intro y0 y1 y2 y3 y4 y5 out hF
    cases (show (none : Option _) = some out from hF)
  | succ n ih =>
    intro y0 y1 y2 y3 y4 y5 out hF hk H locs cs ss ls hM hl
    rw [lX3_treadsOn_15] at hF
    obtain ⟨hx, hb, hml, hown, hts⟩ := id S
    refine lv_iload hx hb dX3_treadsOn_15 (lv_at hl 5 rfl) ?_
    refine lv_bipush (v := 9) hx hb dX3_treadsOn_17 rfl ?_
    refine lv_icmp_ge (tgt := 54) hx hb dX3_treadsOn_19 (by decide) (fun c2 => ?_) (fun c2 => ?_)
    · have hF := ifp hF c2
      cases hF
      exact hk _ _ _ _ _ hM (lv_sub hl [0, 1, 2, 3, 4] rfl)
    · have hF := ifn hF c2
      refine lv_iload_n hx hb dX3_treadsOn_22 rfl (lv_at hl 2 rfl) ?_
      refine lv_iconst (v := (-1)) hx hb dX3_treadsOn_23 rfl ?_
      obtain ⟨q3, hq3, hF⟩ := lte hF
      refine cjnc (C := q3 = true) (I := HI D h0 σ s.heap) (nJ := 6) (lvJ := [(0, .ref y0), (1, .int y1), (2, .int y2), (3, .int y3), (4, .int y4), (5, .int y5)]) (J := 33) (stJ := []) ?_ ?_
      · intro cq3 H locs cs ss ls hM hl
        have hF := ifp hF cq3
        refine lv_iload_n hx hb dX3_treadsOn_33 rfl (lv_at hl 3 rfl) ?_
        refine lv_aload_n hx hb dX3_treadsOn_34 rfl (lv_at hl 0 rfl) ?_
        obtain ⟨a6, ea6, hF⟩ := obn hF
        refine cgn S hX hM ea6 ck_3_3_2 q257 (fun _ h => h) dX3_treadsOn_35 ?_
        refine lv_iload_n hx hb dX3_treadsOn_38 rfl (lv_at hl 1 rfl) ?_
        obtain ⟨a7, ea7, hF⟩ := obn hF
        refine can35 S hX hM ea7 dX3_treadsOn_39 ?_
        refine lv_iload hx hb dX3_treadsOn_40 (lv_at hl 4 rfl) ?_
        obtain ⟨a8, ea8, hF⟩ := obn hF
        refine can34 S hX hM ea8 dX3_treadsOn_42 ?_
        refine lv_iload hx hb dX3_treadsOn_43 (lv_at hl 5 rfl) ?_
        obtain ⟨v9, ev9, hF⟩ := obn hF
        refine cai S hX hM ev9 dX3_treadsOn_45 ?_
        refine lv_iadd hx hb dX3_treadsOn_46 ?_
        refine lv_istore_n (lv' := [(3, .int (y3 + v9)), (0, .ref y0), (1, .int y1), (2, .int y2), (4, .int y4), (5, .int y5)]) hx hb dX3_treadsOn_47 rfl hl (by decide) rfl (fun ls hl => ?_)
        refine lv_iinc (v := y5 + 1) (lv' := [(5, .int (y5 + 1)), (3, .int (y3 + v9)), (0, .ref y0), (1, .int y1), (2, .int y2), (4, .int y4)]) hx hb dX3_treadsOn_48 hl (k := 5) rfl rfl (by decide) rfl (fun ls hl => ?_)
        refine lv_goto (tgt := 15) hx hb dX3_treadsOn_51 (by decide) ?_
        exact ih _ _ _ _ _ _ out hF hk _ _ _ _ _ hM (lv_sub hl [2, 3, 4, 1, 5, 0] rfl)
      · intro hAq3
        refine cjnc (C := q3 = false) (I := HI D h0 σ s.heap) (nJ := 6) (lvJ := [(0, .ref y0), (1, .int y1), (2, .int y2), (3, .int y3), (4, .int y4)]) (J := 54) (stJ := []) ?_ ?_
        · intro cq3 H locs cs ss ls hM hl
          have hF := ifn hF (by rw [cq3]; decide)
          cases hF
          exact hk _ _ _ _ _ hM (lv_sub hl [0, 1, 2, 3, 4] rfl)
        · intro hBq3
          refine lv_icmp_eq (tgt := 33) hx hb dX3_treadsOn_24 (by decide) (fun c4 => ?_) (fun c4 => ?_)
          · have hq3 := ifp hq3 c4
            subst hq3
            exact hAq3 rfl _ _ _ _ _ hM (lv_sub hl [0, 1, 2, 3, 4, 5] rfl)
          · have hq3 := ifn hq3 c4
            refine lv_iload_n hx hb dX3_treadsOn_27 rfl (lv_at hl 2 rfl) ?_
            refine lv_iload hx hb dX3_treadsOn_28 (lv_at hl 4 rfl) ?_
            refine lv_icmp_ne (tgt := 54) hx hb dX3_treadsOn_30 (by decide) (fun c5 => ?_) (fun c5 => ?_)
            · have hq3 := ifn hq3 c5
              subst hq3
              exact hBq3 rfl _ _ _ _ _ hM (lv_sub hl [0, 1, 2, 3, 4] rfl)
            · have hq3 := ifp hq3 c5
              subst hq3
              exact hAq3 rfl _ _ _ _ _ hM (lv_sub hl [0, 1, 2, 3, 4, 5] rfl)
set_option maxHeartbeats 4000000 in
set_option maxRecDepth 100000 in
theorem wlX3_treadsOn_5 {p : Program} {l : Launch} [NoTr l] {e : Env} {s : State} {m : MethodId} {args : Array Value} {below : List Frame} {meth : Method} {c : Code} {D : va_G} {h0 : HS} (S : CallFix p m c cX3_treadsOn 6 s args lw_all RX3) (hX : CX D (kG h0) s) (σ : HS) (F : Nat) {Q : State → Prop} : ∀ (n : Nat) (y0 : Nat) (y1 : Int32) (y2 : Int32) (y3 : Int32) (y4 : Int32) (out : Int32), lX3_treadsOn_5 F σ n y0 y1 y2 y3 y4 = some out → (∀ (H : Heap) (locs : List Loc) (cs ss : Nat) (ls : Array Slot), HI D h0 σ s.heap H locs cs ss → lv_has ls 6 [(3, .int out)] → W p l e (cR 0 0 h0) s m args below meth c H locs cs ss Q (F0 m 60 ls [])) → ∀ (H : Heap) (locs : List Loc) (cs ss : Nat) (ls : Array Slot), HI D h0 σ s.heap H locs cs ss → lv_has ls 6 [(0, .ref y0), (1, .int y1), (2, .int y2), (3, .int y3), (4, .int y4)] → W p l e (cR 0 0 h0) s m args below meth c H locs cs ss Q (F0 m 5 ls []) := by
  intro n
  induction n with
  | zero =>
    intro y0 y1 y2 y3 y4 out hF
    cases (show (none : Option _) = some out from hF)
  | succ n ih =>
    intro y0 y1 y2 y3 y4 out hF hk H locs cs ss ls hM hl
    rw [lX3_treadsOn_5] at hF
    obtain ⟨hx, hb, hml, hown, hts⟩ := id S
    refine lv_iload hx hb dX3_treadsOn_5 (lv_at hl 4 rfl) ?_
    refine lv_bipush (v := 6) hx hb dX3_treadsOn_7 rfl ?_
    refine lv_icmp_ge (tgt := 60) hx hb dX3_treadsOn_9 (by decide) (fun c1 => ?_) (fun c1 => ?_)
    · have hF := ifp hF c1
      cases hF
      exact hk _ _ _ _ _ hM (lv_sub hl [3] rfl)
    · have hF := ifn hF c1
      refine lv_iconst (v := 0) hx hb dX3_treadsOn_12 rfl ?_
      refine lv_istore (lv' := [(5, .int 0), (0, .ref y0), (1, .int y1), (2, .int y2), (3, .int y3), (4, .int y4)]) hx hb dX3_treadsOn_13 hl (by decide) rfl (fun ls hl => ?_)
      obtain ⟨q10, hq10, hF⟩ := obn hF
      refine wlX3_treadsOn_15 S hX _ F  F _ _ _ _ _ _ q10 hq10 (fun H locs cs ss ls hM hl => ?_) _ _ _ _ _ hM (lv_sub hl [1, 2, 3, 4, 5, 0] rfl)
      refine lv_iinc (v := y4 + 1) (lv' := [(4, .int (y4 + 1)), (0, .ref y0), (1, .int y1), (2, .int y2), (3, .int q10)]) hx hb dX3_treadsOn_54 hl (k := 4) rfl rfl (by decide) rfl (fun ls hl => ?_)
      refine lv_goto (tgt := 5) hx hb dX3_treadsOn_57 (by decide) ?_
      exact ih _ _ _ _ _ out hF hk _ _ _ _ _ hM (lv_sub hl [1, 2, 3, 4, 0] rfl)
set_option maxHeartbeats 4000000 in
set_option maxRecDepth 100000 in
theorem metX3_treadsOn (l : Launch) [NoTr l] (F : Nat) (D : va_G) (h0 : HS) (x0 : Nat) (x1 : Int32) (x2 : Int32) (r : Int32) (hF : fX3_treadsOn F h0 x0 x1 x2 = some r) : CMet l yX3_treadsOn (ws_ yX3_treadsOn cX3_treadsOn 6 (some .int)) 0 0 D [.ref x0, .int x1, .int x2] h0 h0 (.inr (some (.int r))) := by
  refine CMet.ofW (by decide) ?_
  intro p e s m below meth c s₁ B S hX hM hr hlocks hnt hin
  obtain ⟨hx, hb, hml, hown, hts⟩ := id S
  have hl := lv_entry ([.ref x0, .int x1, .int x2]) (n := 6) (Nat.le_of_ble_eq_true rfl)
  rw [lg_entry_eq]
  generalize (lg_sl ([.ref x0, .int x1, .int x2]) ++ List.replicate (6 - (lg_sl ([.ref x0, .int x1, .int x2])).length) Slot.unset).toArray = ls at hl ⊢
  have hl : lv_has ls 6 [(0, .ref x0), (1, .int x1), (2, .int x2)] := hl
  unfold fX3_treadsOn at hF
  refine lv_iconst (v := 0) hx hb dX3_treadsOn_0 rfl ?_
  refine lv_istore_n (lv' := [(3, .int 0), (0, .ref x0), (1, .int x1), (2, .int x2)]) hx hb dX3_treadsOn_1 rfl hl (by decide) rfl (fun ls hl => ?_)
  refine lv_iconst (v := 0) hx hb dX3_treadsOn_2 rfl ?_
  refine lv_istore (lv' := [(4, .int 0), (3, .int 0), (0, .ref x0), (1, .int x1), (2, .int x2)]) hx hb dX3_treadsOn_3 hl (by decide) rfl (fun ls hl => ?_)
  obtain ⟨q11, hq11, hF⟩ := obn hF
  refine wlX3_treadsOn_5 S hX _ F  F _ _ _ _ _ q11 hq11 (fun H locs cs ss ls hM hl => ?_) _ _ _ _ _ hM (lv_sub hl [2, 3, 4, 1, 0] rfl)
  refine lv_iload_n hx hb dX3_treadsOn_60 rfl (lv_at hl 0 rfl) ?_
  have hz := (Option.some.inj hF)
  subst hz
  exact cri S hM hr hlocks dX3_treadsOn_61
def lX3_treadsOf_4 (F : Nat) (σ : HS) : Nat → Nat → Int32 → Int32 → Int32 → Option (Int32)
  | 0, _, _, _, _ => none
  | n + 1, y0, y1, y2, y3 => (if 144 ≤ y3 then (some y2) else (gT σ y0 3 3 (((fX3_treadsOn F σ y0 y3 y1).bind fun r2 => lX3_treadsOf_4 F σ n y0 y1 (y2 + r2) (y3 + 1)))))
def fX3_treadsOf (F : Nat) (h0 : HS) (x0 : Nat) (x1 : Int32) : Option (Int32) := ((lX3_treadsOf_4 F h0 F x0 x1 0 0).bind fun q3 => some q3)
theorem hyX3_treadsOf : yX3_treadsOf.cls ≠ "java/lang/invoke/MethodHandle" ∧ yX3_treadsOf.cls ≠ "java/lang/invoke/VarHandle" := by decide +kernel
theorem hlX3_treadsOf : (parseMethodDescriptor yX3_treadsOf.desc).map (fun d => d.parameters.length) = some 1 := by decide +kernel
set_option maxHeartbeats 4000000 in
set_option maxRecDepth 100000 in
theorem wlX3_treadsOf_4 {p : Program} {l : Launch} [NoTr l] {e : Env} {s : State} {m : MethodId} {args : Array Value} {below : List Frame} {meth : Method} {c : Code} {D : va_G} {h0 : HS} (S : CallFix p m c cX3_treadsOf 4 s args lw_all RX3) (hX : CX D (kG h0) s) (σ : HS) (F : Nat) {Q : State → Prop} : ∀ (n : Nat) (y0 : Nat) (y1 : Int32) (y2 : Int32) (y3 : Int32) (out : Int32), lX3_treadsOf_4 F σ n y0 y1 y2 y3 = some out → (∀ (H : Heap) (locs : List Loc) (cs ss : Nat) (ls : Array Slot), HI D h0 σ s.heap H locs cs ss → lv_has ls 4 [(2, .int out)] → W p l e (cR 1 25 h0) s m args below meth c H locs cs ss Q (F0 m 26 ls [])) → ∀ (H : Heap) (locs : List Loc) (cs ss : Nat) (ls : Array Slot), HI D h0 σ s.heap H locs cs ss → lv_has ls 4 [(0, .ref y0), (1, .int y1), (2, .int y2), (3, .int y3)] → W p l e (cR 1 25 h0) s m args below meth c H locs cs ss Q (F0 m 4 ls []) := by
  intro n
  induction n with
  | zero =>
    intro y0 y1 y2 y3 out hF
    cases (show (none : Option _) = some out from hF)
  | succ n ih =>
    intro y0 y1 y2 y3 out hF hk H locs cs ss ls hM hl
    rw [lX3_treadsOf_4] at hF
    obtain ⟨hx, hb, hml, hown, hts⟩ := id S
    refine lv_iload_n hx hb dX3_treadsOf_4 rfl (lv_at hl 3 rfl) ?_
    refine lv_sipush (v := 144) hx hb dX3_treadsOf_5 rfl ?_
    refine lv_icmp_ge (tgt := 26) hx hb dX3_treadsOf_8 (by decide) (fun c1 => ?_) (fun c1 => ?_)
    · have hF := ifp hF c1
      cases hF
      exact hk _ _ _ _ _ hM (lv_sub hl [2] rfl)
    · have hF := ifn hF c1
      refine lv_iload_n hx hb dX3_treadsOf_11 rfl (lv_at hl 2 rfl) ?_
      refine lv_aload_n hx hb dX3_treadsOf_12 rfl (lv_at hl 0 rfl) ?_
      refine lv_iload_n hx hb dX3_treadsOf_13 rfl (lv_at hl 3 rfl) ?_
      refine lv_iload_n hx hb dX3_treadsOf_14 rfl (lv_at hl 1 rfl) ?_
      obtain ⟨z2, hF⟩ := gTe hF
      obtain ⟨r2, er2, hF⟩ := obn hF
      refine ccr (rest := [.int y2]) (st1 := [.int r2, .int y2]) S hX hM (metX3_treadsOn l F D σ y0 y3 y1 r2 er2) (ci_V (C := "RugReader$Rug") (As := [.int y3, .int y1]) (rest := [.int y2]) S q1650 q1651 q1652 q1653 hyX3_treadsOn (HI.cell (ci := 2) hX hM (by decide) (by omega)) hlX3_treadsOn rfl dX3_treadsOf_15) q1653 q108 (Nat.le_of_ble_eq_true rfl) (Nat.le_of_ble_eq_true rfl) hl.1 (Nat.le_of_ble_eq_true rfl) rfl (fun H locs cs ss hM => ?_)
      refine lv_iadd hx hb dX3_treadsOf_18 ?_
      refine lv_istore_n (lv' := [(2, .int (y2 + r2)), (0, .ref y0), (1, .int y1), (3, .int y3)]) hx hb dX3_treadsOf_19 rfl hl (by decide) rfl (fun ls hl => ?_)
      refine lv_iinc (v := y3 + 1) (lv' := [(3, .int (y3 + 1)), (2, .int (y2 + r2)), (0, .ref y0), (1, .int y1)]) hx hb dX3_treadsOf_20 hl (k := 3) rfl rfl (by decide) rfl (fun ls hl => ?_)
      refine lv_goto (tgt := 4) hx hb dX3_treadsOf_23 (by decide) ?_
      exact ih _ _ _ _ out hF hk _ _ _ _ _ hM (lv_sub hl [2, 3, 1, 0] rfl)
set_option maxHeartbeats 4000000 in
set_option maxRecDepth 100000 in
theorem metX3_treadsOf (l : Launch) [NoTr l] (F : Nat) (D : va_G) (h0 : HS) (x0 : Nat) (x1 : Int32) (r : Int32) (hF : fX3_treadsOf F h0 x0 x1 = some r) : CMet l yX3_treadsOf (ws_ yX3_treadsOf cX3_treadsOf 4 (some .int)) 1 25 D [.ref x0, .int x1] h0 h0 (.inr (some (.int r))) := by
  refine CMet.ofW (by decide) ?_
  intro p e s m below meth c s₁ B S hX hM hr hlocks hnt hin
  obtain ⟨hx, hb, hml, hown, hts⟩ := id S
  have hl := lv_entry ([.ref x0, .int x1]) (n := 4) (Nat.le_of_ble_eq_true rfl)
  rw [lg_entry_eq]
  generalize (lg_sl ([.ref x0, .int x1]) ++ List.replicate (4 - (lg_sl ([.ref x0, .int x1])).length) Slot.unset).toArray = ls at hl ⊢
  have hl : lv_has ls 4 [(0, .ref x0), (1, .int x1)] := hl
  unfold fX3_treadsOf at hF
  refine lv_iconst (v := 0) hx hb dX3_treadsOf_0 rfl ?_
  refine lv_istore_n (lv' := [(2, .int 0), (0, .ref x0), (1, .int x1)]) hx hb dX3_treadsOf_1 rfl hl (by decide) rfl (fun ls hl => ?_)
  refine lv_iconst (v := 0) hx hb dX3_treadsOf_2 rfl ?_
  refine lv_istore_n (lv' := [(3, .int 0), (2, .int 0), (0, .ref x0), (1, .int x1)]) hx hb dX3_treadsOf_3 rfl hl (by decide) rfl (fun ls hl => ?_)
  obtain ⟨q3, hq3, hF⟩ := obn hF
  refine wlX3_treadsOf_4 S hX _ F  F _ _ _ _ q3 hq3 (fun H locs cs ss ls hM hl => ?_) _ _ _ _ _ hM (lv_sub hl [2, 3, 1, 0] rfl)
  refine lv_iload_n hx hb dX3_treadsOf_26 rfl (lv_at hl 0 rfl) ?_
  have hz := (Option.some.inj hF)
  subst hz
  exact cri S hM hr hlocks dX3_treadsOf_27
def lX3_tuftsOf_4 (F : Nat) (σ : HS) : Nat → Nat → Int32 → Int32 → Int32 → Option (Int32)
  | 0, _, _, _, _ => none
  | n + 1, y0, y1, y2, y3 => (if 144 ≤ y3 then (some y2) else (gT σ y0 3 3 (((fX3_treadsOn F σ y0 y3 y1).bind fun r2 => (if r2 ≤ 0 then (lX3_tuftsOf_4 F σ n y0 y1 y2 (y3 + 1)) else (lX3_tuftsOf_4 F σ n y0 y1 (y2 + 1) (y3 + 1)))))))
def fX3_tuftsOf (F : Nat) (h0 : HS) (x0 : Nat) (x1 : Int32) : Option (Int32) := ((lX3_tuftsOf_4 F h0 F x0 x1 0 0).bind fun q4 => some q4)
theorem hyX3_tuftsOf : yX3_tuftsOf.cls ≠ "java/lang/invoke/MethodHandle" ∧ yX3_tuftsOf.cls ≠ "java/lang/invoke/VarHandle" := by decide +kernel
theorem hlX3_tuftsOf : (parseMethodDescriptor yX3_tuftsOf.desc).map (fun d => d.parameters.length) = some 1 := by decide +kernel
set_option maxHeartbeats 4000000 in
set_option maxRecDepth 100000 in
theorem wlX3_tuftsOf_4 {p : Program} {l : Launch} [NoTr l] {e : Env} {s : State} {m : MethodId} {args : Array Value} {below : List Frame} {meth : Method} {c : Code} {D : va_G} {h0 : HS} (S : CallFix p m c cX3_tuftsOf 4 s args lw_all RX3) (hX : CX D (kG h0) s) (σ : HS) (F : Nat) {Q : State → Prop} : ∀ (n : Nat) (y0 : Nat) (y1 : Int32) (y2 : Int32) (y3 : Int32) (out : Int32), lX3_tuftsOf_4 F σ n y0 y1 y2 y3 = some out → (∀ (H : Heap) (locs : List Loc) (cs ss : Nat) (ls : Array Slot), HI D h0 σ s.heap H locs cs ss → lv_has ls 4 [(2, .int out)] → W p l e (cR 1 25 h0) s m args below meth c H locs cs ss Q (F0 m 29 ls [])) → ∀ (H : Heap) (locs : List Loc) (cs ss : Nat) (ls : Array Slot), HI D h0 σ s.heap H locs cs ss → lv_has ls 4 [(0, .ref y0), (1, .int y1), (2, .int y2), (3, .int y3)] → W p l e (cR 1 25 h0) s m args below meth c H locs cs ss Q (F0 m 4 ls []) := by
  intro n
  induction n with
  | zero =>
    intro y0 y1 y2 y3 out hF
    cases (show (none : Option _) = some out from hF)
  | succ n ih =>
    intro y0 y1 y2 y3 out hF hk H locs cs ss ls hM hl
    rw [lX3_tuftsOf_4] at hF
    obtain ⟨hx, hb, hml, hown, hts⟩ := id S
    refine lv_iload_n hx hb dX3_tuftsOf_4 rfl (lv_at hl 3 rfl) ?_
    refine lv_sipush (v := 144) hx hb dX3_tuftsOf_5 rfl ?_
    refine lv_icmp_ge (tgt := 29) hx hb dX3_tuftsOf_8 (by decide) (fun c1 => ?_) (fun c1 => ?_)
    · have hF := ifp hF c1
      cases hF
      exact hk _ _ _ _ _ hM (lv_sub hl [2] rfl)
    · have hF := ifn hF c1
      refine lv_aload_n hx hb dX3_tuftsOf_11 rfl (lv_at hl 0 rfl) ?_
      refine lv_iload_n hx hb dX3_tuftsOf_12 rfl (lv_at hl 3 rfl) ?_
      refine lv_iload_n hx hb dX3_tuftsOf_13 rfl (lv_at hl 1 rfl) ?_
      obtain ⟨z2, hF⟩ := gTe hF
      obtain ⟨r2, er2, hF⟩ := obn hF
      refine ccr (rest := []) (st1 := [.int r2]) S hX hM (metX3_treadsOn l F D σ y0 y3 y1 r2 er2) (ci_V (C := "RugReader$Rug") (As := [.int y3, .int y1]) (rest := []) S q1650 q1651 q1652 q1653 hyX3_treadsOn (HI.cell (ci := 2) hX hM (by decide) (by omega)) hlX3_treadsOn rfl dX3_tuftsOf_14) q1653 q108 (Nat.le_of_ble_eq_true rfl) (Nat.le_of_ble_eq_true rfl) hl.1 (Nat.le_of_ble_eq_true rfl) rfl (fun H locs cs ss hM => ?_)
      refine lv_if_le (tgt := 23) hx hb dX3_tuftsOf_17 (by decide) (fun c3 => ?_) (fun c3 => ?_)
      · have hF := ifp hF c3
        refine lv_iinc (v := y3 + 1) (lv' := [(3, .int (y3 + 1)), (0, .ref y0), (1, .int y1), (2, .int y2)]) hx hb dX3_tuftsOf_23 hl (k := 3) rfl rfl (by decide) rfl (fun ls hl => ?_)
        refine lv_goto (tgt := 4) hx hb dX3_tuftsOf_26 (by decide) ?_
        exact ih _ _ _ _ out hF hk _ _ _ _ _ hM (lv_sub hl [1, 2, 3, 0] rfl)
      · have hF := ifn hF c3
        refine lv_iinc (v := y2 + 1) (lv' := [(2, .int (y2 + 1)), (0, .ref y0), (1, .int y1), (3, .int y3)]) hx hb dX3_tuftsOf_20 hl (k := 2) rfl rfl (by decide) rfl (fun ls hl => ?_)
        refine lv_iinc (v := y3 + 1) (lv' := [(3, .int (y3 + 1)), (2, .int (y2 + 1)), (0, .ref y0), (1, .int y1)]) hx hb dX3_tuftsOf_23 hl (k := 3) rfl rfl (by decide) rfl (fun ls hl => ?_)
        refine lv_goto (tgt := 4) hx hb dX3_tuftsOf_26 (by decide) ?_
        exact ih _ _ _ _ out hF hk _ _ _ _ _ hM (lv_sub hl [2, 3, 1, 0] rfl)
set_option maxHeartbeats 4000000 in
set_option maxRecDepth 100000 in
theorem metX3_tuftsOf (l : Launch) [NoTr l] (F : Nat) (D : va_G) (h0 : HS) (x0 : Nat) (x1 : Int32) (r : Int32) (hF : fX3_tuftsOf F h0 x0 x1 = some r) : CMet l yX3_tuftsOf (ws_ yX3_tuftsOf cX3_tuftsOf 4 (some .int)) 1 25 D [.ref x0, .int x1] h0 h0 (.inr (some (.int r))) := by
  refine CMet.ofW (by decide) ?_
  intro p e s m below meth c s₁ B S hX hM hr hlocks hnt hin
  obtain ⟨hx, hb, hml, hown, hts⟩ := id S
  have hl := lv_entry ([.ref x0, .int x1]) (n := 4) (Nat.le_of_ble_eq_true rfl)
  rw [lg_entry_eq]
  generalize (lg_sl ([.ref x0, .int x1]) ++ List.replicate (4 - (lg_sl ([.ref x0, .int x1])).length) Slot.unset).toArray = ls at hl ⊢
  have hl : lv_has ls 4 [(0, .ref x0), (1, .int x1)] := hl
  unfold fX3_tuftsOf at hF
  refine lv_iconst (v := 0) hx hb dX3_tuftsOf_0 rfl ?_
  refine lv_istore_n (lv' := [(2, .int 0), (0, .ref x0), (1, .int x1)]) hx hb dX3_tuftsOf_1 rfl hl (by decide) rfl (fun ls hl => ?_)
  refine lv_iconst (v := 0) hx hb dX3_tuftsOf_2 rfl ?_
  refine lv_istore_n (lv' := [(3, .int 0), (2, .int 0), (0, .ref x0), (1, .int x1)]) hx hb dX3_tuftsOf_3 rfl hl (by decide) rfl (fun ls hl => ?_)
  obtain ⟨q4, hq4, hF⟩ := obn hF
  refine wlX3_tuftsOf_4 S hX _ F  F _ _ _ _ q4 hq4 (fun H locs cs ss ls hM hl => ?_) _ _ _ _ _ hM (lv_sub hl [2, 3, 1, 0] rfl)
  refine lv_iload_n hx hb dX3_tuftsOf_29 rfl (lv_at hl 0 rfl) ?_
  have hz := (Option.some.inj hF)
  subst hz
  exact cri S hM hr hlocks dX3_tuftsOf_30
