def fJ5_append_2 (F : Nat) (h0 : HS) (x0 : Nat) (x1 : Nat) : Option (Nat × HS) := gT h0 x0 16 16 (((fJ4_append_2 F h0 x0 x1).bind fun r1 => some (x0, r1.2)))
theorem hyJ5_append_2 : yJ5_append_2.cls ≠ "java/lang/invoke/MethodHandle" ∧ yJ5_append_2.cls ≠ "java/lang/invoke/VarHandle" := by decide +kernel
theorem hlJ5_append_2 : (parseMethodDescriptor yJ5_append_2.desc).map (fun d => d.parameters.length) = some 1 := by decide +kernel
set_option maxHeartbeats 4000000 in
set_option maxRecDepth 100000 in
theorem metJ5_append_2 (l : Launch) [NoTr l] (F : Nat) (D : va_G) (h0 : HS) (x0 : Nat) (x1 : Nat) (r : Nat × HS) (hF : fJ5_append_2 F h0 x0 x1 = some r) : CMet l yJ5_append_2 (ws_ yJ5_append_2 cJ5_append_2 2 (some (.object "java/lang/StringBuilder"))) 7 156 D [.ref x0, .ref x1] h0 r.2 (.inr (some (.ref r.1))) := by
  refine CMet.ofW (by decide) ?_
  intro p e s m below meth c s₁ B S hX hM hr hlocks hnt hin
  obtain ⟨hx, hb, hml, hown, hts⟩ := id S
  have hl := lv_entry ([.ref x0, .ref x1]) (n := 2) (Nat.le_of_ble_eq_true rfl)
  rw [lg_entry_eq]
  generalize (lg_sl ([.ref x0, .ref x1]) ++ List.replicate (2 - (lg_sl ([.ref x0, .ref x1])).length) Slot.unset).toArray = ls at hl ⊢
  have hl : lv_has ls 2 [(0, .ref x0), (1, .ref x1)] := hl
  unfold fJ5_append_2 at hF
  refine lv_aload_n hx hb dJ5_append_2_0 rfl (lv_at hl 0 rfl) ?_
  refine lv_aload_n hx hb dJ5_append_2_1 rfl (lv_at hl 1 rfl) ?_
  obtain ⟨z1, hF⟩ := gTe hF
  obtain ⟨r1, er1, hF⟩ := obn hF
  refine ccr (rest := []) (st1 := [.ref r1.1]) S hX hM (metJ4_append_2 l F D h0 x0 x1 r1 er1) (ci_SU (C := "java/lang/StringBuilder") (As := [.ref x1]) (rest := []) S q849 q2334 q548 q850 q851 (by decide +kernel) (HI.cell (ci := 15) hX hM (by decide) (by omega)) hlJ4_append_2 rfl dJ5_append_2_2) q851 q114 (Nat.le_of_ble_eq_true rfl) (Nat.le_of_ble_eq_true rfl) hl.1 (Nat.le_of_ble_eq_true rfl) rfl (fun H locs cs ss hM => ?_)
  refine lv_pop hx hb dJ5_append_2_5 rfl ?_
  refine lv_aload_n hx hb dJ5_append_2_6 rfl (lv_at hl 0 rfl) ?_
  have hz := (Option.some.inj hF)
  subst hz
  exact cra S hM hr (Or.inl ⟨_, rfl⟩) hlocks dJ5_append_2_7
def fJ6_isLatin1 (F : Nat) (h0 : HS) (x0 : Nat) : Option (Int32) := ((oI h0 x0 17 17 1).bind fun v3 => (if v3 = 0 then (some 1) else (some 0)))
theorem hyJ6_isLatin1 : yJ6_isLatin1.cls ≠ "java/lang/invoke/MethodHandle" ∧ yJ6_isLatin1.cls ≠ "java/lang/invoke/VarHandle" := by decide +kernel
theorem hlJ6_isLatin1 : (parseMethodDescriptor yJ6_isLatin1.desc).map (fun d => d.parameters.length) = some 0 := by decide +kernel
set_option maxHeartbeats 4000000 in
set_option maxRecDepth 100000 in
theorem metJ6_isLatin1 (l : Launch) [NoTr l] (F : Nat) (D : va_G) (h0 : HS) (x0 : Nat) (r : Int32) (hF : fJ6_isLatin1 F h0 x0 = some r) : CMet l yJ6_isLatin1 (ws_ yJ6_isLatin1 cJ6_isLatin1 1 (some .boolean)) 0 0 D [.ref x0] h0 h0 (.inr (some (.int r))) := by
  refine CMet.ofW (by decide) ?_
  intro p e s m below meth c s₁ B S hX hM hr hlocks hnt hin
  obtain ⟨hx, hb, hml, hown, hts⟩ := id S
  have hl := lv_entry ([.ref x0]) (n := 1) (Nat.le_of_ble_eq_true rfl)
  rw [lg_entry_eq]
  generalize (lg_sl ([.ref x0]) ++ List.replicate (1 - (lg_sl ([.ref x0])).length) Slot.unset).toArray = ls at hl ⊢
  have hl : lv_has ls 1 [(0, .ref x0)] := hl
  unfold fJ6_isLatin1 at hF
  refine cst (ref := "") S hM (ust3 hX) q680 dJ6_isLatin1_0 ?_
  refine lv_if_eq (tgt := 17) hx hb dJ6_isLatin1_3 (by decide) (fun c2 => ?_) (fun c2 => ?_)
  · exact absurd c2 (by decide)
  · refine lv_aload_n hx hb dJ6_isLatin1_6 rfl (lv_at hl 0 rfl) ?_
    obtain ⟨v3, ev3, hF⟩ := obn hF
    refine cgi S hX hM ev3 ck_17_17_1 q695 (fun _ h => h) dJ6_isLatin1_7 ?_
    refine lv_if_ne (tgt := 17) hx hb dJ6_isLatin1_10 (by decide) (fun c4 => ?_) (fun c4 => ?_)
    · have hF := ifn hF c4
      refine lv_iconst (v := 0) hx hb dJ6_isLatin1_17 rfl ?_
      have hz := (Option.some.inj hF)
      subst hz
      exact crz S hM hr hlocks (gBn gB0) dJ6_isLatin1_18
    · have hF := ifp hF c4
      refine lv_iconst (v := 1) hx hb dJ6_isLatin1_13 rfl ?_
      refine lv_goto (tgt := 18) hx hb dJ6_isLatin1_14 (by decide) ?_
      have hz := (Option.some.inj hF)
      subst hz
      exact crz S hM hr hlocks (gBn gB1) dJ6_isLatin1_18
def lJ10_indexOf_2_30 (F : Nat) (σ : HS) : Nat → Nat → Nat → Int32 → Int32 → Int32 → Int32 → Option (Int32)
  | 0, _, _, _, _, _, _ => none
  | n + 1, y0, y2, y3, y5, y6, y7 => (if y6 < (y7 + 1) then (some (y7 + 1)) else ((aI σ y0 32 (y7 + 1)).bind fun v7 => (if v7 = y5 then (some (y7 + 1)) else (lJ10_indexOf_2_30 F σ n y0 y2 y3 y5 y6 (y7 + 1)))))
def lJ10_indexOf_2_76 (F : Nat) (σ : HS) : Nat → Nat → Nat → Int32 → Int32 → Int32 → Int32 → Int32 → Int32 → Int32 → Option (Int32)
  | 0, _, _, _, _, _, _, _, _, _ => none
  | n + 1, y0, y2, y3, y5, y6, y7, y8, y9, y10 => (if y9 ≤ y8 then (some y8) else ((aI σ y0 32 y8).bind fun v13 => ((aI σ y2 32 y10).bind fun v14 => (if v13 = v14 then (lJ10_indexOf_2_76 F σ n y0 y2 y3 y5 y6 y7 (y8 + 1) y9 (y10 + 1)) else (some y8)))))
def lJ10_indexOf_2_14 (F : Nat) (σ : HS) : Nat → Nat → Nat → Int32 → Int32 → Int32 → Int32 → Option ((Unit) ⊕ (Int32))
  | 0, _, _, _, _, _, _ => none
  | n + 1, y0, y2, y3, y5, y6, y7 => (if y6 < y7 then (some (.inl ())) else ((aI σ y0 32 y7).bind fun v3 => ((if v3 = y5 then (some y7) else ((lJ10_indexOf_2_30 F σ F y0 y2 y3 y5 y6 y7).bind fun q9 => some q9)).bind fun q4 => (if y6 < q4 then (lJ10_indexOf_2_14 F σ n y0 y2 y3 y5 y6 (q4 + 1)) else (lt_ (((q4 + 1) + y3) - 1) fun u11 => ((lJ10_indexOf_2_76 F σ F y0 y2 y3 y5 y6 q4 (q4 + 1) u11 1).bind fun q16 => (if q16 = u11 then (some (.inr q4)) else (lJ10_indexOf_2_14 F σ n y0 y2 y3 y5 y6 (q4 + 1)))))))))
def fJ10_indexOf_2 (F : Nat) (h0 : HS) (x0 : Nat) (x1 : Int32) (x2 : Nat) (x3 : Int32) (x4 : Int32) : Option (Int32) := ((aI h0 x2 32 0).bind fun v1 => (osm (lJ10_indexOf_2_14 F h0 F x0 x2 x3 v1 (x1 - x3) x4) id fun q18 => some (-1)))
theorem hyJ10_indexOf_2 : yJ10_indexOf_2.cls ≠ "java/lang/invoke/MethodHandle" ∧ yJ10_indexOf_2.cls ≠ "java/lang/invoke/VarHandle" := by decide +kernel
theorem hlJ10_indexOf_2 : (parseMethodDescriptor yJ10_indexOf_2.desc).map (fun d => d.parameters.length) = some 5 := by decide +kernel
set_option maxHeartbeats 4000000 in
set_option maxRecDepth 100000 in
theorem wlJ10_indexOf_2_30 {p : Program} {l : Launch} [NoTr l] {e : Env} {s : State} {m : MethodId} {args : Array Value} {below : List Frame} {meth : Method} {c : Code} {D : va_G} {h0 : HS} (S : CallFix p m c cJ10_indexOf_2 11 s args lw_all RJ10) (hX : CX D (kG h0) s) (σ : HS) (F : Nat) {Q : State → Prop} : ∀ (n : Nat) (y0 : Nat) (y2 : Nat) (y3 : Int32) (y5 : Int32) (y6 : Int32) (y7 : Int32) (out : Int32), lJ10_indexOf_2_30 F σ n y0 y2 y3 y5 y6 y7 = some out → (∀ (H : Heap) (locs : List Loc) (cs ss : Nat) (ls : Array Slot), HI D h0 σ s.heap H locs cs ss → lv_has ls 11 [(0, .ref y0), (2, .ref y2), (3, .int y3), (5, .int y5), (6, .int y6), (7, .int out)] → W p l e (cR 0 0 h0) s m args below meth c H locs cs ss Q (F0 m 52 ls [])) → ∀ (H : Heap) (locs : List Loc) (cs ss : Nat) (ls : Array Slot), HI D h0 σ s.heap H locs cs ss → lv_has ls 11 [(0, .ref y0), (2, .ref y2), (3, .int y3), (5, .int y5), (6, .int y6), (7, .int y7)] → W p l e (cR 0 0 h0) s m args below meth c H locs cs ss Q (F0 m 30 ls []) := by
  intro n
  induction n with
  | zero =>
    intro y0 y2 y3 y5 y6 y7 out hF
    cases (show (none : Option _) = some out from hF)
  | succ n ih =>
    intro y0 y2 y3 y5 y6 y7 out hF hk H locs cs ss ls hM hl
    rw [lJ10_indexOf_2_30] at hF
    obtain ⟨hx, hb, hml, hown, hts⟩ := id S
    refine lv_iinc (v := y7 + 1) (lv' := [(7, .int (y7 + 1)), (0, .ref y0), (2, .ref y2), (3, .int y3), (5, .int y5), (6, .int y6)]) hx hb dJ10_indexOf_2_30 hl (k := 5) rfl rfl (by decide) rfl (fun ls hl => ?_)
    refine lv_iload hx hb dJ10_indexOf_2_33 (lv_at hl 0 rfl) ?_
    refine lv_iload hx hb dJ10_indexOf_2_35 (lv_at hl 5 rfl) ?_
    refine lv_icmp_gt (tgt := 52) hx hb dJ10_indexOf_2_37 (by decide) (fun c6 => ?_) (fun c6 => ?_)
    · have hF := ifp hF c6
      cases hF
      exact hk _ _ _ _ _ hM (lv_sub hl [1, 2, 3, 4, 5, 0] rfl)
    · have hF := ifn hF c6
      refine lv_aload_n hx hb dJ10_indexOf_2_40 rfl (lv_at hl 1 rfl) ?_
      refine lv_iload hx hb dJ10_indexOf_2_41 (lv_at hl 0 rfl) ?_
      obtain ⟨v7, ev7, hF⟩ := obn hF
      refine cab S hX hM ev7 dJ10_indexOf_2_43 ?_
      refine lv_iload hx hb dJ10_indexOf_2_44 (lv_at hl 4 rfl) ?_
      refine lv_icmp_eq (tgt := 52) hx hb dJ10_indexOf_2_46 (by decide) (fun c8 => ?_) (fun c8 => ?_)
      · have hF := ifp hF c8
        cases hF
        exact hk _ _ _ _ _ hM (lv_sub hl [1, 2, 3, 4, 5, 0] rfl)
      · have hF := ifn hF c8
        refine lv_goto (tgt := 30) hx hb dJ10_indexOf_2_49 (by decide) ?_
        exact ih _ _ _ _ _ _ out hF hk _ _ _ _ _ hM (lv_sub hl [1, 2, 3, 4, 5, 0] rfl)
set_option maxHeartbeats 4000000 in
set_option maxRecDepth 100000 in
theorem wlJ10_indexOf_2_76 {p : Program} {l : Launch} [NoTr l] {e : Env} {s : State} {m : MethodId} {args : Array Value} {below : List Frame} {meth : Method} {c : Code} {D : va_G} {h0 : HS} (S : CallFix p m c cJ10_indexOf_2 11 s args lw_all RJ10) (hX : CX D (kG h0) s) (σ : HS) (F : Nat) {Q : State → Prop} : ∀ (n : Nat) (y0 : Nat) (y2 : Nat) (y3 : Int32) (y5 : Int32) (y6 : Int32) (y7 : Int32) (y8 : Int32) (y9 : Int32) (y10 : Int32) (out : Int32), lJ10_indexOf_2_76 F σ n y0 y2 y3 y5 y6 y7 y8 y9 y10 = some out → (∀ (H : Heap) (locs : List Loc) (cs ss : Nat) (ls : Array Slot), HI D h0 σ s.heap H locs cs ss → lv_has ls 11 [(0, .ref y0), (2, .ref y2), (3, .int y3), (5, .int y5), (6, .int y6), (7, .int y7), (8, .int out), (9, .int y9)] → W p l e (cR 0 0 h0) s m args below meth c H locs cs ss Q (F0 m 103 ls [])) → ∀ (H : Heap) (locs : List Loc) (cs ss : Nat) (ls : Array Slot), HI D h0 σ s.heap H locs cs ss → lv_has ls 11 [(0, .ref y0), (2, .ref y2), (3, .int y3), (5, .int y5), (6, .int y6), (7, .int y7), (8, .int y8), (9, .int y9), (10, .int y10)] → W p l e (cR 0 0 h0) s m args below meth c H locs cs ss Q (F0 m 76 ls []) := by
  intro n
  induction n with
  | zero =>
    intro y0 y2 y3 y5 y6 y7 y8 y9 y10 out hF
    cases (show (none : Option _) = some out from hF)
  | succ n ih =>
    intro y0 y2 y3 y5 y6 y7 y8 y9 y10 out hF hk H locs cs ss ls hM hl
    rw [lJ10_indexOf_2_76] at hF
    obtain ⟨hx, hb, hml, hown, hts⟩ := id S
    refine lv_iload hx hb dJ10_indexOf_2_76 (lv_at hl 6 rfl) ?_
    refine lv_iload hx hb dJ10_indexOf_2_78 (lv_at hl 7 rfl) ?_
    refine lv_icmp_ge (tgt := 103) hx hb dJ10_indexOf_2_80 (by decide) (fun c12 => ?_) (fun c12 => ?_)
    · have hF := ifp hF c12
      cases hF
      exact hk _ _ _ _ _ hM (lv_sub hl [0, 1, 2, 3, 4, 5, 6, 7] rfl)
    · have hF := ifn hF c12
      refine lv_aload_n hx hb dJ10_indexOf_2_83 rfl (lv_at hl 0 rfl) ?_
      refine lv_iload hx hb dJ10_indexOf_2_84 (lv_at hl 6 rfl) ?_
      obtain ⟨v13, ev13, hF⟩ := obn hF
      refine cab S hX hM ev13 dJ10_indexOf_2_86 ?_
      refine lv_aload_n hx hb dJ10_indexOf_2_87 rfl (lv_at hl 1 rfl) ?_
      refine lv_iload hx hb dJ10_indexOf_2_88 (lv_at hl 8 rfl) ?_
      obtain ⟨v14, ev14, hF⟩ := obn hF
      refine cab S hX hM ev14 dJ10_indexOf_2_90 ?_
      refine lv_icmp_ne (tgt := 103) hx hb dJ10_indexOf_2_91 (by decide) (fun c15 => ?_) (fun c15 => ?_)
      · have hF := ifn hF c15
        cases hF
        exact hk _ _ _ _ _ hM (lv_sub hl [0, 1, 2, 3, 4, 5, 6, 7] rfl)
      · have hF := ifp hF c15
        refine lv_iinc (v := y8 + 1) (lv' := [(8, .int (y8 + 1)), (0, .ref y0), (2, .ref y2), (3, .int y3), (5, .int y5), (6, .int y6), (7, .int y7), (9, .int y9), (10, .int y10)]) hx hb dJ10_indexOf_2_94 hl (k := 6) rfl rfl (by decide) rfl (fun ls hl => ?_)
        refine lv_iinc (v := y10 + 1) (lv' := [(10, .int (y10 + 1)), (8, .int (y8 + 1)), (0, .ref y0), (2, .ref y2), (3, .int y3), (5, .int y5), (6, .int y6), (7, .int y7), (9, .int y9)]) hx hb dJ10_indexOf_2_97 hl (k := 8) rfl rfl (by decide) rfl (fun ls hl => ?_)
        refine lv_goto (tgt := 76) hx hb dJ10_indexOf_2_100 (by decide) ?_
        exact ih _ _ _ _ _ _ _ _ _ out hF hk _ _ _ _ _ hM (lv_sub hl [2, 3, 4, 5, 6, 7, 1, 8, 0] rfl)
set_option maxHeartbeats 4000000 in
set_option maxRecDepth 100000 in
theorem wlJ10_indexOf_2_14 {p : Program} {l : Launch} [NoTr l] {e : Env} {s : State} {m : MethodId} {args : Array Value} {below : List Frame} {meth : Method} {c : Code} {D : va_G} {h0 : HS} (S : CallFix p m c cJ10_indexOf_2 11 s args lw_all RJ10) (hX : CX D (kG h0) s) (σ : HS) (hr : meth.sig.returnType = (some .int)) (hlocks : meth.locks = false) (hnt : ∀ x ∈ c.exceptionTable.toList, False) (F : Nat) (res : Int32) : ∀ (n : Nat) (y0 : Nat) (y2 : Nat) (y3 : Int32) (y5 : Int32) (y6 : Int32) (y7 : Int32) (out : (Unit) ⊕ (Int32)), lJ10_indexOf_2_14 F σ n y0 y2 y3 y5 y6 y7 = some out → (∀ v, out = .inr v → v = res) → (∀ o, out = .inl o → ∀ (H : Heap) (locs : List Loc) (cs ss : Nat) (ls : Array Slot), HI D h0 σ s.heap H locs cs ss → lv_has ls 11 [] → W p l e (cR 0 0 h0) s m args below meth c H locs cs ss (cMQ below D h0 σ (.inr (some (.int res))) args s) (F0 m 119 ls [])) → ∀ (H : Heap) (locs : List Loc) (cs ss : Nat) (ls : Array Slot), HI D h0 σ s.heap H locs cs ss → lv_has ls 11 [(0, .ref y0), (2, .ref y2), (3, .int y3), (5, .int y5), (6, .int y6), (7, .int y7)] → W p l e (cR 0 0 h0) s m args below meth c H locs cs ss (cMQ below D h0 σ (.inr (some (.int res))) args s) (F0 m 14 ls []) := by
  intro n
  induction n with
  | zero =>
    intro y0 y2 y3 y5 y6 y7 out hF
    cases (show (none : Option _) = some out from hF)
  | succ n ih =>
    intro y0 y2 y3 y5 y6 y7 out hF hv hk H locs cs ss ls hM hl
    rw [lJ10_indexOf_2_14] at hF
    obtain ⟨hx, hb, hml, hown, hts⟩ := id S
    refine lv_iload hx hb dJ10_indexOf_2_14 (lv_at hl 5 rfl) ?_
    refine lv_iload hx hb dJ10_indexOf_2_16 (lv_at hl 4 rfl) ?_
    refine lv_icmp_gt (tgt := 119) hx hb dJ10_indexOf_2_18 (by decide) (fun c2 => ?_) (fun c2 => ?_)
    · have hF := ifp hF c2
      cases hF
      exact hk _ rfl _ _ _ _ _ hM (lv_sub hl [] rfl)
    · have hF := ifn hF c2
      refine lv_aload_n hx hb dJ10_indexOf_2_21 rfl (lv_at hl 0 rfl) ?_
      refine lv_iload hx hb dJ10_indexOf_2_22 (lv_at hl 5 rfl) ?_
      obtain ⟨v3, ev3, hF⟩ := obn hF
      refine cab S hX hM ev3 dJ10_indexOf_2_24 ?_
      refine lv_iload hx hb dJ10_indexOf_2_25 (lv_at hl 3 rfl) ?_
      obtain ⟨q4, hq4, hF⟩ := obn hF
      refine cjn (I := HI D h0 σ s.heap) (nJ := 11) (lvJ := [(0, .ref y0), (2, .ref y2), (3, .int y3), (5, .int y5), (6, .int y6), (7, .int q4)]) (J := 52) (stJ := []) ?_ ?_
      · intro H locs cs ss ls hM hl
        refine lv_iload hx hb dJ10_indexOf_2_52 (lv_at hl 5 rfl) ?_
        refine lv_iload hx hb dJ10_indexOf_2_54 (lv_at hl 4 rfl) ?_
        refine lv_icmp_gt (tgt := 113) hx hb dJ10_indexOf_2_56 (by decide) (fun c10 => ?_) (fun c10 => ?_)
        · have hF := ifp hF c10
          refine lv_iinc (v := q4 + 1) (lv' := [(7, .int (q4 + 1)), (0, .ref y0), (2, .ref y2), (3, .int y3), (5, .int y5), (6, .int y6)]) hx hb dJ10_indexOf_2_113 hl (k := 5) rfl rfl (by decide) rfl (fun ls hl => ?_)
          refine lv_goto (tgt := 14) hx hb dJ10_indexOf_2_116 (by decide) ?_
          exact ih _ _ _ _ _ _ out hF hv hk _ _ _ _ _ hM (lv_sub hl [1, 2, 3, 4, 5, 0] rfl)
        · have hF := ifn hF c10
          refine lv_iload hx hb dJ10_indexOf_2_59 (lv_at hl 5 rfl) ?_
          refine lv_iconst (v := 1) hx hb dJ10_indexOf_2_61 rfl ?_
          refine lv_iadd hx hb dJ10_indexOf_2_62 ?_
          refine lv_istore (lv' := [(8, .int (q4 + 1)), (0, .ref y0), (2, .ref y2), (3, .int y3), (5, .int y5), (6, .int y6), (7, .int q4)]) hx hb dJ10_indexOf_2_63 hl (by decide) rfl (fun ls hl => ?_)
          refine lv_iload hx hb dJ10_indexOf_2_65 (lv_at hl 0 rfl) ?_
          refine lv_iload_n hx hb dJ10_indexOf_2_67 rfl (lv_at hl 3 rfl) ?_
          refine lv_iadd hx hb dJ10_indexOf_2_68 ?_
          refine lv_iconst (v := 1) hx hb dJ10_indexOf_2_69 rfl ?_
          refine lv_isub hx hb dJ10_indexOf_2_70 ?_
          obtain ⟨u11, eu11, hF⟩ := lte hF
          refine mr_top eu11 ?_
          refine lv_istore (lv' := [(9, .int u11), (8, .int (q4 + 1)), (0, .ref y0), (2, .ref y2), (3, .int y3), (5, .int y5), (6, .int y6), (7, .int q4)]) hx hb dJ10_indexOf_2_71 hl (by decide) rfl (fun ls hl => ?_)
          refine lv_iconst (v := 1) hx hb dJ10_indexOf_2_73 rfl ?_
          refine lv_istore (lv' := [(10, .int 1), (9, .int u11), (8, .int (q4 + 1)), (0, .ref y0), (2, .ref y2), (3, .int y3), (5, .int y5), (6, .int y6), (7, .int q4)]) hx hb dJ10_indexOf_2_74 hl (by decide) rfl (fun ls hl => ?_)
          obtain ⟨q16, hq16, hF⟩ := obn hF
          refine wlJ10_indexOf_2_76 S hX _ F  F _ _ _ _ _ _ _ _ _ q16 hq16 (fun H locs cs ss ls hM hl => ?_) _ _ _ _ _ hM (lv_sub hl [3, 4, 5, 6, 7, 8, 2, 1, 0] rfl)
          refine lv_iload hx hb dJ10_indexOf_2_103 (lv_at hl 6 rfl) ?_
          refine lv_iload hx hb dJ10_indexOf_2_105 (lv_at hl 7 rfl) ?_
          refine lv_icmp_ne (tgt := 113) hx hb dJ10_indexOf_2_107 (by decide) (fun c17 => ?_) (fun c17 => ?_)
          · have hF := ifn hF c17
            refine lv_iinc (v := q4 + 1) (lv' := [(7, .int (q4 + 1)), (0, .ref y0), (2, .ref y2), (3, .int y3), (5, .int y5), (6, .int y6), (8, .int q16), (9, .int u11)]) hx hb dJ10_indexOf_2_113 hl (k := 5) rfl rfl (by decide) rfl (fun ls hl => ?_)
            refine lv_goto (tgt := 14) hx hb dJ10_indexOf_2_116 (by decide) ?_
            exact ih _ _ _ _ _ _ out hF hv hk _ _ _ _ _ hM (lv_sub hl [1, 2, 3, 4, 5, 0] rfl)
          · have hF := ifp hF c17
            refine lv_iload hx hb dJ10_indexOf_2_110 (lv_at hl 5 rfl) ?_
            have hz := (hv _ ((Option.some.inj hF)).symm)
            subst hz
            exact cri S hM hr hlocks dJ10_indexOf_2_112
      · intro hJq4
        refine lv_icmp_eq (tgt := 52) hx hb dJ10_indexOf_2_27 (by decide) (fun c5 => ?_) (fun c5 => ?_)
        · have hq4 := ifp hq4 c5
          cases hq4
          exact hJq4 _ _ _ _ _ hM (lv_sub hl [0, 1, 2, 3, 4, 5] rfl)
        · have hq4 := ifn hq4 c5
          obtain ⟨q9, hq9, hq4⟩ := obn hq4
          refine wlJ10_indexOf_2_30 S hX _ F  F _ _ _ _ _ _ q9 hq9 (fun H locs cs ss ls hM hl => ?_) _ _ _ _ _ hM (lv_sub hl [0, 1, 2, 3, 4, 5] rfl)
          cases hq4
          exact hJq4 _ _ _ _ _ hM (lv_sub hl [0, 1, 2, 3, 4, 5] rfl)
set_option maxHeartbeats 4000000 in
set_option maxRecDepth 100000 in
theorem metJ10_indexOf_2 (l : Launch) [NoTr l] (F : Nat) (D : va_G) (h0 : HS) (x0 : Nat) (x1 : Int32) (x2 : Nat) (x3 : Int32) (x4 : Int32) (r : Int32) (hF : fJ10_indexOf_2 F h0 x0 x1 x2 x3 x4 = some r) : CMet l yJ10_indexOf_2 (ws_ yJ10_indexOf_2 cJ10_indexOf_2 11 (some .int)) 0 0 D [.ref x0, .int x1, .ref x2, .int x3, .int x4] h0 h0 (.inr (some (.int r))) := by
  refine CMet.ofW (by decide) ?_
  intro p e s m below meth c s₁ B S hX hM hr hlocks hnt hin
  obtain ⟨hx, hb, hml, hown, hts⟩ := id S
  have hl := lv_entry ([.ref x0, .int x1, .ref x2, .int x3, .int x4]) (n := 11) (Nat.le_of_ble_eq_true rfl)
  rw [lg_entry_eq]
  generalize (lg_sl ([.ref x0, .int x1, .ref x2, .int x3, .int x4]) ++ List.replicate (11 - (lg_sl ([.ref x0, .int x1, .ref x2, .int x3, .int x4])).length) Slot.unset).toArray = ls at hl ⊢
  have hl : lv_has ls 11 [(0, .ref x0), (1, .int x1), (2, .ref x2), (3, .int x3), (4, .int x4)] := hl
  unfold fJ10_indexOf_2 at hF
  refine lv_aload_n hx hb dJ10_indexOf_2_0 rfl (lv_at hl 2 rfl) ?_
  refine lv_iconst (v := 0) hx hb dJ10_indexOf_2_1 rfl ?_
  obtain ⟨v1, ev1, hF⟩ := obn hF
  refine cab S hX hM ev1 dJ10_indexOf_2_2 ?_
  refine lv_istore (lv' := [(5, .int v1), (0, .ref x0), (1, .int x1), (2, .ref x2), (3, .int x3), (4, .int x4)]) hx hb dJ10_indexOf_2_3 hl (by decide) rfl (fun ls hl => ?_)
  refine lv_iload_n hx hb dJ10_indexOf_2_5 rfl (lv_at hl 2 rfl) ?_
  refine lv_iload_n hx hb dJ10_indexOf_2_6 rfl (lv_at hl 4 rfl) ?_
  refine lv_isub hx hb dJ10_indexOf_2_7 ?_
  refine lv_istore (lv' := [(6, .int (x1 - x3)), (5, .int v1), (0, .ref x0), (1, .int x1), (2, .ref x2), (3, .int x3), (4, .int x4)]) hx hb dJ10_indexOf_2_8 hl (by decide) rfl (fun ls hl => ?_)
  refine lv_iload hx hb dJ10_indexOf_2_10 (lv_at hl 6 rfl) ?_
  refine lv_istore (lv' := [(7, .int x4), (6, .int (x1 - x3)), (5, .int v1), (0, .ref x0), (1, .int x1), (2, .ref x2), (3, .int x3), (4, .int x4)]) hx hb dJ10_indexOf_2_12 hl (by decide) rfl (fun ls hl => ?_)
  obtain ⟨oq18, hq18, h1q18, h2q18⟩ := osx hF
  refine wlJ10_indexOf_2_14 S hX _ hr hlocks hnt F _  F _ _ _ _ _ _ oq18 hq18 (fun v e => (h2q18 v e)) (fun q18 eq18 H locs cs ss ls hM hl => ?_) _ _ _ _ _ hM (lv_sub hl [3, 5, 6, 2, 1, 0] rfl)
  have hF := h1q18 _ eq18
  refine lv_iconst (v := (-1)) hx hb dJ10_indexOf_2_119 rfl ?_
  have hz := (Option.some.inj hF)
  subst hz
  exact cri S hM hr hlocks dJ10_indexOf_2_120
def fJ10_indexOf (F : Nat) (h0 : HS) (x0 : Nat) (x1 : Nat) : Option (Int32) := ((aL h0 x1 32 32).bind fun v1 => (if v1 = 0 then (some 0) else ((aL h0 x0 32 32).bind fun v3 => (if v3 = 0 then (some (-1)) else ((aL h0 x0 32 32).bind fun v5 => ((aL h0 x1 32 32).bind fun v6 => ((fJ10_indexOf_2 F h0 x0 v5 x1 v6 0).bind fun r7 => some r7)))))))
theorem hyJ10_indexOf : yJ10_indexOf.cls ≠ "java/lang/invoke/MethodHandle" ∧ yJ10_indexOf.cls ≠ "java/lang/invoke/VarHandle" := by decide +kernel
theorem hlJ10_indexOf : (parseMethodDescriptor yJ10_indexOf.desc).map (fun d => d.parameters.length) = some 2 := by decide +kernel
set_option maxHeartbeats 4000000 in
set_option maxRecDepth 100000 in
theorem metJ10_indexOf (l : Launch) [NoTr l] (F : Nat) (D : va_G) (h0 : HS) (x0 : Nat) (x1 : Nat) (r : Int32) (hF : fJ10_indexOf F h0 x0 x1 = some r) : CMet l yJ10_indexOf (ws_ yJ10_indexOf cJ10_indexOf 2 (some .int)) 1 30 D [.ref x0, .ref x1] h0 h0 (.inr (some (.int r))) := by
  refine CMet.ofW (by decide) ?_
  intro p e s m below meth c s₁ B S hX hM hr hlocks hnt hin
  obtain ⟨hx, hb, hml, hown, hts⟩ := id S
  have hl := lv_entry ([.ref x0, .ref x1]) (n := 2) (Nat.le_of_ble_eq_true rfl)
  rw [lg_entry_eq]
  generalize (lg_sl ([.ref x0, .ref x1]) ++ List.replicate (2 - (lg_sl ([.ref x0, .ref x1])).length) Slot.unset).toArray = ls at hl ⊢
  have hl : lv_has ls 2 [(0, .ref x0), (1, .ref x1)] := hl
  unfold fJ10_indexOf at hF
  refine lv_aload_n hx hb dJ10_indexOf_0 rfl (lv_at hl 1 rfl) ?_
  obtain ⟨v1, ev1, hF⟩ := obn hF
  refine cal S hX hM ev1 (by decide) (by decide) dJ10_indexOf_1 ?_
  refine lv_if_ne (tgt := 7) hx hb dJ10_indexOf_2 (by decide) (fun c2 => ?_) (fun c2 => ?_)
  · have hF := ifn hF c2
    refine lv_aload_n hx hb dJ10_indexOf_7 rfl (lv_at hl 0 rfl) ?_
    obtain ⟨v3, ev3, hF⟩ := obn hF
    refine cal S hX hM ev3 (by decide) (by decide) dJ10_indexOf_8 ?_
    refine lv_if_ne (tgt := 14) hx hb dJ10_indexOf_9 (by decide) (fun c4 => ?_) (fun c4 => ?_)
    · have hF := ifn hF c4
      refine lv_aload_n hx hb dJ10_indexOf_14 rfl (lv_at hl 0 rfl) ?_
      refine lv_aload_n hx hb dJ10_indexOf_15 rfl (lv_at hl 0 rfl) ?_
      obtain ⟨v5, ev5, hF⟩ := obn hF
      refine cal S hX hM ev5 (by decide) (by decide) dJ10_indexOf_16 ?_
      refine lv_aload_n hx hb dJ10_indexOf_17 rfl (lv_at hl 1 rfl) ?_
      refine lv_aload_n hx hb dJ10_indexOf_18 rfl (lv_at hl 1 rfl) ?_
      obtain ⟨v6, ev6, hF⟩ := obn hF
      refine cal S hX hM ev6 (by decide) (by decide) dJ10_indexOf_19 ?_
      refine lv_iconst (v := 0) hx hb dJ10_indexOf_20 rfl ?_
      obtain ⟨r7, er7, hF⟩ := obn hF
      refine ccr (rest := []) (st1 := [.int r7]) S hX hM (metJ10_indexOf_2 l F D h0 x0 v5 x1 v6 0 r7 er7) (ci_S (As := [.ref x0, .int v5, .ref x1, .int v6, .int 0]) (rest := []) S q902 q903 q121 q904 hyJ10_indexOf_2 hlJ10_indexOf_2 rfl dJ10_indexOf_21) q904 q121 (Nat.le_of_ble_eq_true rfl) (Nat.le_of_ble_eq_true rfl) hl.1 (Nat.le_of_ble_eq_true rfl) rfl (fun H locs cs ss hM => ?_)
      have hz := (Option.some.inj hF)
      subst hz
      exact cri S hM hr hlocks dJ10_indexOf_24
    · have hF := ifp hF c4
      refine lv_iconst (v := (-1)) hx hb dJ10_indexOf_12 rfl ?_
      have hz := (Option.some.inj hF)
      subst hz
      exact cri S hM hr hlocks dJ10_indexOf_13
  · have hF := ifp hF c2
    refine lv_iconst (v := 0) hx hb dJ10_indexOf_5 rfl ?_
    have hz := (Option.some.inj hF)
    subst hz
    exact cri S hM hr hlocks dJ10_indexOf_6
def fJ6_indexOf (F : Nat) (h0 : HS) (x0 : Nat) (x1 : Nat) : Option (Int32) := gT h0 x0 17 17 (((fJ6_coder F h0 x0).bind fun r1 => gT h0 x1 17 17 (((fJ6_coder F h0 x1).bind fun r2 => (if r1 = r2 then (gT h0 x0 17 17 (((fJ6_isLatin1 F h0 x0).bind fun r7 => (if r7 = 0 then ((fR h0 x0 17 17 0).bind fun a9 => ((fR h0 x1 17 17 0).bind fun a10 => none)) else ((fR h0 x0 17 17 0).bind fun a11 => ((fR h0 x1 17 17 0).bind fun a12 => ((fJ10_indexOf F h0 a11 a12).bind fun r13 => some r13))))))) else (if r1 = 0 then (some (-1)) else ((fR h0 x0 17 17 0).bind fun a5 => ((fR h0 x1 17 17 0).bind fun a6 => none))))))))
theorem hyJ6_indexOf : yJ6_indexOf.cls ≠ "java/lang/invoke/MethodHandle" ∧ yJ6_indexOf.cls ≠ "java/lang/invoke/VarHandle" := by decide +kernel
theorem hlJ6_indexOf : (parseMethodDescriptor yJ6_indexOf.desc).map (fun d => d.parameters.length) = some 1 := by decide +kernel
set_option maxHeartbeats 4000000 in
set_option maxRecDepth 100000 in
theorem metJ6_indexOf (l : Launch) [NoTr l] (F : Nat) (D : va_G) (h0 : HS) (x0 : Nat) (x1 : Nat) (r : Int32) (hF : fJ6_indexOf F h0 x0 x1 = some r) : CMet l yJ6_indexOf (ws_ yJ6_indexOf cJ6_indexOf 3 (some .int)) 2 51 D [.ref x0, .ref x1] h0 h0 (.inr (some (.int r))) := by
  refine CMet.ofW (by decide) ?_
  intro p e s m below meth c s₁ B S hX hM hr hlocks hnt hin
  obtain ⟨hx, hb, hml, hown, hts⟩ := id S
  have hl := lv_entry ([.ref x0, .ref x1]) (n := 3) (Nat.le_of_ble_eq_true rfl)
  rw [lg_entry_eq]
  generalize (lg_sl ([.ref x0, .ref x1]) ++ List.replicate (3 - (lg_sl ([.ref x0, .ref x1])).length) Slot.unset).toArray = ls at hl ⊢
  have hl : lv_has ls 3 [(0, .ref x0), (1, .ref x1)] := hl
  unfold fJ6_indexOf at hF
  refine lv_aload_n hx hb dJ6_indexOf_0 rfl (lv_at hl 0 rfl) ?_
  obtain ⟨z1, hF⟩ := gTe hF
  obtain ⟨r1, er1, hF⟩ := obn hF
  refine ccr (rest := []) (st1 := [.int r1]) S hX hM (metJ6_coder l F D h0 x0 r1 er1) (ci_V (C := "java/lang/String") (As := []) (rest := []) S q872 q873 q874 q875 hyJ6_coder (HI.cell (ci := 16) hX hM (by decide) (by omega)) hlJ6_coder rfl dJ6_indexOf_1) q875 q116 (Nat.le_of_ble_eq_true rfl) (Nat.le_of_ble_eq_true rfl) hl.1 (Nat.le_of_ble_eq_true rfl) rfl (fun H locs cs ss hM => ?_)
  refine lv_istore_n (lv' := [(2, .int r1), (0, .ref x0), (1, .ref x1)]) hx hb dJ6_indexOf_4 rfl hl (by decide) rfl (fun ls hl => ?_)
  refine lv_iload_n hx hb dJ6_indexOf_5 rfl (lv_at hl 0 rfl) ?_
  refine lv_aload_n hx hb dJ6_indexOf_6 rfl (lv_at hl 2 rfl) ?_
  obtain ⟨z2, hF⟩ := gTe hF
  obtain ⟨r2, er2, hF⟩ := obn hF
  refine ccr (rest := [.int r1]) (st1 := [.int r2, .int r1]) S hX hM (metJ6_coder l F D h0 x1 r2 er2) (ci_V (C := "java/lang/String") (As := []) (rest := [.int r1]) S q872 q873 q874 q875 hyJ6_coder (HI.cell (ci := 16) hX hM (by decide) (by omega)) hlJ6_coder rfl dJ6_indexOf_7) q875 q116 (Nat.le_of_ble_eq_true rfl) (Nat.le_of_ble_eq_true rfl) hl.1 (Nat.le_of_ble_eq_true rfl) rfl (fun H locs cs ss hM => ?_)
  refine lv_icmp_ne (tgt := 46) hx hb dJ6_indexOf_10 (by decide) (fun c3 => ?_) (fun c3 => ?_)
  · have hF := ifn hF c3
    refine lv_iload_n hx hb dJ6_indexOf_46 rfl (lv_at hl 0 rfl) ?_
    refine lv_if_ne (tgt := 52) hx hb dJ6_indexOf_47 (by decide) (fun c4 => ?_) (fun c4 => ?_)
    · have hF := ifn hF c4
      refine lv_aload_n hx hb dJ6_indexOf_52 rfl (lv_at hl 1 rfl) ?_
      obtain ⟨a5, ea5, hF⟩ := obn hF
      refine cgn S hX hM ea5 ck_17_17_0 q694 (fun _ h => h) dJ6_indexOf_53 ?_
      refine lv_aload_n hx hb dJ6_indexOf_56 rfl (lv_at hl 2 rfl) ?_
      obtain ⟨a6, ea6, hF⟩ := obn hF
      refine cgn S hX hM ea6 ck_17_17_0 q694 (fun _ h => h) dJ6_indexOf_57 ?_
      cases hF
    · have hF := ifp hF c4
      refine lv_iconst (v := (-1)) hx hb dJ6_indexOf_50 rfl ?_
      have hz := (Option.some.inj hF)
      subst hz
      exact cri S hM hr hlocks dJ6_indexOf_51
  · have hF := ifp hF c3
    refine lv_aload_n hx hb dJ6_indexOf_13 rfl (lv_at hl 1 rfl) ?_
    obtain ⟨z7, hF⟩ := gTe hF
    obtain ⟨r7, er7, hF⟩ := obn hF
    refine ccr (rest := []) (st1 := [.int r7]) S hX hM (metJ6_isLatin1 l F D h0 x0 r7 er7) (ci_V (C := "java/lang/String") (As := []) (rest := []) S q895 q896 q897 q898 hyJ6_isLatin1 (HI.cell (ci := 16) hX hM (by decide) (by omega)) hlJ6_isLatin1 rfl dJ6_indexOf_14) q898 q116 (Nat.le_of_ble_eq_true rfl) (Nat.le_of_ble_eq_true rfl) hl.1 (Nat.le_of_ble_eq_true rfl) rfl (fun H locs cs ss hM => ?_)
    refine lv_if_eq (tgt := 34) hx hb dJ6_indexOf_17 (by decide) (fun c8 => ?_) (fun c8 => ?_)
    · have hF := ifp hF c8
      refine lv_aload_n hx hb dJ6_indexOf_34 rfl (lv_at hl 1 rfl) ?_
      obtain ⟨a9, ea9, hF⟩ := obn hF
      refine cgn S hX hM ea9 ck_17_17_0 q694 (fun _ h => h) dJ6_indexOf_35 ?_
      refine lv_aload_n hx hb dJ6_indexOf_38 rfl (lv_at hl 2 rfl) ?_
      obtain ⟨a10, ea10, hF⟩ := obn hF
      refine cgn S hX hM ea10 ck_17_17_0 q694 (fun _ h => h) dJ6_indexOf_39 ?_
      cases hF
    · have hF := ifn hF c8
      refine lv_aload_n hx hb dJ6_indexOf_20 rfl (lv_at hl 1 rfl) ?_
      obtain ⟨a11, ea11, hF⟩ := obn hF
      refine cgn S hX hM ea11 ck_17_17_0 q694 (fun _ h => h) dJ6_indexOf_21 ?_
      refine lv_aload_n hx hb dJ6_indexOf_24 rfl (lv_at hl 2 rfl) ?_
      obtain ⟨a12, ea12, hF⟩ := obn hF
      refine cgn S hX hM ea12 ck_17_17_0 q694 (fun _ h => h) dJ6_indexOf_25 ?_
      obtain ⟨r13, er13, hF⟩ := obn hF
      refine ccr (rest := []) (st1 := [.int r13]) S hX hM (metJ10_indexOf l F D h0 a11 a12 r13 er13) (ci_S (As := [.ref a11, .ref a12]) (rest := []) S q899 q900 q121 q901 hyJ10_indexOf hlJ10_indexOf rfl dJ6_indexOf_28) q901 q121 (Nat.le_of_ble_eq_true rfl) (Nat.le_of_ble_eq_true rfl) hl.1 (Nat.le_of_ble_eq_true rfl) rfl (fun H locs cs ss hM => ?_)
      refine lv_goto (tgt := 45) hx hb dJ6_indexOf_31 (by decide) ?_
      have hz := (Option.some.inj hF)
      subst hz
      exact cri S hM hr hlocks dJ6_indexOf_45
def fX6_isName (F : Nat) (h0 : HS) (x0 : Nat) : Option (Int32 × HS) := ((oI h0 x0 5 7 4).bind fun v1 => (if v1 = 2 then ((nO h0 16 4).bind fun r3 => ((fJ5_init F r3.2 r3.1).bind fun r4 => gT r4 r3.1 16 16 (((fJ5_append_2 F r4 r3.1 (kG r4 32)).bind fun r5 => ((fR r5.2 x0 5 7 8).bind fun a6 => gT r5.2 r5.1 16 16 (((fJ5_append_2 F r5.2 r5.1 a6).bind fun r7 => gT r7.2 r7.1 16 16 (((fJ5_append_2 F r7.2 r7.1 (kG r7.2 32)).bind fun r8 => gT r8.2 r8.1 16 16 (((fJ5_toString F r8.2 r8.1).bind fun r9 => gT r9.2 (kG h0 31) 17 17 (((fJ6_indexOf F r9.2 (kG h0 31) r9.1).bind fun r10 => (if 0 ≤ r10 then (some (0, r9.2)) else (some (1, r9.2)))))))))))))))) else (some (0, h0))))
theorem hyX6_isName : yX6_isName.cls ≠ "java/lang/invoke/MethodHandle" ∧ yX6_isName.cls ≠ "java/lang/invoke/VarHandle" := by decide +kernel
theorem hlX6_isName : (parseMethodDescriptor yX6_isName.desc).map (fun d => d.parameters.length) = some 0 := by decide +kernel
set_option maxHeartbeats 4000000 in
set_option maxRecDepth 100000 in
theorem metX6_isName (l : Launch) [NoTr l] (F : Nat) (D : va_G) (h0 : HS) (x0 : Nat) (r : Int32 × HS) (hF : fX6_isName F h0 x0 = some r) : CMet l yX6_isName (ws_ yX6_isName cX6_isName 1 (some .boolean)) 8 177 D [.ref x0] h0 r.2 (.inr (some (.int r.1))) := by
  refine CMet.ofW (by decide) ?_
  intro p e s m below meth c s₁ B S hX hM hr hlocks hnt hin
  obtain ⟨hx, hb, hml, hown, hts⟩ := id S
  have hl := lv_entry ([.ref x0]) (n := 1) (Nat.le_of_ble_eq_true rfl)
  rw [lg_entry_eq]
  generalize (lg_sl ([.ref x0]) ++ List.replicate (1 - (lg_sl ([.ref x0])).length) Slot.unset).toArray = ls at hl ⊢
  have hl : lv_has ls 1 [(0, .ref x0)] := hl
  unfold fX6_isName at hF
  refine lv_aload_n hx hb dX6_isName_0 rfl (lv_at hl 0 rfl) ?_
  obtain ⟨v1, ev1, hF⟩ := obn hF
  refine cgi S hX hM ev1 ck_5_7_4 q466 (fun _ h => h) dX6_isName_1 ?_
  refine lv_iconst (v := 2) hx hb dX6_isName_4 rfl ?_
  refine lv_icmp_ne (tgt := 47) hx hb dX6_isName_5 (by decide) (fun c2 => ?_) (fun c2 => ?_)
  · have hF := ifn hF c2
    refine lv_iconst (v := 0) hx hb dX6_isName_47 rfl ?_
    have hz := (Option.some.inj hF)
    subst hz
    exact crz S hM hr hlocks (gBn gB0) dX6_isName_48
  · have hF := ifp hF c2
    refine cldc S hM (uq843 hX) dX6_isName_8 ?_
    obtain ⟨r3, er3, hF⟩ := obn hF
    refine cno (ci := 15) S hX hM er3 (by decide) q518 q519 q115 dX6_isName_10 (fun H cs ss hM => ?_)
    refine lv_dup hx hb dX6_isName_13 rfl ?_
    obtain ⟨r4, er4, hF⟩ := obn hF
    refine ccr (rest := [.ref r3.1, .ref (kG h0 31)]) (st1 := [.ref r3.1, .ref (kG h0 31)]) S hX hM (metJ5_init l F D r3.2 r3.1 r4 er4) (ci_I (As := []) (rest := [.ref r3.1, .ref (kG h0 31)]) S rfl q520 q521 q522 hyJ5_init hlJ5_init rfl dX6_isName_14) q522 q115 (Nat.le_of_ble_eq_true rfl) (Nat.le_of_ble_eq_true rfl) hl.1 (Nat.le_of_ble_eq_true rfl) rfl (fun H locs cs ss hM => ?_)
    refine cldc S hM (uq844 hX) dX6_isName_17 ?_
    obtain ⟨z5, hF⟩ := gTe hF
    obtain ⟨r5, er5, hF⟩ := obn hF
    refine ccr (rest := [.ref (kG h0 31)]) (st1 := [.ref r5.1, .ref (kG h0 31)]) S hX hM (metJ5_append_2 l F D r4 r3.1 (kG r4 32) r5 er5) (ci_V (C := "java/lang/StringBuilder") (As := [.ref (kG r4 32)]) (rest := [.ref (kG h0 31)]) S q845 q846 q847 q848 hyJ5_append_2 (HI.cell (ci := 15) hX hM (by decide) (by omega)) hlJ5_append_2 rfl dX6_isName_19) q848 q115 (Nat.le_of_ble_eq_true rfl) (Nat.le_of_ble_eq_true rfl) hl.1 (Nat.le_of_ble_eq_true rfl) rfl (fun H locs cs ss hM => ?_)
    refine lv_aload_n hx hb dX6_isName_22 rfl (lv_at hl 0 rfl) ?_
    obtain ⟨a6, ea6, hF⟩ := obn hF
    refine cgn S hX hM ea6 ck_5_7_8 q472 (fun _ h => h) dX6_isName_23 ?_
    obtain ⟨z7, hF⟩ := gTe hF
    obtain ⟨r7, er7, hF⟩ := obn hF
    refine ccr (rest := [.ref (kG h0 31)]) (st1 := [.ref r7.1, .ref (kG h0 31)]) S hX hM (metJ5_append_2 l F D r5.2 r5.1 a6 r7 er7) (ci_V (C := "java/lang/StringBuilder") (As := [.ref a6]) (rest := [.ref (kG h0 31)]) S q845 q846 q847 q848 hyJ5_append_2 (HI.cell (ci := 15) hX hM (by decide) (by omega)) hlJ5_append_2 rfl dX6_isName_26) q848 q115 (Nat.le_of_ble_eq_true rfl) (Nat.le_of_ble_eq_true rfl) hl.1 (Nat.le_of_ble_eq_true rfl) rfl (fun H locs cs ss hM => ?_)
    refine cldc S hM (uq844 hX) dX6_isName_29 ?_
    obtain ⟨z8, hF⟩ := gTe hF
    obtain ⟨r8, er8, hF⟩ := obn hF
    refine ccr (rest := [.ref (kG h0 31)]) (st1 := [.ref r8.1, .ref (kG h0 31)]) S hX hM (metJ5_append_2 l F D r7.2 r7.1 (kG r7.2 32) r8 er8) (ci_V (C := "java/lang/StringBuilder") (As := [.ref (kG r7.2 32)]) (rest := [.ref (kG h0 31)]) S q845 q846 q847 q848 hyJ5_append_2 (HI.cell (ci := 15) hX hM (by decide) (by omega)) hlJ5_append_2 rfl dX6_isName_31) q848 q115 (Nat.le_of_ble_eq_true rfl) (Nat.le_of_ble_eq_true rfl) hl.1 (Nat.le_of_ble_eq_true rfl) rfl (fun H locs cs ss hM => ?_)
    obtain ⟨z9, hF⟩ := gTe hF
    obtain ⟨r9, er9, hF⟩ := obn hF
    refine ccr (rest := [.ref (kG h0 31)]) (st1 := [.ref r9.1, .ref (kG h0 31)]) S hX hM (metJ5_toString l F D r8.2 r8.1 r9 er9) (ci_V (C := "java/lang/StringBuilder") (As := []) (rest := [.ref (kG h0 31)]) S q644 q645 q646 q647 hyJ5_toString (HI.cell (ci := 15) hX hM (by decide) (by omega)) hlJ5_toString rfl dX6_isName_34) q647 q115 (Nat.le_of_ble_eq_true rfl) (Nat.le_of_ble_eq_true rfl) hl.1 (Nat.le_of_ble_eq_true rfl) rfl (fun H locs cs ss hM => ?_)
    obtain ⟨z10, hF⟩ := gTe hF
    obtain ⟨r10, er10, hF⟩ := obn hF
    refine ccr (rest := []) (st1 := [.int r10]) S hX hM (metJ6_indexOf l F D r9.2 (kG h0 31) r9.1 r10 er10) (ci_V (C := "java/lang/String") (As := [.ref r9.1]) (rest := []) S q891 q892 q893 q894 hyJ6_indexOf (HI.cell (ci := 16) hX hM (by decide) (by omega)) hlJ6_indexOf rfl dX6_isName_37) q894 q116 (Nat.le_of_ble_eq_true rfl) (Nat.le_of_ble_eq_true rfl) hl.1 (Nat.le_of_ble_eq_true rfl) rfl (fun H locs cs ss hM => ?_)
    refine lv_if_ge (tgt := 47) hx hb dX6_isName_40 (by decide) (fun c11 => ?_) (fun c11 => ?_)
    · have hF := ifp hF c11
      refine lv_iconst (v := 0) hx hb dX6_isName_47 rfl ?_
      have hz := (Option.some.inj hF)
      subst hz
      exact crz S hM hr hlocks (gBn gB0) dX6_isName_48
    · have hF := ifn hF c11
      refine lv_iconst (v := 1) hx hb dX6_isName_43 rfl ?_
      refine lv_goto (tgt := 48) hx hb dX6_isName_44 (by decide) ?_
      have hz := (Option.some.inj hF)
      subst hz
      exact crz S hM hr hlocks (gBn gB1) dX6_isName_48
def fJ11_checkIndex (F : Nat) (h0 : HS) (x0 : Int32) (x1 : Int32) : Option (Int32) := (lt_ (if x0 < 0 then true else (if x0 < x1 then false else true)) fun q1 => (if q1 = true then none else (some x0)))
theorem hyJ11_checkIndex : yJ11_checkIndex.cls ≠ "java/lang/invoke/MethodHandle" ∧ yJ11_checkIndex.cls ≠ "java/lang/invoke/VarHandle" := by decide +kernel
theorem hlJ11_checkIndex : (parseMethodDescriptor yJ11_checkIndex.desc).map (fun d => d.parameters.length) = some 3 := by decide +kernel
set_option maxHeartbeats 4000000 in
set_option maxRecDepth 100000 in
theorem metJ11_checkIndex (l : Launch) [NoTr l] (F : Nat) (D : va_G) (h0 : HS) (x0 : Int32) (x1 : Int32) (r : Int32) (hF : fJ11_checkIndex F h0 x0 x1 = some r) : CMet l yJ11_checkIndex (ws_ yJ11_checkIndex cJ11_checkIndex 3 (some .int)) 0 0 D [.int x0, .int x1, .null] h0 h0 (.inr (some (.int r))) := by
  refine CMet.ofW (by decide) ?_
  intro p e s m below meth c s₁ B S hX hM hr hlocks hnt hin
  obtain ⟨hx, hb, hml, hown, hts⟩ := id S
  have hl := lv_entry ([.int x0, .int x1, .null]) (n := 3) (Nat.le_of_ble_eq_true rfl)
  rw [lg_entry_eq]
  generalize (lg_sl ([.int x0, .int x1, .null]) ++ List.replicate (3 - (lg_sl ([.int x0, .int x1, .null])).length) Slot.unset).toArray = ls at hl ⊢
  have hl : lv_has ls 3 [(0, .int x0), (1, .int x1), (2, .null)] := hl
  unfold fJ11_checkIndex at hF
  refine lv_iload_n hx hb dJ11_checkIndex_0 rfl (lv_at hl 0 rfl) ?_
  obtain ⟨q1, hq1, hF⟩ := lte hF
  refine cjnc (C := q1 = true) (I := HI D h0 h0 s.heap) (nJ := 3) (lvJ := [(0, .int x0), (1, .int x1), (2, .null)]) (J := 9) (stJ := []) ?_ ?_
  · intro cq1 H locs cs ss ls hM hl
    have hF := ifp hF cq1
    refine lv_aload_nN hx hb dJ11_checkIndex_9 rfl (lv_at hl 2 rfl) ?_
    refine lv_iload_n hx hb dJ11_checkIndex_10 rfl (lv_at hl 0 rfl) ?_
    refine lv_iload_n hx hb dJ11_checkIndex_11 rfl (lv_at hl 1 rfl) ?_
    cases hF
  · intro hAq1
    refine cjnc (C := q1 = false) (I := HI D h0 h0 s.heap) (nJ := 3) (lvJ := [(0, .int x0)]) (J := 16) (stJ := []) ?_ ?_
    · intro cq1 H locs cs ss ls hM hl
      have hF := ifn hF (by rw [cq1]; decide)
      refine lv_iload_n hx hb dJ11_checkIndex_16 rfl (lv_at hl 0 rfl) ?_
      have hz := (Option.some.inj hF)
      subst hz
      exact cri S hM hr hlocks dJ11_checkIndex_17
    · intro hBq1
      refine lv_if_lt (tgt := 9) hx hb dJ11_checkIndex_1 (by decide) (fun c2 => ?_) (fun c2 => ?_)
      · have hq1 := ifp hq1 c2
        subst hq1
        exact hAq1 rfl _ _ _ _ _ hM (lv_sub hl [0, 1, 2] rfl)
      · have hq1 := ifn hq1 c2
        refine lv_iload_n hx hb dJ11_checkIndex_4 rfl (lv_at hl 0 rfl) ?_
        refine lv_iload_n hx hb dJ11_checkIndex_5 rfl (lv_at hl 1 rfl) ?_
        refine lv_icmp_lt (tgt := 16) hx hb dJ11_checkIndex_6 (by decide) (fun c3 => ?_) (fun c3 => ?_)
        · have hq1 := ifp hq1 c3
          subst hq1
          exact hBq1 rfl _ _ _ _ _ hM (lv_sub hl [0] rfl)
        · have hq1 := ifn hq1 c3
          subst hq1
          exact hAq1 rfl _ _ _ _ _ hM (lv_sub hl [0, 1, 2] rfl)
def fJ14_checkIndex (F : Nat) (h0 : HS) (x0 : Int32) (x1 : Int32) : Option (Int32) := ((fJ11_checkIndex F h0 x0 x1).bind fun r2 => some r2)
theorem hyJ14_checkIndex : yJ14_checkIndex.cls ≠ "java/lang/invoke/MethodHandle" ∧ yJ14_checkIndex.cls ≠ "java/lang/invoke/VarHandle" := by decide +kernel
theorem hlJ14_checkIndex : (parseMethodDescriptor yJ14_checkIndex.desc).map (fun d => d.parameters.length) = some 2 := by decide +kernel
set_option maxHeartbeats 4000000 in
set_option maxRecDepth 100000 in
theorem metJ14_checkIndex (l : Launch) [NoTr l] (F : Nat) (D : va_G) (h0 : HS) (x0 : Int32) (x1 : Int32) (r : Int32) (hF : fJ14_checkIndex F h0 x0 x1 = some r) : CMet l yJ14_checkIndex (ws_ yJ14_checkIndex cJ14_checkIndex 2 (some .int)) 1 22 D [.int x0, .int x1] h0 h0 (.inr (some (.int r))) := by
  refine CMet.ofW (by decide) ?_
  intro p e s m below meth c s₁ B S hX hM hr hlocks hnt hin
  obtain ⟨hx, hb, hml, hown, hts⟩ := id S
  have hl := lv_entry ([.int x0, .int x1]) (n := 2) (Nat.le_of_ble_eq_true rfl)
  rw [lg_entry_eq]
  generalize (lg_sl ([.int x0, .int x1]) ++ List.replicate (2 - (lg_sl ([.int x0, .int x1])).length) Slot.unset).toArray = ls at hl ⊢
  have hl : lv_has ls 2 [(0, .int x0), (1, .int x1)] := hl
  unfold fJ14_checkIndex at hF
  refine lv_iload_n hx hb dJ14_checkIndex_0 rfl (lv_at hl 0 rfl) ?_
  refine lv_iload_n hx hb dJ14_checkIndex_1 rfl (lv_at hl 1 rfl) ?_
  refine lv_null hx hb dJ14_checkIndex_2 ?_
  obtain ⟨r2, er2, hF⟩ := obn hF
  refine ccr (rest := []) (st1 := [.int r2]) S hX hM (metJ11_checkIndex l F D h0 x0 x1 r2 er2) (ci_S (As := [.int x0, .int x1, .null]) (rest := []) S q931 q642 q122 q643 hyJ11_checkIndex hlJ11_checkIndex rfl dJ14_checkIndex_3) q643 q122 (Nat.le_of_ble_eq_true rfl) (Nat.le_of_ble_eq_true rfl) hl.1 (Nat.le_of_ble_eq_true rfl) rfl (fun H locs cs ss hM => ?_)
  have hz := (Option.some.inj hF)
  subst hz
  exact cri S hM hr hlocks dJ14_checkIndex_6
def fJ2_elementData (F : Nat) (h0 : HS) (x0 : Nat) (x1 : Int32) : Option (Nat) := ((fR h0 x0 15 15 1).bind fun a1 => ((fA h0 a1 39 x1).bind fun a2 => some a2))
theorem hyJ2_elementData : yJ2_elementData.cls ≠ "java/lang/invoke/MethodHandle" ∧ yJ2_elementData.cls ≠ "java/lang/invoke/VarHandle" := by decide +kernel
theorem hlJ2_elementData : (parseMethodDescriptor yJ2_elementData.desc).map (fun d => d.parameters.length) = some 1 := by decide +kernel
set_option maxHeartbeats 4000000 in
set_option maxRecDepth 100000 in
theorem metJ2_elementData (l : Launch) [NoTr l] (F : Nat) (D : va_G) (h0 : HS) (x0 : Nat) (x1 : Int32) (r : Nat) (hF : fJ2_elementData F h0 x0 x1 = some r) : CMet l yJ2_elementData (ws_ yJ2_elementData cJ2_elementData 2 (some (.object "java/lang/Object"))) 0 0 D [.ref x0, .int x1] h0 h0 (.inr (some (.ref r))) := by
  refine CMet.ofW (by decide) ?_
  intro p e s m below meth c s₁ B S hX hM hr hlocks hnt hin
  obtain ⟨hx, hb, hml, hown, hts⟩ := id S
  have hl := lv_entry ([.ref x0, .int x1]) (n := 2) (Nat.le_of_ble_eq_true rfl)
  rw [lg_entry_eq]
  generalize (lg_sl ([.ref x0, .int x1]) ++ List.replicate (2 - (lg_sl ([.ref x0, .int x1])).length) Slot.unset).toArray = ls at hl ⊢
  have hl : lv_has ls 2 [(0, .ref x0), (1, .int x1)] := hl
  unfold fJ2_elementData at hF
  refine lv_aload_n hx hb dJ2_elementData_0 rfl (lv_at hl 0 rfl) ?_
  obtain ⟨a1, ea1, hF⟩ := obn hF
  refine cgn S hX hM ea1 ck_15_15_1 q170 (fun _ h => h) dJ2_elementData_1 ?_
  refine lv_iload_n hx hb dJ2_elementData_4 rfl (lv_at hl 1 rfl) ?_
  obtain ⟨a2, ea2, hF⟩ := obn hF
  refine can39 S hX hM ea2 dJ2_elementData_5 ?_
  have hz := (Option.some.inj hF)
  subst hz
  exact cra S hM hr (Or.inl ⟨_, rfl⟩) hlocks dJ2_elementData_6
def fJ2_get (F : Nat) (h0 : HS) (x0 : Nat) (x1 : Int32) : Option (Nat) := ((oI h0 x0 15 15 2).bind fun v1 => ((fJ14_checkIndex F h0 x1 v1).bind fun r2 => gT h0 x0 15 15 (((fJ2_elementData F h0 x0 x1).bind fun r3 => some r3))))
theorem hyJ2_get : yJ2_get.cls ≠ "java/lang/invoke/MethodHandle" ∧ yJ2_get.cls ≠ "java/lang/invoke/VarHandle" := by decide +kernel
theorem hlJ2_get : (parseMethodDescriptor yJ2_get.desc).map (fun d => d.parameters.length) = some 1 := by decide +kernel
set_option maxHeartbeats 4000000 in
set_option maxRecDepth 100000 in
theorem metJ2_get (l : Launch) [NoTr l] (F : Nat) (D : va_G) (h0 : HS) (x0 : Nat) (x1 : Int32) (r : Nat) (hF : fJ2_get F h0 x0 x1 = some r) : CMet l yJ2_get (ws_ yJ2_get cJ2_get 2 (some (.object "java/lang/Object"))) 2 43 D [.ref x0, .int x1] h0 h0 (.inr (some (.ref r))) := by
  refine CMet.ofW (by decide) ?_
  intro p e s m below meth c s₁ B S hX hM hr hlocks hnt hin
  obtain ⟨hx, hb, hml, hown, hts⟩ := id S
  have hl := lv_entry ([.ref x0, .int x1]) (n := 2) (Nat.le_of_ble_eq_true rfl)
  rw [lg_entry_eq]
  generalize (lg_sl ([.ref x0, .int x1]) ++ List.replicate (2 - (lg_sl ([.ref x0, .int x1])).length) Slot.unset).toArray = ls at hl ⊢
  have hl : lv_has ls 2 [(0, .ref x0), (1, .int x1)] := hl
  unfold fJ2_get at hF
  refine lv_iload_n hx hb dJ2_get_0 rfl (lv_at hl 1 rfl) ?_
  refine lv_aload_n hx hb dJ2_get_1 rfl (lv_at hl 0 rfl) ?_
  obtain ⟨v1, ev1, hF⟩ := obn hF
  refine cgi S hX hM ev1 ck_15_15_2 q171 (fun _ h => h) dJ2_get_2 ?_
  obtain ⟨r2, er2, hF⟩ := obn hF
  refine ccr (rest := []) (st1 := [.int r2]) S hX hM (metJ14_checkIndex l F D h0 x1 v1 r2 er2) (ci_S (As := [.int x1, .int v1]) (rest := []) S q928 q929 q126 q930 hyJ14_checkIndex hlJ14_checkIndex rfl dJ2_get_5) q930 q126 (Nat.le_of_ble_eq_true rfl) (Nat.le_of_ble_eq_true rfl) hl.1 (Nat.le_of_ble_eq_true rfl) rfl (fun H locs cs ss hM => ?_)
  refine lv_pop hx hb dJ2_get_8 rfl ?_
  refine lv_aload_n hx hb dJ2_get_9 rfl (lv_at hl 0 rfl) ?_
  refine lv_iload_n hx hb dJ2_get_10 rfl (lv_at hl 1 rfl) ?_
  obtain ⟨z3, hF⟩ := gTe hF
  obtain ⟨r3, er3, hF⟩ := obn hF
  refine ccr (rest := []) (st1 := [.ref r3]) S hX hM (metJ2_elementData l F D h0 x0 x1 r3 er3) (ci_V (C := "java/util/ArrayList") (As := [.int x1]) (rest := []) S q932 q933 q934 q935 hyJ2_elementData (HI.cell (ci := 14) hX hM (by decide) (by omega)) hlJ2_elementData rfl dJ2_get_11) q935 q107 (Nat.le_of_ble_eq_true rfl) (Nat.le_of_ble_eq_true rfl) hl.1 (Nat.le_of_ble_eq_true rfl) rfl (fun H locs cs ss hM => ?_)
  have hz := (Option.some.inj hF)
  subst hz
  exact cra S hM hr (Or.inl ⟨_, rfl⟩) hlocks dJ2_get_14
def lX6_find_2 (F : Nat) (σ : HS) : Nat → Nat → Nat → Int32 → Option ((Unit) ⊕ (Int32))
  | 0, _, _, _ => none
  | n + 1, y0, y1, y2 => gT σ y1 15 15 (((fJ2_size F σ y1).bind fun r1 => (if r1 ≤ y2 then (some (.inl ())) else (gT σ y1 15 15 (((fJ2_get F σ y1 y2).bind fun r3 => gT σ r3 9 10 (((fR σ r3 9 10 0).bind fun a5 => ((fR σ y0 5 7 8).bind fun a6 => gT σ a5 17 17 (((fJ6_equals F σ a5 a6).bind fun r7 => (if r7 = 0 then (lX6_find_2 F σ n y0 y1 (y2 + 1)) else (some (.inr y2))))))))))))))
def fX6_find (F : Nat) (h0 : HS) (x0 : Nat) (x1 : Nat) : Option (Int32) := (osm (lX6_find_2 F h0 F x0 x1 0) id fun q9 => some (-1))
theorem hyX6_find : yX6_find.cls ≠ "java/lang/invoke/MethodHandle" ∧ yX6_find.cls ≠ "java/lang/invoke/VarHandle" := by decide +kernel
theorem hlX6_find : (parseMethodDescriptor yX6_find.desc).map (fun d => d.parameters.length) = some 1 := by decide +kernel
set_option maxHeartbeats 4000000 in
set_option maxRecDepth 100000 in
theorem wlX6_find_2 {p : Program} {l : Launch} [NoTr l] {e : Env} {s : State} {m : MethodId} {args : Array Value} {below : List Frame} {meth : Method} {c : Code} {D : va_G} {h0 : HS} (S : CallFix p m c cX6_find 3 s args lw_all RX6) (hX : CX D (kG h0) s) (σ : HS) (hr : meth.sig.returnType = (some .int)) (hlocks : meth.locks = false) (hnt : ∀ x ∈ c.exceptionTable.toList, False) (F : Nat) (res : Int32) : ∀ (n : Nat) (y0 : Nat) (y1 : Nat) (y2 : Int32) (out : (Unit) ⊕ (Int32)), lX6_find_2 F σ n y0 y1 y2 = some out → (∀ v, out = .inr v → v = res) → (∀ o, out = .inl o → ∀ (H : Heap) (locs : List Loc) (cs ss : Nat) (ls : Array Slot), HI D h0 σ s.heap H locs cs ss → lv_has ls 3 [] → W p l e (cR 3 64 h0) s m args below meth c H locs cs ss (cMQ below D h0 σ (.inr (some (.int res))) args s) (F0 m 39 ls [])) → ∀ (H : Heap) (locs : List Loc) (cs ss : Nat) (ls : Array Slot), HI D h0 σ s.heap H locs cs ss → lv_has ls 3 [(0, .ref y0), (1, .ref y1), (2, .int y2)] → W p l e (cR 3 64 h0) s m args below meth c H locs cs ss (cMQ below D h0 σ (.inr (some (.int res))) args s) (F0 m 2 ls []) := by
  intro n
  induction n with
  | zero =>
    intro y0 y1 y2 out hF
    cases (show (none : Option _) = some out from hF)
  | succ n ih =>
    intro y0 y1 y2 out hF hv hk H locs cs ss ls hM hl
    rw [lX6_find_2] at hF
    obtain ⟨hx, hb, hml, hown, hts⟩ := id S
    refine lv_iload_n hx hb dX6_find_2 rfl (lv_at hl 2 rfl) ?_
    refine lv_aload_n hx hb dX6_find_3 rfl (lv_at hl 1 rfl) ?_
    obtain ⟨z1, hF⟩ := gTe hF
    obtain ⟨r1, er1, hF⟩ := obn hF
    refine ccr (rest := [.int y2]) (st1 := [.int r1, .int y2]) S hX hM (metJ2_size l F D σ y1 r1 er1) (ci_V (C := "java/util/ArrayList") (As := []) (rest := [.int y2]) S q923 q830 q831 q832 hyJ2_size (HI.cell (ci := 14) hX hM (by decide) (by omega)) hlJ2_size rfl dX6_find_4) q832 q107 (Nat.le_of_ble_eq_true rfl) (Nat.le_of_ble_eq_true rfl) hl.1 (Nat.le_of_ble_eq_true rfl) rfl (fun H locs cs ss hM => ?_)
    refine lv_icmp_ge (tgt := 39) hx hb dX6_find_7 (by decide) (fun c2 => ?_) (fun c2 => ?_)
    · have hF := ifp hF c2
      cases hF
      exact hk _ rfl _ _ _ _ _ hM (lv_sub hl [] rfl)
    · have hF := ifn hF c2
      refine lv_aload_n hx hb dX6_find_10 rfl (lv_at hl 1 rfl) ?_
      refine lv_iload_n hx hb dX6_find_11 rfl (lv_at hl 2 rfl) ?_
      obtain ⟨z3, hF⟩ := gTe hF
      obtain ⟨r3, er3, hF⟩ := obn hF
      refine ccr (rest := []) (st1 := [.ref r3]) S hX hM (metJ2_get l F D σ y1 y2 r3 er3) (ci_V (C := "java/util/ArrayList") (As := [.int y2]) (rest := []) S q924 q925 q926 q927 hyJ2_get (HI.cell (ci := 14) hX hM (by decide) (by omega)) hlJ2_get rfl dX6_find_12) q927 q107 (Nat.le_of_ble_eq_true rfl) (Nat.le_of_ble_eq_true rfl) hl.1 (Nat.le_of_ble_eq_true rfl) rfl (fun H locs cs ss hM => ?_)
      obtain ⟨z4, hF⟩ := gTe hF
      refine ccy2 (ci := 8) S hX hM (by decide) z4 q936 (uq2355 hX) (uq2356 hX) dX6_find_15 ?_
      obtain ⟨a5, ea5, hF⟩ := obn hF
      refine cgn S hX hM ea5 ck_9_10_0 q959 (fun _ h => h) dX6_find_18 ?_
      refine lv_aload_n hx hb dX6_find_21 rfl (lv_at hl 0 rfl) ?_
      obtain ⟨a6, ea6, hF⟩ := obn hF
      refine cgn S hX hM ea6 ck_5_7_8 q472 (fun _ h => h) dX6_find_22 ?_
      obtain ⟨z7, hF⟩ := gTe hF
      obtain ⟨r7, er7, hF⟩ := obn hF
      refine ccr (rest := []) (st1 := [.int r7]) S hX hM (metJ6_equals l F D σ a5 a6 r7 er7) (ci_V (C := "java/lang/String") (As := [.ref a6]) (rest := []) S q716 q717 q718 q719 hyJ6_equals (HI.cell (ci := 16) hX hM (by decide) (by omega)) hlJ6_equals rfl dX6_find_25) q719 q116 (Nat.le_of_ble_eq_true rfl) (Nat.le_of_ble_eq_true rfl) hl.1 (Nat.le_of_ble_eq_true rfl) rfl (fun H locs cs ss hM => ?_)
      refine lv_if_eq (tgt := 33) hx hb dX6_find_28 (by decide) (fun c8 => ?_) (fun c8 => ?_)
      · have hF := ifp hF c8
        refine lv_iinc (v := y2 + 1) (lv' := [(2, .int (y2 + 1)), (0, .ref y0), (1, .ref y1)]) hx hb dX6_find_33 hl (k := 2) rfl rfl (by decide) rfl (fun ls hl => ?_)
        refine lv_goto (tgt := 2) hx hb dX6_find_36 (by decide) ?_
        exact ih _ _ _ out hF hv hk _ _ _ _ _ hM (lv_sub hl [1, 2, 0] rfl)
      · have hF := ifn hF c8
        refine lv_iload_n hx hb dX6_find_31 rfl (lv_at hl 2 rfl) ?_
        have hz := (hv _ ((Option.some.inj hF)).symm)
        subst hz
        exact cri S hM hr hlocks dX6_find_32
set_option maxHeartbeats 4000000 in
set_option maxRecDepth 100000 in
theorem metX6_find (l : Launch) [NoTr l] (F : Nat) (D : va_G) (h0 : HS) (x0 : Nat) (x1 : Nat) (r : Int32) (hF : fX6_find F h0 x0 x1 = some r) : CMet l yX6_find (ws_ yX6_find cX6_find 3 (some .int)) 3 64 D [.ref x0, .ref x1] h0 h0 (.inr (some (.int r))) := by
  refine CMet.ofW (by decide) ?_
  intro p e s m below meth c s₁ B S hX hM hr hlocks hnt hin
  obtain ⟨hx, hb, hml, hown, hts⟩ := id S
  have hl := lv_entry ([.ref x0, .ref x1]) (n := 3) (Nat.le_of_ble_eq_true rfl)
  rw [lg_entry_eq]
  generalize (lg_sl ([.ref x0, .ref x1]) ++ List.replicate (3 - (lg_sl ([.ref x0, .ref x1])).length) Slot.unset).toArray = ls at hl ⊢
  have hl : lv_has ls 3 [(0, .ref x0), (1, .ref x1)] := hl
  unfold fX6_find at hF
  refine lv_iconst (v := 0) hx hb dX6_find_0 rfl ?_
  refine lv_istore_n (lv' := [(2, .int 0), (0, .ref x0), (1, .ref x1)]) hx hb dX6_find_1 rfl hl (by decide) rfl (fun ls hl => ?_)
  obtain ⟨oq9, hq9, h1q9, h2q9⟩ := osx hF
  refine wlX6_find_2 S hX _ hr hlocks hnt F _  F _ _ _ oq9 hq9 (fun v e => (h2q9 v e)) (fun q9 eq9 H locs cs ss ls hM hl => ?_) _ _ _ _ _ hM (lv_sub hl [1, 2, 0] rfl)
  have hF := h1q9 _ eq9
  refine lv_iconst (v := (-1)) hx hb dX6_find_39 rfl ?_
  have hz := (Option.some.inj hF)
  subst hz
  exact cri S hM hr hlocks dX6_find_40
def fX7_fresh (F : Nat) (h0 : HS) (x0 : Nat) : Option ((Nat ⊕ Nat) × HS) := gT h0 x0 5 5 (((fX6_isName F h0 x0).bind fun r1 => gT r1.2 x0 5 5 (((fX6_need F r1.2 x0 r1.1 1).bind fun r2 => thr r2.1 (fun b2 => some (.inl b2, r2.2)) fun w2 => ((fR r2.2 x0 5 5 9).bind fun a3 => ((fR r2.2 a3 2 2 5).bind fun a4 => gT r2.2 x0 5 5 (((fX6_find F r2.2 x0 a4).bind fun r5 => ((if r5 = (-1) then ((fR r2.2 x0 5 5 9).bind fun a8 => ((fR r2.2 a8 2 2 6).bind fun a9 => gT r2.2 x0 5 5 (((fX6_find F r2.2 x0 a9).bind fun r10 => (if r10 = (-1) then (some false) else (some true)))))) else (some true)).bind fun q6 => (if q6 = true then (gT r2.2 x0 5 5 (((fX6_need F r2.2 x0 0 3).bind fun r12 => thr r12.1 (fun b12 => some (.inl b12, r12.2)) fun w12 => ((fR r12.2 x0 5 5 8).bind fun a13 => gT r12.2 x0 5 5 (((fX6_go F r12.2 x0).bind fun r14 => some (.inr a13, r14))))))) else (gT r2.2 x0 5 5 (((fX6_need F r2.2 x0 1 3).bind fun r15 => thr r15.1 (fun b15 => some (.inl b15, r15.2)) fun w15 => ((fR r15.2 x0 5 5 8).bind fun a16 => gT r15.2 x0 5 5 (((fX6_go F r15.2 x0).bind fun r17 => some (.inr a16, r17)))))))))))))))))
theorem hyX7_fresh : yX7_fresh.cls ≠ "java/lang/invoke/MethodHandle" ∧ yX7_fresh.cls ≠ "java/lang/invoke/VarHandle" := by decide +kernel
theorem hlX7_fresh : (parseMethodDescriptor yX7_fresh.desc).map (fun d => d.parameters.length) = some 0 := by decide +kernel
set_option maxHeartbeats 4000000 in
set_option maxRecDepth 100000 in
theorem metX7_fresh (l : Launch) [NoTr l] (F : Nat) (D : va_G) (h0 : HS) (x0 : Nat) (r : (Nat ⊕ Nat) × HS) (hF : fX7_fresh F h0 x0 = some r) : CMet l yX7_fresh (ws_ yX7_fresh cX7_fresh 2 (some (.object "java/lang/String"))) 10 244 D [.ref x0] h0 r.2 (xr r.1) := by
  refine CMet.ofW (by decide) ?_
  intro p e s m below meth c s₁ B S hX hM hr hlocks hnt hin
  obtain ⟨hx, hb, hml, hown, hts⟩ := id S
  have hl := lv_entry ([.ref x0]) (n := 2) (Nat.le_of_ble_eq_true rfl)
  rw [lg_entry_eq]
  generalize (lg_sl ([.ref x0]) ++ List.replicate (2 - (lg_sl ([.ref x0])).length) Slot.unset).toArray = ls at hl ⊢
  have hl : lv_has ls 2 [(0, .ref x0)] := hl
  unfold fX7_fresh at hF
  refine lv_aload_n hx hb dX7_fresh_0 rfl (lv_at hl 0 rfl) ?_
  refine lv_aload_n hx hb dX7_fresh_1 rfl (lv_at hl 0 rfl) ?_
  obtain ⟨z1, hF⟩ := gTe hF
  obtain ⟨r1, er1, hF⟩ := obn hF
  refine ccr (rest := [.ref x0]) (st1 := [.int r1.1, .ref x0]) S hX hM (metX6_isName l F D h0 x0 r1 er1) (ci_U (C := "RugReader$HouseReader") (As := []) (rest := [.ref x0]) S q837 q838 rfl q841 q840 q842 hyX6_isName (HI.cell (ci := 4) hX hM (by decide) (by omega)) hlX6_isName rfl dX7_fresh_2) q842 q112 (Nat.le_of_ble_eq_true rfl) (Nat.le_of_ble_eq_true rfl) hl.1 (Nat.le_of_ble_eq_true rfl) rfl (fun H locs cs ss hM => ?_)
  refine lv_iconst (v := 1) hx hb dX7_fresh_5 rfl ?_
  obtain ⟨z2, hF⟩ := gTe hF
  obtain ⟨r2, er2, hF⟩ := obn hF
  refine cctv (rest := []) S hX hM (metX6_need l F D r1.2 x0 r1.1 1 r2 er2) (ci_U (C := "RugReader$HouseReader") (As := [.int r1.1, .int 1]) (rest := []) S q735 q736 rfl q739 q738 q740 hyX6_need (HI.cell (ci := 4) hX hM (by decide) (by omega)) hlX6_need rfl dX7_fresh_6) q740 q112 (Nat.le_of_ble_eq_true rfl) (Nat.le_of_ble_eq_true rfl) hl.1 (Nat.le_of_ble_eq_true rfl) (fun w2 ew2 H locs cs ss hM => ?_) (fun b2 eb2 H locs cs ss hM => ?_)
  · have hF := thr_r hF ew2
    refine lv_aload_n hx hb dX7_fresh_9 rfl (lv_at hl 0 rfl) ?_
    refine lv_aload_n hx hb dX7_fresh_10 rfl (lv_at hl 0 rfl) ?_
    refine lv_aload_n hx hb dX7_fresh_11 rfl (lv_at hl 0 rfl) ?_
    obtain ⟨a3, ea3, hF⟩ := obn hF
    refine cgn S hX hM ea3 ck_5_5_9 q454 (fun _ h => h) dX7_fresh_12 ?_
    obtain ⟨a4, ea4, hF⟩ := obn hF
    refine cgnN S hX hM ea4 ck_2_2_5 (uq202 hX) dX7_fresh_15 ?_
    obtain ⟨z5, hF⟩ := gTe hF
    obtain ⟨r5, er5, hF⟩ := obn hF
    refine ccr (rest := [.ref x0]) (st1 := [.int r5, .ref x0]) S hX hM (metX6_find l F D r2.2 x0 a4 r5 er5) (ci_U (C := "RugReader$HouseReader") (As := [.ref a4]) (rest := [.ref x0]) S q917 q918 rfl q921 q920 q922 hyX6_find (HI.cell (ci := 4) hX hM (by decide) (by omega)) hlX6_find rfl dX7_fresh_18) q922 q112 (Nat.le_of_ble_eq_true rfl) (Nat.le_of_ble_eq_true rfl) hl.1 (Nat.le_of_ble_eq_true rfl) rfl (fun H locs cs ss hM => ?_)
    refine lv_iconst (v := (-1)) hx hb dX7_fresh_21 rfl ?_
    obtain ⟨q6, hq6, hF⟩ := obn hF
    refine cjnc (C := q6 = true) (I := HI D h0 r2.2 s.heap) (nJ := 2) (lvJ := [(0, .ref x0)]) (J := 44) (stJ := [.ref x0]) ?_ ?_
    · intro cq6 H locs cs ss ls hM hl
      have hF := ifp hF cq6
      refine lv_iconst (v := 0) hx hb dX7_fresh_44 rfl ?_
      refine lv_iconst (v := 3) hx hb dX7_fresh_45 rfl ?_
      obtain ⟨z12, hF⟩ := gTe hF
      obtain ⟨r12, er12, hF⟩ := obn hF
      refine cctv (rest := []) S hX hM (metX6_need l F D r2.2 x0 0 3 r12 er12) (ci_U (C := "RugReader$HouseReader") (As := [.int 0, .int 3]) (rest := []) S q735 q736 rfl q739 q738 q740 hyX6_need (HI.cell (ci := 4) hX hM (by decide) (by omega)) hlX6_need rfl dX7_fresh_46) q740 q112 (Nat.le_of_ble_eq_true rfl) (Nat.le_of_ble_eq_true rfl) hl.1 (Nat.le_of_ble_eq_true rfl) (fun w12 ew12 H locs cs ss hM => ?_) (fun b12 eb12 H locs cs ss hM => ?_)
      · have hF := thr_r hF ew12
        refine lv_aload_n hx hb dX7_fresh_49 rfl (lv_at hl 0 rfl) ?_
        obtain ⟨a13, ea13, hF⟩ := obn hF
        refine cgn S hX hM ea13 ck_5_5_8 q473 (u_same (hts _ q474)) dX7_fresh_50 ?_
        refine lv_astore_n (lv' := [(1, .ref a13), (0, .ref x0)]) hx hb dX7_fresh_53 rfl hl (by decide) rfl (fun ls hl => ?_)
        refine lv_aload_n hx hb dX7_fresh_54 rfl (lv_at hl 1 rfl) ?_
        obtain ⟨z14, hF⟩ := gTe hF
        obtain ⟨r14, er14, hF⟩ := obn hF
        refine ccr (rest := []) (st1 := []) S hX hM (metX6_go l F D r12.2 x0 r14 er14) (ci_U (C := "RugReader$HouseReader") (As := []) (rest := []) S q502 q503 rfl q506 q505 q507 hyX6_go (HI.cell (ci := 4) hX hM (by decide) (by omega)) hlX6_go rfl dX7_fresh_55) q507 q112 (Nat.le_of_ble_eq_true rfl) (Nat.le_of_ble_eq_true rfl) hl.1 (Nat.le_of_ble_eq_true rfl) rfl (fun H locs cs ss hM => ?_)
        refine lv_aload_n hx hb dX7_fresh_58 rfl (lv_at hl 0 rfl) ?_
        have hz := (Option.some.inj hF)
        subst hz
        exact cra S hM hr (Or.inl ⟨_, rfl⟩) hlocks dX7_fresh_59
      · have hF := thr_q hF eb12
        have hz := (Option.some.inj hF)
        subst hz
        exact cxout hM (fun x hx => (hnt x hx).elim) hlocks
    · intro hAq6
      refine cjnc (C := q6 = false) (I := HI D h0 r2.2 s.heap) (nJ := 2) (lvJ := [(0, .ref x0)]) (J := 40) (stJ := [.ref x0]) ?_ ?_
      · intro cq6 H locs cs ss ls hM hl
        have hF := ifn hF (by rw [cq6]; decide)
        refine lv_iconst (v := 1) hx hb dX7_fresh_40 rfl ?_
        refine lv_goto (tgt := 45) hx hb dX7_fresh_41 (by decide) ?_
        refine lv_iconst (v := 3) hx hb dX7_fresh_45 rfl ?_
        obtain ⟨z15, hF⟩ := gTe hF
        obtain ⟨r15, er15, hF⟩ := obn hF
        refine cctv (rest := []) S hX hM (metX6_need l F D r2.2 x0 1 3 r15 er15) (ci_U (C := "RugReader$HouseReader") (As := [.int 1, .int 3]) (rest := []) S q735 q736 rfl q739 q738 q740 hyX6_need (HI.cell (ci := 4) hX hM (by decide) (by omega)) hlX6_need rfl dX7_fresh_46) q740 q112 (Nat.le_of_ble_eq_true rfl) (Nat.le_of_ble_eq_true rfl) hl.1 (Nat.le_of_ble_eq_true rfl) (fun w15 ew15 H locs cs ss hM => ?_) (fun b15 eb15 H locs cs ss hM => ?_)
        · have hF := thr_r hF ew15
          refine lv_aload_n hx hb dX7_fresh_49 rfl (lv_at hl 0 rfl) ?_
          obtain ⟨a16, ea16, hF⟩ := obn hF
          refine cgn S hX hM ea16 ck_5_5_8 q473 (u_same (hts _ q474)) dX7_fresh_50 ?_
          refine lv_astore_n (lv' := [(1, .ref a16), (0, .ref x0)]) hx hb dX7_fresh_53 rfl hl (by decide) rfl (fun ls hl => ?_)
          refine lv_aload_n hx hb dX7_fresh_54 rfl (lv_at hl 1 rfl) ?_
          obtain ⟨z17, hF⟩ := gTe hF
          obtain ⟨r17, er17, hF⟩ := obn hF
          refine ccr (rest := []) (st1 := []) S hX hM (metX6_go l F D r15.2 x0 r17 er17) (ci_U (C := "RugReader$HouseReader") (As := []) (rest := []) S q502 q503 rfl q506 q505 q507 hyX6_go (HI.cell (ci := 4) hX hM (by decide) (by omega)) hlX6_go rfl dX7_fresh_55) q507 q112 (Nat.le_of_ble_eq_true rfl) (Nat.le_of_ble_eq_true rfl) hl.1 (Nat.le_of_ble_eq_true rfl) rfl (fun H locs cs ss hM => ?_)
          refine lv_aload_n hx hb dX7_fresh_58 rfl (lv_at hl 0 rfl) ?_
          have hz := (Option.some.inj hF)
          subst hz
          exact cra S hM hr (Or.inl ⟨_, rfl⟩) hlocks dX7_fresh_59
        · have hF := thr_q hF eb15
          have hz := (Option.some.inj hF)
          subst hz
          exact cxout hM (fun x hx => (hnt x hx).elim) hlocks
      · intro hBq6
        refine lv_icmp_ne (tgt := 44) hx hb dX7_fresh_22 (by decide) (fun c7 => ?_) (fun c7 => ?_)
        · have hq6 := ifn hq6 c7
          cases hq6
          exact hAq6 rfl _ _ _ _ _ hM (lv_sub hl [0] rfl)
        · have hq6 := ifp hq6 c7
          refine lv_aload_n hx hb dX7_fresh_25 rfl (lv_at hl 0 rfl) ?_
          refine lv_aload_n hx hb dX7_fresh_26 rfl (lv_at hl 0 rfl) ?_
          obtain ⟨a8, ea8, hq6⟩ := obn hq6
          refine cgn S hX hM ea8 ck_5_5_9 q454 (fun _ h => h) dX7_fresh_27 ?_
          obtain ⟨a9, ea9, hq6⟩ := obn hq6
          refine cgnN S hX hM ea9 ck_2_2_6 (uq209 hX) dX7_fresh_30 ?_
          obtain ⟨z10, hq6⟩ := gTe hq6
          obtain ⟨r10, er10, hq6⟩ := obn hq6
          refine ccr (rest := [.ref x0]) (st1 := [.int r10, .ref x0]) S hX hM (metX6_find l F D r2.2 x0 a9 r10 er10) (ci_U (C := "RugReader$HouseReader") (As := [.ref a9]) (rest := [.ref x0]) S q917 q918 rfl q921 q920 q922 hyX6_find (HI.cell (ci := 4) hX hM (by decide) (by omega)) hlX6_find rfl dX7_fresh_33) q922 q112 (Nat.le_of_ble_eq_true rfl) (Nat.le_of_ble_eq_true rfl) hl.1 (Nat.le_of_ble_eq_true rfl) rfl (fun H locs cs ss hM => ?_)
          refine lv_iconst (v := (-1)) hx hb dX7_fresh_36 rfl ?_
          refine lv_icmp_ne (tgt := 44) hx hb dX7_fresh_37 (by decide) (fun c11 => ?_) (fun c11 => ?_)
          · have hq6 := ifn hq6 c11
            cases hq6
            exact hAq6 rfl _ _ _ _ _ hM (lv_sub hl [0] rfl)
          · have hq6 := ifp hq6 c11
            cases hq6
            exact hBq6 rfl _ _ _ _ _ hM (lv_sub hl [0] rfl)
  · have hF := thr_q hF eb2
    have hz := (Option.some.inj hF)
    subst hz
    exact cxout hM (fun x hx => (hnt x hx).elim) hlocks
def fX9_init (F : Nat) (h0 : HS) (x0 : Nat) (x1 : Nat) : Option (HS) := ((pR h0 x0 9 10 0 (some x1)).bind fun σ2 => some σ2)
theorem hyX9_init : yX9_init.cls ≠ "java/lang/invoke/MethodHandle" ∧ yX9_init.cls ≠ "java/lang/invoke/VarHandle" := by decide +kernel
theorem hlX9_init : (parseMethodDescriptor yX9_init.desc).map (fun d => d.parameters.length) = some 1 := by decide +kernel
set_option maxHeartbeats 4000000 in
set_option maxRecDepth 100000 in
theorem metX9_init (l : Launch) [NoTr l] (F : Nat) (D : va_G) (h0 : HS) (x0 : Nat) (x1 : Nat) (r : HS) (hF : fX9_init F h0 x0 x1 = some r) : CMet l yX9_init (ws_ yX9_init cX9_init 2 none) 1 20 D [.ref x0, .ref x1] h0 r (.inr none) := by
  refine CMet.ofW (by decide) ?_
  intro p e s m below meth c s₁ B S hX hM hr hlocks hnt hin
  obtain ⟨hx, hb, hml, hown, hts⟩ := id S
  have hl := lv_entry ([.ref x0, .ref x1]) (n := 2) (Nat.le_of_ble_eq_true rfl)
  rw [lg_entry_eq]
  generalize (lg_sl ([.ref x0, .ref x1]) ++ List.replicate (2 - (lg_sl ([.ref x0, .ref x1])).length) Slot.unset).toArray = ls at hl ⊢
  have hl : lv_has ls 2 [(0, .ref x0), (1, .ref x1)] := hl
  unfold fX9_init at hF
  refine lv_aload_n hx hb dX9_init_0 rfl (lv_at hl 0 rfl) ?_
  refine cobj S q945 q148 q149 hl.1 (Nat.le_of_ble_eq_true rfl) dX9_init_1 (Nat.le_of_ble_eq_true rfl) (Nat.le_of_ble_eq_true rfl) ?_
  refine lv_aload_n hx hb dX9_init_4 rfl (lv_at hl 0 rfl) ?_
  refine lv_aload_n hx hb dX9_init_5 rfl (lv_at hl 1 rfl) ?_
  obtain ⟨σ2, eσ2, hF⟩ := obn hF
  refine cprF (v := (some x1)) S hX hM eσ2 ck_9_10_0 cw_9_10_0 rfl q958 hin dX9_init_6 (fun H locs hM => ?_)
  have hz := (Option.some.inj hF)
  subst hz
  exact crv S hM hr hlocks dX9_init_9
def fX10_init (F : Nat) (h0 : HS) (x0 : Nat) (x1 : Nat) (x2 : Int32) (x3 : Int32) (x4 : Int32) : Option (HS) := ((fX9_init F h0 x0 x1).bind fun r1 => ((pI r1 x0 9 9 1 x2).bind fun σ2 => ((pI σ2 x0 9 9 2 x3).bind fun σ3 => ((pI σ3 x0 9 9 3 x4).bind fun σ4 => some σ4))))
theorem hyX10_init : yX10_init.cls ≠ "java/lang/invoke/MethodHandle" ∧ yX10_init.cls ≠ "java/lang/invoke/VarHandle" := by decide +kernel
theorem hlX10_init : (parseMethodDescriptor yX10_init.desc).map (fun d => d.parameters.length) = some 4 := by decide +kernel
set_option maxHeartbeats 4000000 in
set_option maxRecDepth 100000 in
theorem metX10_init (l : Launch) [NoTr l] (F : Nat) (D : va_G) (h0 : HS) (x0 : Nat) (x1 : Nat) (x2 : Int32) (x3 : Int32) (x4 : Int32) (r : HS) (hF : fX10_init F h0 x0 x1 x2 x3 x4 = some r) : CMet l yX10_init (ws_ yX10_init cX10_init 5 none) 2 41 D [.ref x0, .ref x1, .int x2, .int x3, .int x4] h0 r (.inr none) := by
  refine CMet.ofW (by decide) ?_
  intro p e s m below meth c s₁ B S hX hM hr hlocks hnt hin
  obtain ⟨hx, hb, hml, hown, hts⟩ := id S
  have hl := lv_entry ([.ref x0, .ref x1, .int x2, .int x3, .int x4]) (n := 5) (Nat.le_of_ble_eq_true rfl)
  rw [lg_entry_eq]
  generalize (lg_sl ([.ref x0, .ref x1, .int x2, .int x3, .int x4]) ++ List.replicate (5 - (lg_sl ([.ref x0, .ref x1, .int x2, .int x3, .int x4])).length) Slot.unset).toArray = ls at hl ⊢
  have hl : lv_has ls 5 [(0, .ref x0), (1, .ref x1), (2, .int x2), (3, .int x3), (4, .int x4)] := hl
  unfold fX10_init at hF
  refine lv_aload_n hx hb dX10_init_0 rfl (lv_at hl 0 rfl) ?_
  refine lv_aload_n hx hb dX10_init_1 rfl (lv_at hl 1 rfl) ?_
  obtain ⟨r1, er1, hF⟩ := obn hF
  refine ccr (rest := []) (st1 := []) S hX hM (metX9_init l F D h0 x0 x1 r1 er1) (ci_I (As := [.ref x1]) (rest := []) S rfl q942 q943 q944 hyX9_init hlX9_init rfl dX10_init_2) q944 q127 (Nat.le_of_ble_eq_true rfl) (Nat.le_of_ble_eq_true rfl) hl.1 (Nat.le_of_ble_eq_true rfl) rfl (fun H locs cs ss hM => ?_)
  refine lv_aload_n hx hb dX10_init_5 rfl (lv_at hl 0 rfl) ?_
  refine lv_iload_n hx hb dX10_init_6 rfl (lv_at hl 2 rfl) ?_
  obtain ⟨σ2, eσ2, hF⟩ := obn hF
  refine cpiF S hX hM eσ2 ck_9_9_1 cw_9_9_1 rfl rfl q946 hin dX10_init_7 (fun H locs hM => ?_)
  refine lv_aload_n hx hb dX10_init_10 rfl (lv_at hl 0 rfl) ?_
  refine lv_iload_n hx hb dX10_init_11 rfl (lv_at hl 3 rfl) ?_
  obtain ⟨σ3, eσ3, hF⟩ := obn hF
  refine cpiF S hX hM eσ3 ck_9_9_2 cw_9_9_2 rfl rfl q950 hin dX10_init_12 (fun H locs hM => ?_)
  refine lv_aload_n hx hb dX10_init_15 rfl (lv_at hl 0 rfl) ?_
  refine lv_iload hx hb dX10_init_16 (lv_at hl 4 rfl) ?_
  obtain ⟨σ4, eσ4, hF⟩ := obn hF
  refine cpiF S hX hM eσ4 ck_9_9_3 cw_9_9_3 rfl rfl q954 hin dX10_init_18 (fun H locs hM => ?_)
  have hz := (Option.some.inj hF)
  subst hz
  exact crv S hM hr hlocks dX10_init_21
def fJ3_copyOf_3 (F : Nat) (h0 : HS) (x0 : Nat) (x1 : Int32) (x2 : Nat) : Option (Nat) := none
theorem hyJ3_copyOf_3 : yJ3_copyOf_3.cls ≠ "java/lang/invoke/MethodHandle" ∧ yJ3_copyOf_3.cls ≠ "java/lang/invoke/VarHandle" := by decide +kernel
theorem hlJ3_copyOf_3 : (parseMethodDescriptor yJ3_copyOf_3.desc).map (fun d => d.parameters.length) = some 3 := by decide +kernel
set_option maxHeartbeats 4000000 in
set_option maxRecDepth 100000 in
theorem metJ3_copyOf_3 (l : Launch) [NoTr l] (F : Nat) (D : va_G) (h0 : HS) (x0 : Nat) (x1 : Int32) (x2 : Nat) (r : Nat) (hF : fJ3_copyOf_3 F h0 x0 x1 x2 = some r) : CMet l yJ3_copyOf_3 (ws_ yJ3_copyOf_3 cJ3_copyOf_3 4 (some (.array (.object "java/lang/Object")))) 2 60 D [.ref x0, .int x1, .ref x2] h0 h0 (.inr (some (.ref r))) := by
  refine CMet.ofW (by decide) ?_
  intro p e s m below meth c s₁ B S hX hM hr hlocks hnt hin
  obtain ⟨hx, hb, hml, hown, hts⟩ := id S
  have hl := lv_entry ([.ref x0, .int x1, .ref x2]) (n := 4) (Nat.le_of_ble_eq_true rfl)
  rw [lg_entry_eq]
  generalize (lg_sl ([.ref x0, .int x1, .ref x2]) ++ List.replicate (4 - (lg_sl ([.ref x0, .int x1, .ref x2])).length) Slot.unset).toArray = ls at hl ⊢
  have hl : lv_has ls 4 [(0, .ref x0), (1, .int x1), (2, .ref x2)] := hl
  unfold fJ3_copyOf_3 at hF
  refine lv_aload_n hx hb dJ3_copyOf_3_0 rfl (lv_at hl 2 rfl) ?_
  cases hF
def fJ3_copyOf_2 (F : Nat) (h0 : HS) (x0 : Nat) (x1 : Int32) : Option (Nat) := none
theorem hyJ3_copyOf_2 : yJ3_copyOf_2.cls ≠ "java/lang/invoke/MethodHandle" ∧ yJ3_copyOf_2.cls ≠ "java/lang/invoke/VarHandle" := by decide +kernel
theorem hlJ3_copyOf_2 : (parseMethodDescriptor yJ3_copyOf_2.desc).map (fun d => d.parameters.length) = some 2 := by decide +kernel
set_option maxHeartbeats 4000000 in
set_option maxRecDepth 100000 in
theorem metJ3_copyOf_2 (l : Launch) [NoTr l] (F : Nat) (D : va_G) (h0 : HS) (x0 : Nat) (x1 : Int32) (r : Nat) (hF : fJ3_copyOf_2 F h0 x0 x1 = some r) : CMet l yJ3_copyOf_2 (ws_ yJ3_copyOf_2 cJ3_copyOf_2 2 (some (.array (.object "java/lang/Object")))) 3 83 D [.ref x0, .int x1] h0 h0 (.inr (some (.ref r))) := by
  refine CMet.ofW (by decide) ?_
  intro p e s m below meth c s₁ B S hX hM hr hlocks hnt hin
  obtain ⟨hx, hb, hml, hown, hts⟩ := id S
  have hl := lv_entry ([.ref x0, .int x1]) (n := 2) (Nat.le_of_ble_eq_true rfl)
  rw [lg_entry_eq]
  generalize (lg_sl ([.ref x0, .int x1]) ++ List.replicate (2 - (lg_sl ([.ref x0, .int x1])).length) Slot.unset).toArray = ls at hl ⊢
  have hl : lv_has ls 2 [(0, .ref x0), (1, .int x1)] := hl
  unfold fJ3_copyOf_2 at hF
  refine lv_aload_n hx hb dJ3_copyOf_2_0 rfl (lv_at hl 0 rfl) ?_
  refine lv_iload_n hx hb dJ3_copyOf_2_1 rfl (lv_at hl 1 rfl) ?_
  refine lv_aload_n hx hb dJ3_copyOf_2_2 rfl (lv_at hl 0 rfl) ?_
  cases hF
def fJ2_grow_2 (F : Nat) (h0 : HS) (x0 : Nat) (x1 : Int32) : Option (Nat × HS) := ((fR h0 x0 15 15 1).bind fun a1 => ((aL h0 a1 39 39).bind fun v2 => (if 0 < v2 then ((fJ8_newLength F h0 v2 (x1 - v2) (v2 >>> (1 &&& 31))).bind fun r4 => ((fR h0 x0 15 15 1).bind fun a5 => ((fJ3_copyOf_2 F h0 a5 r4).bind fun r6 => ((pR h0 x0 15 15 1 (some r6)).bind fun σ7 => some (r6, σ7))))) else ((fR h0 x0 15 15 1).bind fun a8 => (if (some a8 : Option Nat) = some (kG h0 12) then ((nA h0 39 (imax 10 x1)).bind fun r12 => ((pR r12.2 x0 15 15 1 (some r12.1)).bind fun σ13 => some (r12.1, σ13))) else ((fJ8_newLength F h0 v2 (x1 - v2) (v2 >>> (1 &&& 31))).bind fun r14 => ((fR h0 x0 15 15 1).bind fun a15 => ((fJ3_copyOf_2 F h0 a15 r14).bind fun r16 => ((pR h0 x0 15 15 1 (some r16)).bind fun σ17 => some (r16, σ17))))))))))
theorem hyJ2_grow_2 : yJ2_grow_2.cls ≠ "java/lang/invoke/MethodHandle" ∧ yJ2_grow_2.cls ≠ "java/lang/invoke/VarHandle" := by decide +kernel
theorem hlJ2_grow_2 : (parseMethodDescriptor yJ2_grow_2.desc).map (fun d => d.parameters.length) = some 1 := by decide +kernel
set_option maxHeartbeats 4000000 in
set_option maxRecDepth 100000 in
theorem metJ2_grow_2 (l : Launch) [NoTr l] (F : Nat) (D : va_G) (h0 : HS) (x0 : Nat) (x1 : Int32) (r : Nat × HS) (hF : fJ2_grow_2 F h0 x0 x1 = some r) : CMet l yJ2_grow_2 (ws_ yJ2_grow_2 cJ2_grow_2 4 (some (.array (.object "java/lang/Object")))) 4 104 D [.ref x0, .int x1] h0 r.2 (.inr (some (.ref r.1))) := by
  refine CMet.ofW (by decide) ?_
  intro p e s m below meth c s₁ B S hX hM hr hlocks hnt hin
  obtain ⟨hx, hb, hml, hown, hts⟩ := id S
  have hl := lv_entry ([.ref x0, .int x1]) (n := 4) (Nat.le_of_ble_eq_true rfl)
  rw [lg_entry_eq]
  generalize (lg_sl ([.ref x0, .int x1]) ++ List.replicate (4 - (lg_sl ([.ref x0, .int x1])).length) Slot.unset).toArray = ls at hl ⊢
  have hl : lv_has ls 4 [(0, .ref x0), (1, .int x1)] := hl
  unfold fJ2_grow_2 at hF
  refine lv_aload_n hx hb dJ2_grow_2_0 rfl (lv_at hl 0 rfl) ?_
  obtain ⟨a1, ea1, hF⟩ := obn hF
  refine cgn S hX hM ea1 ck_15_15_1 q170 (fun _ h => h) dJ2_grow_2_1 ?_
  obtain ⟨v2, ev2, hF⟩ := obn hF
  refine cal S hX hM ev2 (by decide) (by decide) dJ2_grow_2_4 ?_
  refine lv_istore_n (lv' := [(2, .int v2), (0, .ref x0), (1, .int x1)]) hx hb dJ2_grow_2_5 rfl hl (by decide) rfl (fun ls hl => ?_)
  refine lv_iload_n hx hb dJ2_grow_2_6 rfl (lv_at hl 0 rfl) ?_
  refine lv_if_gt (tgt := 20) hx hb dJ2_grow_2_7 (by decide) (fun c3 => ?_) (fun c3 => ?_)
  · have hF := ifp hF c3
    refine lv_iload_n hx hb dJ2_grow_2_20 rfl (lv_at hl 0 rfl) ?_
    refine lv_iload_n hx hb dJ2_grow_2_21 rfl (lv_at hl 2 rfl) ?_
    refine lv_iload_n hx hb dJ2_grow_2_22 rfl (lv_at hl 0 rfl) ?_
    refine lv_isub hx hb dJ2_grow_2_23 ?_
    refine lv_iload_n hx hb dJ2_grow_2_24 rfl (lv_at hl 0 rfl) ?_
    refine lv_iconst (v := 1) hx hb dJ2_grow_2_25 rfl ?_
    refine lv_ishr hx hb dJ2_grow_2_26 ?_
    obtain ⟨r4, er4, hF⟩ := obn hF
    refine ccr (rest := []) (st1 := [.int r4]) S hX hM (metJ8_newLength l F D h0 v2 (x1 - v2) (v2 >>> (1 &&& 31)) r4 er4) (ci_S (As := [.int v2, .int (x1 - v2), .int (v2 >>> (1 &&& 31))]) (rest := []) S q985 q565 q118 q566 hyJ8_newLength hlJ8_newLength rfl dJ2_grow_2_27) q566 q118 (Nat.le_of_ble_eq_true rfl) (Nat.le_of_ble_eq_true rfl) hl.1 (Nat.le_of_ble_eq_true rfl) rfl (fun H locs cs ss hM => ?_)
    refine lv_istore_n (lv' := [(3, .int r4), (2, .int v2), (0, .ref x0), (1, .int x1)]) hx hb dJ2_grow_2_30 rfl hl (by decide) rfl (fun ls hl => ?_)
    refine lv_aload_n hx hb dJ2_grow_2_31 rfl (lv_at hl 2 rfl) ?_
    refine lv_aload_n hx hb dJ2_grow_2_32 rfl (lv_at hl 2 rfl) ?_
    obtain ⟨a5, ea5, hF⟩ := obn hF
    refine cgn S hX hM ea5 ck_15_15_1 q170 (fun _ h => h) dJ2_grow_2_33 ?_
    refine lv_iload_n hx hb dJ2_grow_2_36 rfl (lv_at hl 0 rfl) ?_
    obtain ⟨r6, er6, hF⟩ := obn hF
    refine ccr (rest := [.ref x0]) (st1 := [.ref r6, .ref x0]) S hX hM (metJ3_copyOf_2 l F D h0 a5 r4 r6 er6) (ci_S (As := [.ref a5, .int r4]) (rest := [.ref x0]) S q986 q987 q109 q988 hyJ3_copyOf_2 hlJ3_copyOf_2 rfl dJ2_grow_2_37) q988 q109 (Nat.le_of_ble_eq_true rfl) (Nat.le_of_ble_eq_true rfl) hl.1 (Nat.le_of_ble_eq_true rfl) rfl (fun H locs cs ss hM => ?_)
    refine lv_dup_x1 hx hb dJ2_grow_2_40 rfl rfl ?_
    obtain ⟨σ7, eσ7, hF⟩ := obn hF
    refine cpr (v := (some r6)) S hX hM eσ7 ck_15_15_1 cw_15_15_1 rfl q170 (fun _ h => h) dJ2_grow_2_41 (fun H locs hM => ?_)
    have hz := (Option.some.inj hF)
    subst hz
    exact cra S hM hr (Or.inr ⟨_, rfl⟩) hlocks dJ2_grow_2_44
  · have hF := ifn hF c3
    refine lv_aload_n hx hb dJ2_grow_2_10 rfl (lv_at hl 1 rfl) ?_
    obtain ⟨a8, ea8, hF⟩ := obn hF
    refine cgn S hX hM ea8 ck_15_15_1 q170 (fun _ h => h) dJ2_grow_2_11 ?_
    refine cstr S hM (ust2 hX) q168 dJ2_grow_2_14 ?_
    refine lv_acmp_eq (rx := some a8) (ry := some (kG h0 12)) (tgt := 45) hx hb dJ2_grow_2_17 (by decide) (fun c10 => ?_) (fun c10 => ?_)
    · have hF := ifp hF c10
      refine lv_aload_n hx hb dJ2_grow_2_45 rfl (lv_at hl 1 rfl) ?_
      refine lv_bipush (v := 10) hx hb dJ2_grow_2_46 rfl ?_
      refine lv_iload_n hx hb dJ2_grow_2_48 rfl (lv_at hl 2 rfl) ?_
      refine cmmax S hM q1019 q568 q119 q569 (Nat.le_of_ble_eq_true rfl) (Nat.le_of_ble_eq_true rfl) hl.1 (Nat.le_of_ble_eq_true rfl) dJ2_grow_2_49 ?_
      obtain ⟨r12, er12, hF⟩ := obn hF
      refine cna39 S hX hM er12 q1020 dJ2_grow_2_52 (fun H cs ss hM => ?_)
      refine lv_dup_x1 hx hb dJ2_grow_2_55 rfl rfl ?_
      obtain ⟨σ13, eσ13, hF⟩ := obn hF
      refine cpr (v := (some r12.1)) S hX hM eσ13 ck_15_15_1 cw_15_15_1 rfl q170 (fun _ h => h) dJ2_grow_2_56 (fun H locs hM => ?_)
      have hz := (Option.some.inj hF)
      subst hz
      exact cra S hM hr (Or.inr ⟨_, rfl⟩) hlocks dJ2_grow_2_59
    · have hF := ifn hF c10
      refine lv_iload_n hx hb dJ2_grow_2_20 rfl (lv_at hl 0 rfl) ?_
      refine lv_iload_n hx hb dJ2_grow_2_21 rfl (lv_at hl 2 rfl) ?_
      refine lv_iload_n hx hb dJ2_grow_2_22 rfl (lv_at hl 0 rfl) ?_
      refine lv_isub hx hb dJ2_grow_2_23 ?_
      refine lv_iload_n hx hb dJ2_grow_2_24 rfl (lv_at hl 0 rfl) ?_
      refine lv_iconst (v := 1) hx hb dJ2_grow_2_25 rfl ?_
      refine lv_ishr hx hb dJ2_grow_2_26 ?_
      obtain ⟨r14, er14, hF⟩ := obn hF
      refine ccr (rest := []) (st1 := [.int r14]) S hX hM (metJ8_newLength l F D h0 v2 (x1 - v2) (v2 >>> (1 &&& 31)) r14 er14) (ci_S (As := [.int v2, .int (x1 - v2), .int (v2 >>> (1 &&& 31))]) (rest := []) S q985 q565 q118 q566 hyJ8_newLength hlJ8_newLength rfl dJ2_grow_2_27) q566 q118 (Nat.le_of_ble_eq_true rfl) (Nat.le_of_ble_eq_true rfl) hl.1 (Nat.le_of_ble_eq_true rfl) rfl (fun H locs cs ss hM => ?_)
      refine lv_istore_n (lv' := [(3, .int r14), (2, .int v2), (0, .ref x0), (1, .int x1)]) hx hb dJ2_grow_2_30 rfl hl (by decide) rfl (fun ls hl => ?_)
      refine lv_aload_n hx hb dJ2_grow_2_31 rfl (lv_at hl 2 rfl) ?_
      refine lv_aload_n hx hb dJ2_grow_2_32 rfl (lv_at hl 2 rfl) ?_
      obtain ⟨a15, ea15, hF⟩ := obn hF
      refine cgn S hX hM ea15 ck_15_15_1 q170 (fun _ h => h) dJ2_grow_2_33 ?_
      refine lv_iload_n hx hb dJ2_grow_2_36 rfl (lv_at hl 0 rfl) ?_
      obtain ⟨r16, er16, hF⟩ := obn hF
      refine ccr (rest := [.ref x0]) (st1 := [.ref r16, .ref x0]) S hX hM (metJ3_copyOf_2 l F D h0 a15 r14 r16 er16) (ci_S (As := [.ref a15, .int r14]) (rest := [.ref x0]) S q986 q987 q109 q988 hyJ3_copyOf_2 hlJ3_copyOf_2 rfl dJ2_grow_2_37) q988 q109 (Nat.le_of_ble_eq_true rfl) (Nat.le_of_ble_eq_true rfl) hl.1 (Nat.le_of_ble_eq_true rfl) rfl (fun H locs cs ss hM => ?_)
      refine lv_dup_x1 hx hb dJ2_grow_2_40 rfl rfl ?_
      obtain ⟨σ17, eσ17, hF⟩ := obn hF
      refine cpr (v := (some r16)) S hX hM eσ17 ck_15_15_1 cw_15_15_1 rfl q170 (fun _ h => h) dJ2_grow_2_41 (fun H locs hM => ?_)
      have hz := (Option.some.inj hF)
      subst hz
      exact cra S hM hr (Or.inr ⟨_, rfl⟩) hlocks dJ2_grow_2_44
def fJ2_grow (F : Nat) (h0 : HS) (x0 : Nat) : Option (Nat × HS) := ((oI h0 x0 15 15 2).bind fun v1 => gT h0 x0 15 15 (((fJ2_grow_2 F h0 x0 (v1 + 1)).bind fun r2 => some (r2.1, r2.2))))
theorem hyJ2_grow : yJ2_grow.cls ≠ "java/lang/invoke/MethodHandle" ∧ yJ2_grow.cls ≠ "java/lang/invoke/VarHandle" := by decide +kernel
theorem hlJ2_grow : (parseMethodDescriptor yJ2_grow.desc).map (fun d => d.parameters.length) = some 0 := by decide +kernel
set_option maxHeartbeats 4000000 in
set_option maxRecDepth 100000 in
theorem metJ2_grow (l : Launch) [NoTr l] (F : Nat) (D : va_G) (h0 : HS) (x0 : Nat) (r : Nat × HS) (hF : fJ2_grow F h0 x0 = some r) : CMet l yJ2_grow (ws_ yJ2_grow cJ2_grow 1 (some (.array (.object "java/lang/Object")))) 5 127 D [.ref x0] h0 r.2 (.inr (some (.ref r.1))) := by
  refine CMet.ofW (by decide) ?_
  intro p e s m below meth c s₁ B S hX hM hr hlocks hnt hin
  obtain ⟨hx, hb, hml, hown, hts⟩ := id S
  have hl := lv_entry ([.ref x0]) (n := 1) (Nat.le_of_ble_eq_true rfl)
  rw [lg_entry_eq]
  generalize (lg_sl ([.ref x0]) ++ List.replicate (1 - (lg_sl ([.ref x0])).length) Slot.unset).toArray = ls at hl ⊢
  have hl : lv_has ls 1 [(0, .ref x0)] := hl
  unfold fJ2_grow at hF
  refine lv_aload_n hx hb dJ2_grow_0 rfl (lv_at hl 0 rfl) ?_
  refine lv_aload_n hx hb dJ2_grow_1 rfl (lv_at hl 0 rfl) ?_
  obtain ⟨v1, ev1, hF⟩ := obn hF
  refine cgi S hX hM ev1 ck_15_15_2 q171 (fun _ h => h) dJ2_grow_2 ?_
  refine lv_iconst (v := 1) hx hb dJ2_grow_5 rfl ?_
  refine lv_iadd hx hb dJ2_grow_6 ?_
  obtain ⟨z2, hF⟩ := gTe hF
  obtain ⟨r2, er2, hF⟩ := obn hF
  refine ccr (rest := []) (st1 := [.ref r2.1]) S hX hM (metJ2_grow_2 l F D h0 x0 (v1 + 1) r2 er2) (ci_V (C := "java/util/ArrayList") (As := [.int (v1 + 1)]) (rest := []) S q981 q983 qs10 q984 hyJ2_grow_2 (HI.cell (ci := 14) hX hM (by decide) (by omega)) hlJ2_grow_2 rfl dJ2_grow_7) q984 q107 (Nat.le_of_ble_eq_true rfl) (Nat.le_of_ble_eq_true rfl) hl.1 (Nat.le_of_ble_eq_true rfl) rfl (fun H locs cs ss hM => ?_)
  have hz := (Option.some.inj hF)
  subst hz
  exact cra S hM hr (Or.inr ⟨_, rfl⟩) hlocks dJ2_grow_10
def fJ2_add_2 (F : Nat) (h0 : HS) (x0 : Nat) (x1 : Nat) (x2 : Nat) (x3 : Int32) : Option (HS) := ((aL h0 x2 39 39).bind fun v1 => (if x3 = v1 then (gT h0 x0 15 15 (((fJ2_grow F h0 x0).bind fun r5 => ((wR r5.2 r5.1 39 x3 (some x1)).bind fun σ6 => ((pI σ6 x0 15 15 2 (x3 + 1)).bind fun σ7 => some σ7))))) else ((wR h0 x2 39 x3 (some x1)).bind fun σ3 => ((pI σ3 x0 15 15 2 (x3 + 1)).bind fun σ4 => some σ4))))
theorem hyJ2_add_2 : yJ2_add_2.cls ≠ "java/lang/invoke/MethodHandle" ∧ yJ2_add_2.cls ≠ "java/lang/invoke/VarHandle" := by decide +kernel
theorem hlJ2_add_2 : (parseMethodDescriptor yJ2_add_2.desc).map (fun d => d.parameters.length) = some 3 := by decide +kernel
set_option maxHeartbeats 4000000 in
set_option maxRecDepth 100000 in
theorem metJ2_add_2 (l : Launch) [NoTr l] (F : Nat) (D : va_G) (h0 : HS) (x0 : Nat) (x1 : Nat) (x2 : Nat) (x3 : Int32) (r : HS) (hF : fJ2_add_2 F h0 x0 x1 x2 x3 = some r) : CMet l yJ2_add_2 (ws_ yJ2_add_2 cJ2_add_2 4 none) 6 147 D [.ref x0, .ref x1, .ref x2, .int x3] h0 r (.inr none) := by
  refine CMet.ofW (by decide) ?_
  intro p e s m below meth c s₁ B S hX hM hr hlocks hnt hin
  obtain ⟨hx, hb, hml, hown, hts⟩ := id S
  have hl := lv_entry ([.ref x0, .ref x1, .ref x2, .int x3]) (n := 4) (Nat.le_of_ble_eq_true rfl)
  rw [lg_entry_eq]
  generalize (lg_sl ([.ref x0, .ref x1, .ref x2, .int x3]) ++ List.replicate (4 - (lg_sl ([.ref x0, .ref x1, .ref x2, .int x3])).length) Slot.unset).toArray = ls at hl ⊢
  have hl : lv_has ls 4 [(0, .ref x0), (1, .ref x1), (2, .ref x2), (3, .int x3)] := hl
  unfold fJ2_add_2 at hF
  refine lv_iload_n hx hb dJ2_add_2_0 rfl (lv_at hl 3 rfl) ?_
  refine lv_aload_n hx hb dJ2_add_2_1 rfl (lv_at hl 2 rfl) ?_
  obtain ⟨v1, ev1, hF⟩ := obn hF
  refine cal S hX hM ev1 (by decide) (by decide) dJ2_add_2_2 ?_
  refine lv_icmp_ne (tgt := 11) hx hb dJ2_add_2_3 (by decide) (fun c2 => ?_) (fun c2 => ?_)
  · have hF := ifn hF c2
    refine lv_aload_n hx hb dJ2_add_2_11 rfl (lv_at hl 2 rfl) ?_
    refine lv_iload_n hx hb dJ2_add_2_12 rfl (lv_at hl 3 rfl) ?_
    refine lv_aload_n hx hb dJ2_add_2_13 rfl (lv_at hl 1 rfl) ?_
    obtain ⟨σ3, eσ3, hF⟩ := obn hF
    refine cwr39 S hX hM eσ3 dJ2_add_2_14 (fun H locs hM => ?_)
    refine lv_aload_n hx hb dJ2_add_2_15 rfl (lv_at hl 0 rfl) ?_
    refine lv_iload_n hx hb dJ2_add_2_16 rfl (lv_at hl 3 rfl) ?_
    refine lv_iconst (v := 1) hx hb dJ2_add_2_17 rfl ?_
    refine lv_iadd hx hb dJ2_add_2_18 ?_
    obtain ⟨σ4, eσ4, hF⟩ := obn hF
    refine cpi S hX hM eσ4 ck_15_15_2 cw_15_15_2 rfl rfl q171 (fun _ h => h) dJ2_add_2_19 (fun H locs hM => ?_)
    have hz := (Option.some.inj hF)
    subst hz
    exact crv S hM hr hlocks dJ2_add_2_22
  · have hF := ifp hF c2
    refine lv_aload_n hx hb dJ2_add_2_6 rfl (lv_at hl 0 rfl) ?_
    obtain ⟨z5, hF⟩ := gTe hF
    obtain ⟨r5, er5, hF⟩ := obn hF
    refine ccr (rest := []) (st1 := [.ref r5.1]) S hX hM (metJ2_grow l F D h0 x0 r5 er5) (ci_V (C := "java/util/ArrayList") (As := []) (rest := []) S q977 q979 qs9 q980 hyJ2_grow (HI.cell (ci := 14) hX hM (by decide) (by omega)) hlJ2_grow rfl dJ2_add_2_7) q980 q107 (Nat.le_of_ble_eq_true rfl) (Nat.le_of_ble_eq_true rfl) hl.1 (Nat.le_of_ble_eq_true rfl) rfl (fun H locs cs ss hM => ?_)
    refine lv_astore_n (lv' := [(2, .ref r5.1), (0, .ref x0), (1, .ref x1), (3, .int x3)]) hx hb dJ2_add_2_10 rfl hl (by decide) rfl (fun ls hl => ?_)
    refine lv_aload_n hx hb dJ2_add_2_11 rfl (lv_at hl 0 rfl) ?_
    refine lv_iload_n hx hb dJ2_add_2_12 rfl (lv_at hl 3 rfl) ?_
    refine lv_aload_n hx hb dJ2_add_2_13 rfl (lv_at hl 2 rfl) ?_
    obtain ⟨σ6, eσ6, hF⟩ := obn hF
    refine cwr39 S hX hM eσ6 dJ2_add_2_14 (fun H locs hM => ?_)
    refine lv_aload_n hx hb dJ2_add_2_15 rfl (lv_at hl 1 rfl) ?_
    refine lv_iload_n hx hb dJ2_add_2_16 rfl (lv_at hl 3 rfl) ?_
    refine lv_iconst (v := 1) hx hb dJ2_add_2_17 rfl ?_
    refine lv_iadd hx hb dJ2_add_2_18 ?_
    obtain ⟨σ7, eσ7, hF⟩ := obn hF
    refine cpi S hX hM eσ7 ck_15_15_2 cw_15_15_2 rfl rfl q171 (fun _ h => h) dJ2_add_2_19 (fun H locs hM => ?_)
    have hz := (Option.some.inj hF)
    subst hz
    exact crv S hM hr hlocks dJ2_add_2_22
def fJ2_add (F : Nat) (h0 : HS) (x0 : Nat) (x1 : Nat) : Option (Int32 × HS) := ((oI h0 x0 15 15 0).bind fun v1 => ((pI h0 x0 15 15 0 (v1 + 1)).bind fun σ2 => ((fR σ2 x0 15 15 1).bind fun a3 => ((oI σ2 x0 15 15 2).bind fun v4 => gT σ2 x0 15 15 (((fJ2_add_2 F σ2 x0 x1 a3 v4).bind fun r5 => some (1, r5)))))))
theorem hyJ2_add : yJ2_add.cls ≠ "java/lang/invoke/MethodHandle" ∧ yJ2_add.cls ≠ "java/lang/invoke/VarHandle" := by decide +kernel
theorem hlJ2_add : (parseMethodDescriptor yJ2_add.desc).map (fun d => d.parameters.length) = some 1 := by decide +kernel
set_option maxHeartbeats 4000000 in
set_option maxRecDepth 100000 in
theorem metJ2_add (l : Launch) [NoTr l] (F : Nat) (D : va_G) (h0 : HS) (x0 : Nat) (x1 : Nat) (r : Int32 × HS) (hF : fJ2_add F h0 x0 x1 = some r) : CMet l yJ2_add (ws_ yJ2_add cJ2_add 2 (some .boolean)) 7 170 D [.ref x0, .ref x1] h0 r.2 (.inr (some (.int r.1))) := by
  refine CMet.ofW (by decide) ?_
  intro p e s m below meth c s₁ B S hX hM hr hlocks hnt hin
  obtain ⟨hx, hb, hml, hown, hts⟩ := id S
  have hl := lv_entry ([.ref x0, .ref x1]) (n := 2) (Nat.le_of_ble_eq_true rfl)
  rw [lg_entry_eq]
  generalize (lg_sl ([.ref x0, .ref x1]) ++ List.replicate (2 - (lg_sl ([.ref x0, .ref x1])).length) Slot.unset).toArray = ls at hl ⊢
  have hl : lv_has ls 2 [(0, .ref x0), (1, .ref x1)] := hl
  unfold fJ2_add at hF
  refine lv_aload_n hx hb dJ2_add_0 rfl (lv_at hl 0 rfl) ?_
  refine lv_dup hx hb dJ2_add_1 rfl ?_
  obtain ⟨v1, ev1, hF⟩ := obn hF
  refine cgi S hX hM ev1 ck_15_15_0 q173 (u_same (hts _ q174)) dJ2_add_2 ?_
  refine lv_iconst (v := 1) hx hb dJ2_add_5 rfl ?_
  refine lv_iadd hx hb dJ2_add_6 ?_
  obtain ⟨σ2, eσ2, hF⟩ := obn hF
  refine cpi S hX hM eσ2 ck_15_15_0 cw_15_15_0 rfl rfl q173 (u_same (hts _ q174)) dJ2_add_7 (fun H locs hM => ?_)
  refine lv_aload_n hx hb dJ2_add_10 rfl (lv_at hl 0 rfl) ?_
  refine lv_aload_n hx hb dJ2_add_11 rfl (lv_at hl 1 rfl) ?_
  refine lv_aload_n hx hb dJ2_add_12 rfl (lv_at hl 0 rfl) ?_
  obtain ⟨a3, ea3, hF⟩ := obn hF
  refine cgn S hX hM ea3 ck_15_15_1 q170 (fun _ h => h) dJ2_add_13 ?_
  refine lv_aload_n hx hb dJ2_add_16 rfl (lv_at hl 0 rfl) ?_
  obtain ⟨v4, ev4, hF⟩ := obn hF
  refine cgi S hX hM ev4 ck_15_15_2 q171 (fun _ h => h) dJ2_add_17 ?_
  obtain ⟨z5, hF⟩ := gTe hF
  obtain ⟨r5, er5, hF⟩ := obn hF
  refine ccr (rest := []) (st1 := []) S hX hM (metJ2_add_2 l F D σ2 x0 x1 a3 v4 r5 er5) (ci_V (C := "java/util/ArrayList") (As := [.ref x1, .ref a3, .int v4]) (rest := []) S q973 q975 qs8 q976 hyJ2_add_2 (HI.cell (ci := 14) hX hM (by decide) (by omega)) hlJ2_add_2 rfl dJ2_add_20) q976 q107 (Nat.le_of_ble_eq_true rfl) (Nat.le_of_ble_eq_true rfl) hl.1 (Nat.le_of_ble_eq_true rfl) rfl (fun H locs cs ss hM => ?_)
  refine lv_iconst (v := 1) hx hb dJ2_add_23 rfl ?_
  have hz := (Option.some.inj hF)
  subst hz
  exact crz S hM hr hlocks (gBn gB1) dJ2_add_24
def fX7_person (F : Nat) (h0 : HS) (x0 : Nat) : Option ((Nat ⊕ Unit) × HS) := ((fR h0 x0 5 5 9).bind fun a1 => ((fR h0 a1 2 2 5).bind fun a2 => gT h0 a2 15 15 (((fJ2_size F h0 a2).bind fun r3 => (if 6 ≤ r3 then (gT h0 x0 5 5 (((fX6_need F h0 x0 0 4).bind fun r5 => thr r5.1 (fun b5 => some (.inl b5, r5.2)) fun w5 => gT r5.2 x0 5 5 (((fX6_go F r5.2 x0).bind fun r6 => gT r6 x0 5 5 (((fX7_fresh F r6 x0).bind fun r7 => thr r7.1 (fun b7 => some (.inl b7, r7.2)) fun w7 => gT r7.2 x0 5 5 (((fX6_number F r7.2 x0 1 9).bind fun r8 => thr r8.1 (fun b8 => some (.inl b8, r8.2)) fun w8 => gT r8.2 x0 5 5 (((fX6_number F r8.2 x0 0 9).bind fun r9 => thr r9.1 (fun b9 => some (.inl b9, r9.2)) fun w9 => ((fR r9.2 x0 5 5 9).bind fun a10 => ((fR r9.2 a10 2 2 5).bind fun a11 => ((nO r9.2 9 4).bind fun r12 => gT r12.2 x0 5 5 (((fX6_number F r12.2 x0 1 9).bind fun r13 => thr r13.1 (fun b13 => some (.inl b13, r13.2)) fun w13 => ((fX10_init F r13.2 r12.1 w7 w8 w9 w13).bind fun r14 => gT r14 a11 15 15 (((fJ2_add F r14 a11 r12.1).bind fun r15 => some (.inr (), r15.2)))))))))))))))))))) else (gT h0 x0 5 5 (((fX6_need F h0 x0 1 4).bind fun r16 => thr r16.1 (fun b16 => some (.inl b16, r16.2)) fun w16 => gT r16.2 x0 5 5 (((fX6_go F r16.2 x0).bind fun r17 => gT r17 x0 5 5 (((fX7_fresh F r17 x0).bind fun r18 => thr r18.1 (fun b18 => some (.inl b18, r18.2)) fun w18 => gT r18.2 x0 5 5 (((fX6_number F r18.2 x0 1 9).bind fun r19 => thr r19.1 (fun b19 => some (.inl b19, r19.2)) fun w19 => gT r19.2 x0 5 5 (((fX6_number F r19.2 x0 0 9).bind fun r20 => thr r20.1 (fun b20 => some (.inl b20, r20.2)) fun w20 => ((fR r20.2 x0 5 5 9).bind fun a21 => ((fR r20.2 a21 2 2 5).bind fun a22 => ((nO r20.2 9 4).bind fun r23 => gT r23.2 x0 5 5 (((fX6_number F r23.2 x0 1 9).bind fun r24 => thr r24.1 (fun b24 => some (.inl b24, r24.2)) fun w24 => ((fX10_init F r24.2 r23.1 w18 w19 w20 w24).bind fun r25 => gT r25 a22 15 15 (((fJ2_add F r25 a22 r23.1).bind fun r26 => some (.inr (), r26.2)))))))))))))))))))))))))
theorem hyX7_person : yX7_person.cls ≠ "java/lang/invoke/MethodHandle" ∧ yX7_person.cls ≠ "java/lang/invoke/VarHandle" := by decide +kernel
theorem hlX7_person : (parseMethodDescriptor yX7_person.desc).map (fun d => d.parameters.length) = some 0 := by decide +kernel
set_option maxHeartbeats 4000000 in
set_option maxRecDepth 100000 in
theorem metX7_person (l : Launch) [NoTr l] (F : Nat) (D : va_G) (h0 : HS) (x0 : Nat) (r : (Nat ⊕ Unit) × HS) (hF : fX7_person F h0 x0 = some r) : CMet l yX7_person (ws_ yX7_person cX7_person 4 none) 12 289 D [.ref x0] h0 r.2 (xv r.1) := by
  refine CMet.ofW (by decide) ?_
  intro p e s m below meth c s₁ B S hX hM hr hlocks hnt hin
  obtain ⟨hx, hb, hml, hown, hts⟩ := id S
  have hl := lv_entry ([.ref x0]) (n := 4) (Nat.le_of_ble_eq_true rfl)
  rw [lg_entry_eq]
  generalize (lg_sl ([.ref x0]) ++ List.replicate (4 - (lg_sl ([.ref x0])).length) Slot.unset).toArray = ls at hl ⊢
  have hl : lv_has ls 4 [(0, .ref x0)] := hl
  unfold fX7_person at hF
  refine lv_aload_n hx hb dX7_person_0 rfl (lv_at hl 0 rfl) ?_
  refine lv_aload_n hx hb dX7_person_1 rfl (lv_at hl 0 rfl) ?_
  obtain ⟨a1, ea1, hF⟩ := obn hF
  refine cgn S hX hM ea1 ck_5_5_9 q454 (fun _ h => h) dX7_person_2 ?_
  obtain ⟨a2, ea2, hF⟩ := obn hF
  refine cgnN S hX hM ea2 ck_2_2_5 (uq202 hX) dX7_person_5 ?_
  obtain ⟨z3, hF⟩ := gTe hF
  obtain ⟨r3, er3, hF⟩ := obn hF
  refine ccr (rest := [.ref x0]) (st1 := [.int r3, .ref x0]) S hX hM (metJ2_size l F D h0 a2 r3 er3) (ci_V (C := "java/util/ArrayList") (As := []) (rest := [.ref x0]) S q829 q830 q831 q832 hyJ2_size (HI.cell (ci := 14) hX hM (by decide) (by omega)) hlJ2_size rfl dX7_person_8) q832 q107 (Nat.le_of_ble_eq_true rfl) (Nat.le_of_ble_eq_true rfl) hl.1 (Nat.le_of_ble_eq_true rfl) rfl (fun H locs cs ss hM => ?_)
  refine lv_bipush (v := 6) hx hb dX7_person_11 rfl ?_
  refine lv_icmp_ge (tgt := 20) hx hb dX7_person_13 (by decide) (fun c4 => ?_) (fun c4 => ?_)
  · have hF := ifp hF c4
    refine lv_iconst (v := 0) hx hb dX7_person_20 rfl ?_
    refine lv_iconst (v := 4) hx hb dX7_person_21 rfl ?_
    obtain ⟨z5, hF⟩ := gTe hF
    obtain ⟨r5, er5, hF⟩ := obn hF
    refine cctv (rest := []) S hX hM (metX6_need l F D h0 x0 0 4 r5 er5) (ci_U (C := "RugReader$HouseReader") (As := [.int 0, .int 4]) (rest := []) S q735 q736 rfl q739 q738 q740 hyX6_need (HI.cell (ci := 4) hX hM (by decide) (by omega)) hlX6_need rfl dX7_person_22) q740 q112 (Nat.le_of_ble_eq_true rfl) (Nat.le_of_ble_eq_true rfl) hl.1 (Nat.le_of_ble_eq_true rfl) (fun w5 ew5 H locs cs ss hM => ?_) (fun b5 eb5 H locs cs ss hM => ?_)
    · have hF := thr_r hF ew5
      refine lv_aload_n hx hb dX7_person_25 rfl (lv_at hl 0 rfl) ?_
      obtain ⟨z6, hF⟩ := gTe hF
      obtain ⟨r6, er6, hF⟩ := obn hF
      refine ccr (rest := []) (st1 := []) S hX hM (metX6_go l F D r5.2 x0 r6 er6) (ci_U (C := "RugReader$HouseReader") (As := []) (rest := []) S q502 q503 rfl q506 q505 q507 hyX6_go (HI.cell (ci := 4) hX hM (by decide) (by omega)) hlX6_go rfl dX7_person_26) q507 q112 (Nat.le_of_ble_eq_true rfl) (Nat.le_of_ble_eq_true rfl) hl.1 (Nat.le_of_ble_eq_true rfl) rfl (fun H locs cs ss hM => ?_)
      refine lv_aload_n hx hb dX7_person_29 rfl (lv_at hl 0 rfl) ?_
      obtain ⟨z7, hF⟩ := gTe hF
      obtain ⟨r7, er7, hF⟩ := obn hF
      refine cctr (rest := []) S hX hM (metX7_fresh l F D r6 x0 r7 er7) (ci_V (C := "RugReader$HouseReader") (As := []) (rest := []) S q833 q835 qs7 q836 hyX7_fresh (HI.cell (ci := 4) hX hM (by decide) (by omega)) hlX7_fresh rfl dX7_person_30) q836 q113 (Nat.le_of_ble_eq_true rfl) (Nat.le_of_ble_eq_true rfl) hl.1 (Nat.le_of_ble_eq_true rfl) (fun w7 ew7 H locs cs ss hM => ?_) (fun b7 eb7 H locs cs ss hM => ?_)
      · have hF := thr_r hF ew7
        refine lv_astore_n (lv' := [(1, .ref w7), (0, .ref x0)]) hx hb dX7_person_33 rfl hl (by decide) rfl (fun ls hl => ?_)
        refine lv_aload_n hx hb dX7_person_34 rfl (lv_at hl 1 rfl) ?_
        refine lv_iconst (v := 1) hx hb dX7_person_35 rfl ?_
        refine lv_bipush (v := 9) hx hb dX7_person_36 rfl ?_
        obtain ⟨z8, hF⟩ := gTe hF
        obtain ⟨r8, er8, hF⟩ := obn hF
        refine ccti (rest := []) S hX hM (metX6_number l F D r7.2 x0 1 9 r8 er8) (ci_U (C := "RugReader$HouseReader") (As := [.int 1, .int 9]) (rest := []) S q806 q807 rfl q810 q809 q811 hyX6_number (HI.cell (ci := 4) hX hM (by decide) (by omega)) hlX6_number rfl dX7_person_38) q811 q112 (Nat.le_of_ble_eq_true rfl) (Nat.le_of_ble_eq_true rfl) hl.1 (Nat.le_of_ble_eq_true rfl) (fun w8 ew8 H locs cs ss hM => ?_) (fun b8 eb8 H locs cs ss hM => ?_)
        · have hF := thr_r hF ew8
          refine lv_istore_n (lv' := [(2, .int w8), (1, .ref w7), (0, .ref x0)]) hx hb dX7_person_41 rfl hl (by decide) rfl (fun ls hl => ?_)
          refine lv_aload_n hx hb dX7_person_42 rfl (lv_at hl 2 rfl) ?_
          refine lv_iconst (v := 0) hx hb dX7_person_43 rfl ?_
          refine lv_bipush (v := 9) hx hb dX7_person_44 rfl ?_
          obtain ⟨z9, hF⟩ := gTe hF
          obtain ⟨r9, er9, hF⟩ := obn hF
          refine ccti (rest := []) S hX hM (metX6_number l F D r8.2 x0 0 9 r9 er9) (ci_U (C := "RugReader$HouseReader") (As := [.int 0, .int 9]) (rest := []) S q806 q807 rfl q810 q809 q811 hyX6_number (HI.cell (ci := 4) hX hM (by decide) (by omega)) hlX6_number rfl dX7_person_46) q811 q112 (Nat.le_of_ble_eq_true rfl) (Nat.le_of_ble_eq_true rfl) hl.1 (Nat.le_of_ble_eq_true rfl) (fun w9 ew9 H locs cs ss hM => ?_) (fun b9 eb9 H locs cs ss hM => ?_)
          · have hF := thr_r hF ew9
            refine lv_istore_n (lv' := [(3, .int w9), (2, .int w8), (1, .ref w7), (0, .ref x0)]) hx hb dX7_person_49 rfl hl (by decide) rfl (fun ls hl => ?_)
            refine lv_aload_n hx hb dX7_person_50 rfl (lv_at hl 3 rfl) ?_
            obtain ⟨a10, ea10, hF⟩ := obn hF
            refine cgn S hX hM ea10 ck_5_5_9 q454 (fun _ h => h) dX7_person_51 ?_
            obtain ⟨a11, ea11, hF⟩ := obn hF
            refine cgnN S hX hM ea11 ck_2_2_5 (uq202 hX) dX7_person_54 ?_
            obtain ⟨r12, er12, hF⟩ := obn hF
            refine cno (ci := 8) S hX hM er12 (by decide) q937 q938 q128 dX7_person_57 (fun H cs ss hM => ?_)
            refine lv_dup hx hb dX7_person_60 rfl ?_
            refine lv_aload_n hx hb dX7_person_61 rfl (lv_at hl 2 rfl) ?_
            refine lv_iload_n hx hb dX7_person_62 rfl (lv_at hl 1 rfl) ?_
            refine lv_iload_n hx hb dX7_person_63 rfl (lv_at hl 0 rfl) ?_
            refine lv_aload_n hx hb dX7_person_64 rfl (lv_at hl 3 rfl) ?_
            refine lv_iconst (v := 1) hx hb dX7_person_65 rfl ?_
            refine lv_bipush (v := 9) hx hb dX7_person_66 rfl ?_
            obtain ⟨z13, hF⟩ := gTe hF
            obtain ⟨r13, er13, hF⟩ := obn hF
            refine ccti (rest := [.int w9, .int w8, .ref w7, .ref r12.1, .ref r12.1, .ref a11]) S hX hM (metX6_number l F D r12.2 x0 1 9 r13 er13) (ci_U (C := "RugReader$HouseReader") (As := [.int 1, .int 9]) (rest := [.int w9, .int w8, .ref w7, .ref r12.1, .ref r12.1, .ref a11]) S q806 q807 rfl q810 q809 q811 hyX6_number (HI.cell (ci := 4) hX hM (by decide) (by omega)) hlX6_number rfl dX7_person_68) q811 q112 (Nat.le_of_ble_eq_true rfl) (Nat.le_of_ble_eq_true rfl) hl.1 (Nat.le_of_ble_eq_true rfl) (fun w13 ew13 H locs cs ss hM => ?_) (fun b13 eb13 H locs cs ss hM => ?_)
            · have hF := thr_r hF ew13
              obtain ⟨r14, er14, hF⟩ := obn hF
              refine ccr (rest := [.ref r12.1, .ref a11]) (st1 := [.ref r12.1, .ref a11]) S hX hM (metX10_init l F D r13.2 r12.1 w7 w8 w9 w13 r14 er14) (ci_I (As := [.ref w7, .int w8, .int w9, .int w13]) (rest := [.ref r12.1, .ref a11]) S rfl q939 q940 q941 hyX10_init hlX10_init rfl dX7_person_71) q941 q128 (Nat.le_of_ble_eq_true rfl) (Nat.le_of_ble_eq_true rfl) hl.1 (Nat.le_of_ble_eq_true rfl) rfl (fun H locs cs ss hM => ?_)
              obtain ⟨z15, hF⟩ := gTe hF
              obtain ⟨r15, er15, hF⟩ := obn hF
              refine ccr (rest := []) (st1 := [.int r15.1]) S hX hM (metJ2_add l F D r14 a11 r12.1 r15 er15) (ci_V (C := "java/util/ArrayList") (As := [.ref r12.1]) (rest := []) S q969 q970 q971 q972 hyJ2_add (HI.cell (ci := 14) hX hM (by decide) (by omega)) hlJ2_add rfl dX7_person_74) q972 q107 (Nat.le_of_ble_eq_true rfl) (Nat.le_of_ble_eq_true rfl) hl.1 (Nat.le_of_ble_eq_true rfl) rfl (fun H locs cs ss hM => ?_)
              refine lv_pop hx hb dX7_person_77 rfl ?_
              have hz := (Option.some.inj hF)
              subst hz
              exact crv S hM hr hlocks dX7_person_78
            · have hF := thr_q hF eb13
              have hz := (Option.some.inj hF)
              subst hz
              exact cxout hM (fun x hx => (hnt x hx).elim) hlocks
          · have hF := thr_q hF eb9
            have hz := (Option.some.inj hF)
            subst hz
            exact cxout hM (fun x hx => (hnt x hx).elim) hlocks
        · have hF := thr_q hF eb8
          have hz := (Option.some.inj hF)
          subst hz
          exact cxout hM (fun x hx => (hnt x hx).elim) hlocks
      · have hF := thr_q hF eb7
        have hz := (Option.some.inj hF)
        subst hz
        exact cxout hM (fun x hx => (hnt x hx).elim) hlocks
    · have hF := thr_q hF eb5
      have hz := (Option.some.inj hF)
      subst hz
      exact cxout hM (fun x hx => (hnt x hx).elim) hlocks
  · have hF := ifn hF c4
    refine lv_iconst (v := 1) hx hb dX7_person_16 rfl ?_
    refine lv_goto (tgt := 21) hx hb dX7_person_17 (by decide) ?_
    refine lv_iconst (v := 4) hx hb dX7_person_21 rfl ?_
    obtain ⟨z16, hF⟩ := gTe hF
    obtain ⟨r16, er16, hF⟩ := obn hF
    refine cctv (rest := []) S hX hM (metX6_need l F D h0 x0 1 4 r16 er16) (ci_U (C := "RugReader$HouseReader") (As := [.int 1, .int 4]) (rest := []) S q735 q736 rfl q739 q738 q740 hyX6_need (HI.cell (ci := 4) hX hM (by decide) (by omega)) hlX6_need rfl dX7_person_22) q740 q112 (Nat.le_of_ble_eq_true rfl) (Nat.le_of_ble_eq_true rfl) hl.1 (Nat.le_of_ble_eq_true rfl) (fun w16 ew16 H locs cs ss hM => ?_) (fun b16 eb16 H locs cs ss hM => ?_)
    · have hF := thr_r hF ew16
      refine lv_aload_n hx hb dX7_person_25 rfl (lv_at hl 0 rfl) ?_
      obtain ⟨z17, hF⟩ := gTe hF
      obtain ⟨r17, er17, hF⟩ := obn hF
      refine ccr (rest := []) (st1 := []) S hX hM (metX6_go l F D r16.2 x0 r17 er17) (ci_U (C := "RugReader$HouseReader") (As := []) (rest := []) S q502 q503 rfl q506 q505 q507 hyX6_go (HI.cell (ci := 4) hX hM (by decide) (by omega)) hlX6_go rfl dX7_person_26) q507 q112 (Nat.le_of_ble_eq_true rfl) (Nat.le_of_ble_eq_true rfl) hl.1 (Nat.le_of_ble_eq_true rfl) rfl (fun H locs cs ss hM => ?_)
      refine lv_aload_n hx hb dX7_person_29 rfl (lv_at hl 0 rfl) ?_
      obtain ⟨z18, hF⟩ := gTe hF
      obtain ⟨r18, er18, hF⟩ := obn hF
      refine cctr (rest := []) S hX hM (metX7_fresh l F D r17 x0 r18 er18) (ci_V (C := "RugReader$HouseReader") (As := []) (rest := []) S q833 q835 qs7 q836 hyX7_fresh (HI.cell (ci := 4) hX hM (by decide) (by omega)) hlX7_fresh rfl dX7_person_30) q836 q113 (Nat.le_of_ble_eq_true rfl) (Nat.le_of_ble_eq_true rfl) hl.1 (Nat.le_of_ble_eq_true rfl) (fun w18 ew18 H locs cs ss hM => ?_) (fun b18 eb18 H locs cs ss hM => ?_)
      · have hF := thr_r hF ew18
        refine lv_astore_n (lv' := [(1, .ref w18), (0, .ref x0)]) hx hb dX7_person_33 rfl hl (by decide) rfl (fun ls hl => ?_)
        refine lv_aload_n hx hb dX7_person_34 rfl (lv_at hl 1 rfl) ?_
        refine lv_iconst (v := 1) hx hb dX7_person_35 rfl ?_
        refine lv_bipush (v := 9) hx hb dX7_person_36 rfl ?_
        obtain ⟨z19, hF⟩ := gTe hF
        obtain ⟨r19, er19, hF⟩ := obn hF
        refine ccti (rest := []) S hX hM (metX6_number l F D r18.2 x0 1 9 r19 er19) (ci_U (C := "RugReader$HouseReader") (As := [.int 1, .int 9]) (rest := []) S q806 q807 rfl q810 q809 q811 hyX6_number (HI.cell (ci := 4) hX hM (by decide) (by omega)) hlX6_number rfl dX7_person_38) q811 q112 (Nat.le_of_ble_eq_true rfl) (Nat.le_of_ble_eq_true rfl) hl.1 (Nat.le_of_ble_eq_true rfl) (fun w19 ew19 H locs cs ss hM => ?_) (fun b19 eb19 H locs cs ss hM => ?_)
        · have hF := thr_r hF ew19
          refine lv_istore_n (lv' := [(2, .int w19), (1, .ref w18), (0, .ref x0)]) hx hb dX7_person_41 rfl hl (by decide) rfl (fun ls hl => ?_)
          refine lv_aload_n hx hb dX7_person_42 rfl (lv_at hl 2 rfl) ?_
          refine lv_iconst (v := 0) hx hb dX7_person_43 rfl ?_
          refine lv_bipush (v := 9) hx hb dX7_person_44 rfl ?_
          obtain ⟨z20, hF⟩ := gTe hF
          obtain ⟨r20, er20, hF⟩ := obn hF
          refine ccti (rest := []) S hX hM (metX6_number l F D r19.2 x0 0 9 r20 er20) (ci_U (C := "RugReader$HouseReader") (As := [.int 0, .int 9]) (rest := []) S q806 q807 rfl q810 q809 q811 hyX6_number (HI.cell (ci := 4) hX hM (by decide) (by omega)) hlX6_number rfl dX7_person_46) q811 q112 (Nat.le_of_ble_eq_true rfl) (Nat.le_of_ble_eq_true rfl) hl.1 (Nat.le_of_ble_eq_true rfl) (fun w20 ew20 H locs cs ss hM => ?_) (fun b20 eb20 H locs cs ss hM => ?_)
          · have hF := thr_r hF ew20
            refine lv_istore_n (lv' := [(3, .int w20), (2, .int w19), (1, .ref w18), (0, .ref x0)]) hx hb dX7_person_49 rfl hl (by decide) rfl (fun ls hl => ?_)
            refine lv_aload_n hx hb dX7_person_50 rfl (lv_at hl 3 rfl) ?_
            obtain ⟨a21, ea21, hF⟩ := obn hF
            refine cgn S hX hM ea21 ck_5_5_9 q454 (fun _ h => h) dX7_person_51 ?_
            obtain ⟨a22, ea22, hF⟩ := obn hF
            refine cgnN S hX hM ea22 ck_2_2_5 (uq202 hX) dX7_person_54 ?_
            obtain ⟨r23, er23, hF⟩ := obn hF
            refine cno (ci := 8) S hX hM er23 (by decide) q937 q938 q128 dX7_person_57 (fun H cs ss hM => ?_)
            refine lv_dup hx hb dX7_person_60 rfl ?_
            refine lv_aload_n hx hb dX7_person_61 rfl (lv_at hl 2 rfl) ?_
            refine lv_iload_n hx hb dX7_person_62 rfl (lv_at hl 1 rfl) ?_
            refine lv_iload_n hx hb dX7_person_63 rfl (lv_at hl 0 rfl) ?_
            refine lv_aload_n hx hb dX7_person_64 rfl (lv_at hl 3 rfl) ?_
            refine lv_iconst (v := 1) hx hb dX7_person_65 rfl ?_
            refine lv_bipush (v := 9) hx hb dX7_person_66 rfl ?_
            obtain ⟨z24, hF⟩ := gTe hF
            obtain ⟨r24, er24, hF⟩ := obn hF
            refine ccti (rest := [.int w20, .int w19, .ref w18, .ref r23.1, .ref r23.1, .ref a22]) S hX hM (metX6_number l F D r23.2 x0 1 9 r24 er24) (ci_U (C := "RugReader$HouseReader") (As := [.int 1, .int 9]) (rest := [.int w20, .int w19, .ref w18, .ref r23.1, .ref r23.1, .ref a22]) S q806 q807 rfl q810 q809 q811 hyX6_number (HI.cell (ci := 4) hX hM (by decide) (by omega)) hlX6_number rfl dX7_person_68) q811 q112 (Nat.le_of_ble_eq_true rfl) (Nat.le_of_ble_eq_true rfl) hl.1 (Nat.le_of_ble_eq_true rfl) (fun w24 ew24 H locs cs ss hM => ?_) (fun b24 eb24 H locs cs ss hM => ?_)
            · have hF := thr_r hF ew24
              obtain ⟨r25, er25, hF⟩ := obn hF
              refine ccr (rest := [.ref r23.1, .ref a22]) (st1 := [.ref r23.1, .ref a22]) S hX hM (metX10_init l F D r24.2 r23.1 w18 w19 w20 w24 r25 er25) (ci_I (As := [.ref w18, .int w19, .int w20, .int w24]) (rest := [.ref r23.1, .ref a22]) S rfl q939 q940 q941 hyX10_init hlX10_init rfl dX7_person_71) q941 q128 (Nat.le_of_ble_eq_true rfl) (Nat.le_of_ble_eq_true rfl) hl.1 (Nat.le_of_ble_eq_true rfl) rfl (fun H locs cs ss hM => ?_)
              obtain ⟨z26, hF⟩ := gTe hF
              obtain ⟨r26, er26, hF⟩ := obn hF
              refine ccr (rest := []) (st1 := [.int r26.1]) S hX hM (metJ2_add l F D r25 a22 r23.1 r26 er26) (ci_V (C := "java/util/ArrayList") (As := [.ref r23.1]) (rest := []) S q969 q970 q971 q972 hyJ2_add (HI.cell (ci := 14) hX hM (by decide) (by omega)) hlJ2_add rfl dX7_person_74) q972 q107 (Nat.le_of_ble_eq_true rfl) (Nat.le_of_ble_eq_true rfl) hl.1 (Nat.le_of_ble_eq_true rfl) rfl (fun H locs cs ss hM => ?_)
              refine lv_pop hx hb dX7_person_77 rfl ?_
              have hz := (Option.some.inj hF)
              subst hz
              exact crv S hM hr hlocks dX7_person_78
            · have hF := thr_q hF eb24
              have hz := (Option.some.inj hF)
              subst hz
              exact cxout hM (fun x hx => (hnt x hx).elim) hlocks
          · have hF := thr_q hF eb20
            have hz := (Option.some.inj hF)
            subst hz
            exact cxout hM (fun x hx => (hnt x hx).elim) hlocks
        · have hF := thr_q hF eb19
          have hz := (Option.some.inj hF)
          subst hz
          exact cxout hM (fun x hx => (hnt x hx).elim) hlocks
      · have hF := thr_q hF eb18
        have hz := (Option.some.inj hF)
        subst hz
        exact cxout hM (fun x hx => (hnt x hx).elim) hlocks
    · have hF := thr_q hF eb16
      have hz := (Option.some.inj hF)
      subst hz
      exact cxout hM (fun x hx => (hnt x hx).elim) hlocks
def fX6_holdTuft (F : Nat) (h0 : HS) (x0 : Nat) (x1 : Nat) : Option ((Nat ⊕ Int32) × HS) := ((oI h0 x1 2 2 0).bind fun v1 => gT h0 x0 5 7 (((fX6_number F h0 x0 0 (v1 - 1)).bind fun r2 => thr r2.1 (fun b2 => some (.inl b2, r2.2)) fun w2 => ((oI r2.2 x1 2 2 1).bind fun v3 => gT r2.2 x0 5 7 (((fX6_hold F r2.2 x0 0 (v3 - 1)).bind fun r4 => thr r4.1 (fun b4 => some (.inl b4, r4.2)) fun w4 => some (.inr ((12 * w4) + w2), r4.2)))))))
theorem hyX6_holdTuft : yX6_holdTuft.cls ≠ "java/lang/invoke/MethodHandle" ∧ yX6_holdTuft.cls ≠ "java/lang/invoke/VarHandle" := by decide +kernel
theorem hlX6_holdTuft : (parseMethodDescriptor yX6_holdTuft.desc).map (fun d => d.parameters.length) = some 1 := by decide +kernel
set_option maxHeartbeats 4000000 in
set_option maxRecDepth 100000 in
theorem metX6_holdTuft (l : Launch) [NoTr l] (F : Nat) (D : va_G) (h0 : HS) (x0 : Nat) (x1 : Nat) (r : (Nat ⊕ Int32) × HS) (hF : fX6_holdTuft F h0 x0 x1 = some r) : CMet l yX6_holdTuft (ws_ yX6_holdTuft cX6_holdTuft 3 (some .int)) 12 289 D [.ref x0, .ref x1] h0 r.2 (xi r.1) := by
  refine CMet.ofW (by decide) ?_
  intro p e s m below meth c s₁ B S hX hM hr hlocks hnt hin
  obtain ⟨hx, hb, hml, hown, hts⟩ := id S
  have hl := lv_entry ([.ref x0, .ref x1]) (n := 3) (Nat.le_of_ble_eq_true rfl)
  rw [lg_entry_eq]
  generalize (lg_sl ([.ref x0, .ref x1]) ++ List.replicate (3 - (lg_sl ([.ref x0, .ref x1])).length) Slot.unset).toArray = ls at hl ⊢
  have hl : lv_has ls 3 [(0, .ref x0), (1, .ref x1)] := hl
  unfold fX6_holdTuft at hF
  refine lv_aload_n hx hb dX6_holdTuft_0 rfl (lv_at hl 0 rfl) ?_
  refine lv_iconst (v := 0) hx hb dX6_holdTuft_1 rfl ?_
  refine lv_aload_n hx hb dX6_holdTuft_2 rfl (lv_at hl 1 rfl) ?_
  obtain ⟨v1, ev1, hF⟩ := obn hF
  refine cgiN S hX hM ev1 ck_2_2_0 (uq185 hX) dX6_holdTuft_3 ?_
  refine lv_iconst (v := 1) hx hb dX6_holdTuft_6 rfl ?_
  refine lv_isub hx hb dX6_holdTuft_7 ?_
  obtain ⟨z2, hF⟩ := gTe hF
  obtain ⟨r2, er2, hF⟩ := obn hF
  refine ccti (rest := []) S hX hM (metX6_number l F D h0 x0 0 (v1 - 1) r2 er2) (by
        have ez : kT h0 x0 = 5 ∨ kT h0 x0 = 6 ∨ kT h0 x0 = 7 := by omega
        rcases ez with ez | ez | ez
        · exact ci_V (C := "RugReader$HouseReader") (As := [.int 0, .int (v1 - 1)]) (rest := []) S q1032 q810 q2339 q811 hyX6_number (HI.cell (ci := 4) hX hM (by decide) ez) hlX6_number rfl dX6_holdTuft_8
        · exact ci_V (C := "RugReader$WalkReader") (As := [.int 0, .int (v1 - 1)]) (rest := []) S q1032 q810 q2341 q811 hyX6_number (HI.cell (ci := 5) hX hM (by decide) ez) hlX6_number rfl dX6_holdTuft_8
        · exact ci_V (C := "RugReader$SentenceReader") (As := [.int 0, .int (v1 - 1)]) (rest := []) S q1032 q810 q2340 q811 hyX6_number (HI.cell (ci := 6) hX hM (by decide) ez) hlX6_number rfl dX6_holdTuft_8) q811 q112 (Nat.le_of_ble_eq_true rfl) (Nat.le_of_ble_eq_true rfl) hl.1 (Nat.le_of_ble_eq_true rfl) (fun w2 ew2 H locs cs ss hM => ?_) (fun b2 eb2 H locs cs ss hM => ?_)
  · have hF := thr_r hF ew2
    refine lv_istore_n (lv' := [(2, .int w2), (0, .ref x0), (1, .ref x1)]) hx hb dX6_holdTuft_11 rfl hl (by decide) rfl (fun ls hl => ?_)
    refine lv_bipush (v := 12) hx hb dX6_holdTuft_12 rfl ?_
    refine lv_aload_n hx hb dX6_holdTuft_14 rfl (lv_at hl 1 rfl) ?_
    refine lv_iconst (v := 0) hx hb dX6_holdTuft_15 rfl ?_
    refine lv_aload_n hx hb dX6_holdTuft_16 rfl (lv_at hl 2 rfl) ?_
    obtain ⟨v3, ev3, hF⟩ := obn hF
    refine cgiN S hX hM ev3 ck_2_2_1 (uq189 hX) dX6_holdTuft_17 ?_
    refine lv_iconst (v := 1) hx hb dX6_holdTuft_20 rfl ?_
    refine lv_isub hx hb dX6_holdTuft_21 ?_
    obtain ⟨z4, hF⟩ := gTe hF
    obtain ⟨r4, er4, hF⟩ := obn hF
    refine ccti (rest := [.int 12]) S hX hM (metX6_hold l F D r2.2 x0 0 (v3 - 1) r4 er4) (by
          have ez : kT r2.2 x0 = 5 ∨ kT r2.2 x0 = 6 ∨ kT r2.2 x0 = 7 := by omega
          rcases ez with ez | ez | ez
          · exact ci_V (C := "RugReader$HouseReader") (As := [.int 0, .int (v3 - 1)]) (rest := [.int 12]) S q812 q813 q815 q818 hyX6_hold (HI.cell (ci := 4) hX hM (by decide) ez) hlX6_hold rfl dX6_holdTuft_22
          · exact ci_V (C := "RugReader$WalkReader") (As := [.int 0, .int (v3 - 1)]) (rest := [.int 12]) S q812 q813 q817 q818 hyX6_hold (HI.cell (ci := 5) hX hM (by decide) ez) hlX6_hold rfl dX6_holdTuft_22
          · exact ci_V (C := "RugReader$SentenceReader") (As := [.int 0, .int (v3 - 1)]) (rest := [.int 12]) S q812 q813 q816 q818 hyX6_hold (HI.cell (ci := 6) hX hM (by decide) ez) hlX6_hold rfl dX6_holdTuft_22) q818 q112 (Nat.le_of_ble_eq_true rfl) (Nat.le_of_ble_eq_true rfl) hl.1 (Nat.le_of_ble_eq_true rfl) (fun w4 ew4 H locs cs ss hM => ?_) (fun b4 eb4 H locs cs ss hM => ?_)
    · have hF := thr_r hF ew4
      refine lv_imul hx hb dX6_holdTuft_25 ?_
      refine lv_iload_n hx hb dX6_holdTuft_26 rfl (lv_at hl 0 rfl) ?_
      refine lv_iadd hx hb dX6_holdTuft_27 ?_
      have hz := (Option.some.inj hF)
      subst hz
      exact cri S hM hr hlocks dX6_holdTuft_28
    · have hF := thr_q hF eb4
      have hz := (Option.some.inj hF)
      subst hz
      exact cxout hM (fun x hx => (hnt x hx).elim) hlocks
  · have hF := thr_q hF eb2
    have hz := (Option.some.inj hF)
    subst hz
    exact cxout hM (fun x hx => (hnt x hx).elim) hlocks
def fX7_wall (F : Nat) (h0 : HS) (x0 : Nat) : Option ((Nat ⊕ Unit) × HS) := ((fR h0 x0 5 5 9).bind fun a1 => ((oI h0 a1 2 2 4).bind fun v2 => (if 30 ≤ v2 then (gT h0 x0 5 5 (((fX6_need F h0 x0 0 4).bind fun r4 => thr r4.1 (fun b4 => some (.inl b4, r4.2)) fun w4 => gT r4.2 x0 5 5 (((fX6_go F r4.2 x0).bind fun r5 => ((fR r5 x0 5 5 9).bind fun a6 => gT r5 x0 5 5 (((fX6_holdTuft F r5 x0 a6).bind fun r7 => thr r7.1 (fun b7 => some (.inl b7, r7.2)) fun w7 => ((fR r7.2 x0 5 5 9).bind fun a8 => ((fR r7.2 a8 2 2 8).bind fun a9 => ((aI r7.2 a9 33 w7).bind fun v10 => (if v10 = 0 then (gT r7.2 x0 5 5 (((fX6_need F r7.2 x0 1 3).bind fun r20 => thr r20.1 (fun b20 => some (.inl b20, r20.2)) fun w20 => ((fR r20.2 x0 5 5 9).bind fun a21 => ((fR r20.2 a21 2 2 8).bind fun a22 => ((wI r20.2 a22 33 w7 (vp_nar .boolean 1)).bind fun σ23 => ((fR σ23 x0 5 5 9).bind fun a24 => ((oI σ23 a24 2 2 4).bind fun v25 => ((pI σ23 a24 2 2 4 (v25 + 1)).bind fun σ26 => gT σ26 x0 5 5 (((fX6_go F σ26 x0).bind fun r27 => some (.inr (), r27)))))))))))) else (gT r7.2 x0 5 5 (((fX6_need F r7.2 x0 0 3).bind fun r12 => thr r12.1 (fun b12 => some (.inl b12, r12.2)) fun w12 => ((fR r12.2 x0 5 5 9).bind fun a13 => ((fR r12.2 a13 2 2 8).bind fun a14 => ((wI r12.2 a14 33 w7 (vp_nar .boolean 1)).bind fun σ15 => ((fR σ15 x0 5 5 9).bind fun a16 => ((oI σ15 a16 2 2 4).bind fun v17 => ((pI σ15 a16 2 2 4 (v17 + 1)).bind fun σ18 => gT σ18 x0 5 5 (((fX6_go F σ18 x0).bind fun r19 => some (.inr (), r19)))))))))))))))))))))))) else (gT h0 x0 5 5 (((fX6_need F h0 x0 1 4).bind fun r28 => thr r28.1 (fun b28 => some (.inl b28, r28.2)) fun w28 => gT r28.2 x0 5 5 (((fX6_go F r28.2 x0).bind fun r29 => ((fR r29 x0 5 5 9).bind fun a30 => gT r29 x0 5 5 (((fX6_holdTuft F r29 x0 a30).bind fun r31 => thr r31.1 (fun b31 => some (.inl b31, r31.2)) fun w31 => ((fR r31.2 x0 5 5 9).bind fun a32 => ((fR r31.2 a32 2 2 8).bind fun a33 => ((aI r31.2 a33 33 w31).bind fun v34 => (if v34 = 0 then (gT r31.2 x0 5 5 (((fX6_need F r31.2 x0 1 3).bind fun r44 => thr r44.1 (fun b44 => some (.inl b44, r44.2)) fun w44 => ((fR r44.2 x0 5 5 9).bind fun a45 => ((fR r44.2 a45 2 2 8).bind fun a46 => ((wI r44.2 a46 33 w31 (vp_nar .boolean 1)).bind fun σ47 => ((fR σ47 x0 5 5 9).bind fun a48 => ((oI σ47 a48 2 2 4).bind fun v49 => ((pI σ47 a48 2 2 4 (v49 + 1)).bind fun σ50 => gT σ50 x0 5 5 (((fX6_go F σ50 x0).bind fun r51 => some (.inr (), r51)))))))))))) else (gT r31.2 x0 5 5 (((fX6_need F r31.2 x0 0 3).bind fun r36 => thr r36.1 (fun b36 => some (.inl b36, r36.2)) fun w36 => ((fR r36.2 x0 5 5 9).bind fun a37 => ((fR r36.2 a37 2 2 8).bind fun a38 => ((wI r36.2 a38 33 w31 (vp_nar .boolean 1)).bind fun σ39 => ((fR σ39 x0 5 5 9).bind fun a40 => ((oI σ39 a40 2 2 4).bind fun v41 => ((pI σ39 a40 2 2 4 (v41 + 1)).bind fun σ42 => gT σ42 x0 5 5 (((fX6_go F σ42 x0).bind fun r43 => some (.inr (), r43)))))))))))))))))))))))))))
theorem hyX7_wall : yX7_wall.cls ≠ "java/lang/invoke/MethodHandle" ∧ yX7_wall.cls ≠ "java/lang/invoke/VarHandle" := by decide +kernel
theorem hlX7_wall : (parseMethodDescriptor yX7_wall.desc).map (fun d => d.parameters.length) = some 0 := by decide +kernel
set_option maxHeartbeats 4000000 in
set_option maxRecDepth 100000 in
theorem metX7_wall (l : Launch) [NoTr l] (F : Nat) (D : va_G) (h0 : HS) (x0 : Nat) (r : (Nat ⊕ Unit) × HS) (hF : fX7_wall F h0 x0 = some r) : CMet l yX7_wall (ws_ yX7_wall cX7_wall 2 none) 13 311 D [.ref x0] h0 r.2 (xv r.1) := by
  refine CMet.ofW (by decide) ?_
  intro p e s m below meth c s₁ B S hX hM hr hlocks hnt hin
  obtain ⟨hx, hb, hml, hown, hts⟩ := id S
  have hl := lv_entry ([.ref x0]) (n := 2) (Nat.le_of_ble_eq_true rfl)
  rw [lg_entry_eq]
  generalize (lg_sl ([.ref x0]) ++ List.replicate (2 - (lg_sl ([.ref x0])).length) Slot.unset).toArray = ls at hl ⊢
  have hl : lv_has ls 2 [(0, .ref x0)] := hl
  unfold fX7_wall at hF
  refine lv_aload_n hx hb dX7_wall_0 rfl (lv_at hl 0 rfl) ?_
  refine lv_aload_n hx hb dX7_wall_1 rfl (lv_at hl 0 rfl) ?_
  obtain ⟨a1, ea1, hF⟩ := obn hF
  refine cgn S hX hM ea1 ck_5_5_9 q454 (fun _ h => h) dX7_wall_2 ?_
  obtain ⟨v2, ev2, hF⟩ := obn hF
  refine cgiN S hX hM ev2 ck_2_2_4 (uq197 hX) dX7_wall_5 ?_
  refine lv_bipush (v := 30) hx hb dX7_wall_8 rfl ?_
  refine lv_icmp_ge (tgt := 17) hx hb dX7_wall_10 (by decide) (fun c3 => ?_) (fun c3 => ?_)
  · have hF := ifp hF c3
    refine lv_iconst (v := 0) hx hb dX7_wall_17 rfl ?_
    refine lv_iconst (v := 4) hx hb dX7_wall_18 rfl ?_
    obtain ⟨z4, hF⟩ := gTe hF
    obtain ⟨r4, er4, hF⟩ := obn hF
    refine cctv (rest := []) S hX hM (metX6_need l F D h0 x0 0 4 r4 er4) (ci_U (C := "RugReader$HouseReader") (As := [.int 0, .int 4]) (rest := []) S q735 q736 rfl q739 q738 q740 hyX6_need (HI.cell (ci := 4) hX hM (by decide) (by omega)) hlX6_need rfl dX7_wall_19) q740 q112 (Nat.le_of_ble_eq_true rfl) (Nat.le_of_ble_eq_true rfl) hl.1 (Nat.le_of_ble_eq_true rfl) (fun w4 ew4 H locs cs ss hM => ?_) (fun b4 eb4 H locs cs ss hM => ?_)
    · have hF := thr_r hF ew4
      refine lv_aload_n hx hb dX7_wall_22 rfl (lv_at hl 0 rfl) ?_
      obtain ⟨z5, hF⟩ := gTe hF
      obtain ⟨r5, er5, hF⟩ := obn hF
      refine ccr (rest := []) (st1 := []) S hX hM (metX6_go l F D r4.2 x0 r5 er5) (ci_U (C := "RugReader$HouseReader") (As := []) (rest := []) S q502 q503 rfl q506 q505 q507 hyX6_go (HI.cell (ci := 4) hX hM (by decide) (by omega)) hlX6_go rfl dX7_wall_23) q507 q112 (Nat.le_of_ble_eq_true rfl) (Nat.le_of_ble_eq_true rfl) hl.1 (Nat.le_of_ble_eq_true rfl) rfl (fun H locs cs ss hM => ?_)
      refine lv_aload_n hx hb dX7_wall_26 rfl (lv_at hl 0 rfl) ?_
      refine lv_aload_n hx hb dX7_wall_27 rfl (lv_at hl 0 rfl) ?_
      obtain ⟨a6, ea6, hF⟩ := obn hF
      refine cgn S hX hM ea6 ck_5_5_9 q454 (fun _ h => h) dX7_wall_28 ?_
      obtain ⟨z7, hF⟩ := gTe hF
      obtain ⟨r7, er7, hF⟩ := obn hF
      refine ccti (rest := []) S hX hM (metX6_holdTuft l F D r5 x0 a6 r7 er7) (ci_U (C := "RugReader$HouseReader") (As := [.ref a6]) (rest := []) S q1026 q1027 rfl q1030 q1029 q1031 hyX6_holdTuft (HI.cell (ci := 4) hX hM (by decide) (by omega)) hlX6_holdTuft rfl dX7_wall_31) q1031 q112 (Nat.le_of_ble_eq_true rfl) (Nat.le_of_ble_eq_true rfl) hl.1 (Nat.le_of_ble_eq_true rfl) (fun w7 ew7 H locs cs ss hM => ?_) (fun b7 eb7 H locs cs ss hM => ?_)
      · have hF := thr_r hF ew7
        refine lv_istore_n (lv' := [(1, .int w7), (0, .ref x0)]) hx hb dX7_wall_34 rfl hl (by decide) rfl (fun ls hl => ?_)
        refine lv_aload_n hx hb dX7_wall_35 rfl (lv_at hl 1 rfl) ?_
        refine lv_aload_n hx hb dX7_wall_36 rfl (lv_at hl 1 rfl) ?_
        obtain ⟨a8, ea8, hF⟩ := obn hF
        refine cgn S hX hM ea8 ck_5_5_9 q454 (fun _ h => h) dX7_wall_37 ?_
        obtain ⟨a9, ea9, hF⟩ := obn hF
        refine cgnN S hX hM ea9 ck_2_2_8 (uq216 hX) dX7_wall_40 ?_
        refine lv_iload_n hx hb dX7_wall_43 rfl (lv_at hl 0 rfl) ?_
        obtain ⟨v10, ev10, hF⟩ := obn hF
        refine caz S hX hM ev10 dX7_wall_44 ?_
        refine lv_if_ne (tgt := 52) hx hb dX7_wall_45 (by decide) (fun c11 => ?_) (fun c11 => ?_)
        · have hF := ifn hF c11
          refine lv_iconst (v := 0) hx hb dX7_wall_52 rfl ?_
          refine lv_iconst (v := 3) hx hb dX7_wall_53 rfl ?_
          obtain ⟨z12, hF⟩ := gTe hF
          obtain ⟨r12, er12, hF⟩ := obn hF
          refine cctv (rest := []) S hX hM (metX6_need l F D r7.2 x0 0 3 r12 er12) (ci_U (C := "RugReader$HouseReader") (As := [.int 0, .int 3]) (rest := []) S q735 q736 rfl q739 q738 q740 hyX6_need (HI.cell (ci := 4) hX hM (by decide) (by omega)) hlX6_need rfl dX7_wall_54) q740 q112 (Nat.le_of_ble_eq_true rfl) (Nat.le_of_ble_eq_true rfl) hl.1 (Nat.le_of_ble_eq_true rfl) (fun w12 ew12 H locs cs ss hM => ?_) (fun b12 eb12 H locs cs ss hM => ?_)
          · have hF := thr_r hF ew12
            refine lv_aload_n hx hb dX7_wall_57 rfl (lv_at hl 1 rfl) ?_
            obtain ⟨a13, ea13, hF⟩ := obn hF
            refine cgn S hX hM ea13 ck_5_5_9 q454 (fun _ h => h) dX7_wall_58 ?_
            obtain ⟨a14, ea14, hF⟩ := obn hF
            refine cgnN S hX hM ea14 ck_2_2_8 (uq216 hX) dX7_wall_61 ?_
            refine lv_iload_n hx hb dX7_wall_64 rfl (lv_at hl 0 rfl) ?_
            refine lv_iconst (v := 1) hx hb dX7_wall_65 rfl ?_
            obtain ⟨σ15, eσ15, hF⟩ := obn hF
            refine cwz S hX hM eσ15 dX7_wall_66 (fun H locs hM => ?_)
            refine lv_aload_n hx hb dX7_wall_67 rfl (lv_at hl 1 rfl) ?_
            obtain ⟨a16, ea16, hF⟩ := obn hF
            refine cgn S hX hM ea16 ck_5_5_9 q454 (fun _ h => h) dX7_wall_68 ?_
            refine lv_dup hx hb dX7_wall_71 rfl ?_
            obtain ⟨v17, ev17, hF⟩ := obn hF
            refine cgiN S hX hM ev17 ck_2_2_4 (uq197 hX) dX7_wall_72 ?_
            refine lv_iconst (v := 1) hx hb dX7_wall_75 rfl ?_
            refine lv_iadd hx hb dX7_wall_76 ?_
            obtain ⟨σ18, eσ18, hF⟩ := obn hF
            refine cpiN S hX hM eσ18 ck_2_2_4 cw_2_2_4 rfl rfl (uq197 hX) dX7_wall_77 (fun H locs hM => ?_)
            refine lv_aload_n hx hb dX7_wall_80 rfl (lv_at hl 1 rfl) ?_
            obtain ⟨z19, hF⟩ := gTe hF
            obtain ⟨r19, er19, hF⟩ := obn hF
            refine ccr (rest := []) (st1 := []) S hX hM (metX6_go l F D σ18 x0 r19 er19) (ci_U (C := "RugReader$HouseReader") (As := []) (rest := []) S q502 q503 rfl q506 q505 q507 hyX6_go (HI.cell (ci := 4) hX hM (by decide) (by omega)) hlX6_go rfl dX7_wall_81) q507 q112 (Nat.le_of_ble_eq_true rfl) (Nat.le_of_ble_eq_true rfl) hl.1 (Nat.le_of_ble_eq_true rfl) rfl (fun H locs cs ss hM => ?_)
            have hz := (Option.some.inj hF)
            subst hz
            exact crv S hM hr hlocks dX7_wall_84
          · have hF := thr_q hF eb12
            have hz := (Option.some.inj hF)
            subst hz
            exact cxout hM (fun x hx => (hnt x hx).elim) hlocks
        · have hF := ifp hF c11
          refine lv_iconst (v := 1) hx hb dX7_wall_48 rfl ?_
          refine lv_goto (tgt := 53) hx hb dX7_wall_49 (by decide) ?_
          refine lv_iconst (v := 3) hx hb dX7_wall_53 rfl ?_
          obtain ⟨z20, hF⟩ := gTe hF
          obtain ⟨r20, er20, hF⟩ := obn hF
          refine cctv (rest := []) S hX hM (metX6_need l F D r7.2 x0 1 3 r20 er20) (ci_U (C := "RugReader$HouseReader") (As := [.int 1, .int 3]) (rest := []) S q735 q736 rfl q739 q738 q740 hyX6_need (HI.cell (ci := 4) hX hM (by decide) (by omega)) hlX6_need rfl dX7_wall_54) q740 q112 (Nat.le_of_ble_eq_true rfl) (Nat.le_of_ble_eq_true rfl) hl.1 (Nat.le_of_ble_eq_true rfl) (fun w20 ew20 H locs cs ss hM => ?_) (fun b20 eb20 H locs cs ss hM => ?_)
          · have hF := thr_r hF ew20
            refine lv_aload_n hx hb dX7_wall_57 rfl (lv_at hl 1 rfl) ?_
            obtain ⟨a21, ea21, hF⟩ := obn hF
            refine cgn S hX hM ea21 ck_5_5_9 q454 (fun _ h => h) dX7_wall_58 ?_
            obtain ⟨a22, ea22, hF⟩ := obn hF
            refine cgnN S hX hM ea22 ck_2_2_8 (uq216 hX) dX7_wall_61 ?_
            refine lv_iload_n hx hb dX7_wall_64 rfl (lv_at hl 0 rfl) ?_
            refine lv_iconst (v := 1) hx hb dX7_wall_65 rfl ?_
            obtain ⟨σ23, eσ23, hF⟩ := obn hF
            refine cwz S hX hM eσ23 dX7_wall_66 (fun H locs hM => ?_)
            refine lv_aload_n hx hb dX7_wall_67 rfl (lv_at hl 1 rfl) ?_
            obtain ⟨a24, ea24, hF⟩ := obn hF
            refine cgn S hX hM ea24 ck_5_5_9 q454 (fun _ h => h) dX7_wall_68 ?_
            refine lv_dup hx hb dX7_wall_71 rfl ?_
            obtain ⟨v25, ev25, hF⟩ := obn hF
            refine cgiN S hX hM ev25 ck_2_2_4 (uq197 hX) dX7_wall_72 ?_
            refine lv_iconst (v := 1) hx hb dX7_wall_75 rfl ?_
            refine lv_iadd hx hb dX7_wall_76 ?_
            obtain ⟨σ26, eσ26, hF⟩ := obn hF
            refine cpiN S hX hM eσ26 ck_2_2_4 cw_2_2_4 rfl rfl (uq197 hX) dX7_wall_77 (fun H locs hM => ?_)
            refine lv_aload_n hx hb dX7_wall_80 rfl (lv_at hl 1 rfl) ?_
            obtain ⟨z27, hF⟩ := gTe hF
            obtain ⟨r27, er27, hF⟩ := obn hF
            refine ccr (rest := []) (st1 := []) S hX hM (metX6_go l F D σ26 x0 r27 er27) (ci_U (C := "RugReader$HouseReader") (As := []) (rest := []) S q502 q503 rfl q506 q505 q507 hyX6_go (HI.cell (ci := 4) hX hM (by decide) (by omega)) hlX6_go rfl dX7_wall_81) q507 q112 (Nat.le_of_ble_eq_true rfl) (Nat.le_of_ble_eq_true rfl) hl.1 (Nat.le_of_ble_eq_true rfl) rfl (fun H locs cs ss hM => ?_)
            have hz := (Option.some.inj hF)
            subst hz
            exact crv S hM hr hlocks dX7_wall_84
          · have hF := thr_q hF eb20
            have hz := (Option.some.inj hF)
            subst hz
            exact cxout hM (fun x hx => (hnt x hx).elim) hlocks
      · have hF := thr_q hF eb7
        have hz := (Option.some.inj hF)
        subst hz
        exact cxout hM (fun x hx => (hnt x hx).elim) hlocks
    · have hF := thr_q hF eb4
      have hz := (Option.some.inj hF)
      subst hz
      exact cxout hM (fun x hx => (hnt x hx).elim) hlocks
  · have hF := ifn hF c3
    refine lv_iconst (v := 1) hx hb dX7_wall_13 rfl ?_
    refine lv_goto (tgt := 18) hx hb dX7_wall_14 (by decide) ?_
    refine lv_iconst (v := 4) hx hb dX7_wall_18 rfl ?_
    obtain ⟨z28, hF⟩ := gTe hF
    obtain ⟨r28, er28, hF⟩ := obn hF
    refine cctv (rest := []) S hX hM (metX6_need l F D h0 x0 1 4 r28 er28) (ci_U (C := "RugReader$HouseReader") (As := [.int 1, .int 4]) (rest := []) S q735 q736 rfl q739 q738 q740 hyX6_need (HI.cell (ci := 4) hX hM (by decide) (by omega)) hlX6_need rfl dX7_wall_19) q740 q112 (Nat.le_of_ble_eq_true rfl) (Nat.le_of_ble_eq_true rfl) hl.1 (Nat.le_of_ble_eq_true rfl) (fun w28 ew28 H locs cs ss hM => ?_) (fun b28 eb28 H locs cs ss hM => ?_)
    · have hF := thr_r hF ew28
      refine lv_aload_n hx hb dX7_wall_22 rfl (lv_at hl 0 rfl) ?_
      obtain ⟨z29, hF⟩ := gTe hF
      obtain ⟨r29, er29, hF⟩ := obn hF
      refine ccr (rest := []) (st1 := []) S hX hM (metX6_go l F D r28.2 x0 r29 er29) (ci_U (C := "RugReader$HouseReader") (As := []) (rest := []) S q502 q503 rfl q506 q505 q507 hyX6_go (HI.cell (ci := 4) hX hM (by decide) (by omega)) hlX6_go rfl dX7_wall_23) q507 q112 (Nat.le_of_ble_eq_true rfl) (Nat.le_of_ble_eq_true rfl) hl.1 (Nat.le_of_ble_eq_true rfl) rfl (fun H locs cs ss hM => ?_)
      refine lv_aload_n hx hb dX7_wall_26 rfl (lv_at hl 0 rfl) ?_
      refine lv_aload_n hx hb dX7_wall_27 rfl (lv_at hl 0 rfl) ?_
      obtain ⟨a30, ea30, hF⟩ := obn hF
      refine cgn S hX hM ea30 ck_5_5_9 q454 (fun _ h => h) dX7_wall_28 ?_
      obtain ⟨z31, hF⟩ := gTe hF
      obtain ⟨r31, er31, hF⟩ := obn hF
      refine ccti (rest := []) S hX hM (metX6_holdTuft l F D r29 x0 a30 r31 er31) (ci_U (C := "RugReader$HouseReader") (As := [.ref a30]) (rest := []) S q1026 q1027 rfl q1030 q1029 q1031 hyX6_holdTuft (HI.cell (ci := 4) hX hM (by decide) (by omega)) hlX6_holdTuft rfl dX7_wall_31) q1031 q112 (Nat.le_of_ble_eq_true rfl) (Nat.le_of_ble_eq_true rfl) hl.1 (Nat.le_of_ble_eq_true rfl) (fun w31 ew31 H locs cs ss hM => ?_) (fun b31 eb31 H locs cs ss hM => ?_)
      · have hF := thr_r hF ew31
        refine lv_istore_n (lv' := [(1, .int w31), (0, .ref x0)]) hx hb dX7_wall_34 rfl hl (by decide) rfl (fun ls hl => ?_)
        refine lv_aload_n hx hb dX7_wall_35 rfl (lv_at hl 1 rfl) ?_
        refine lv_aload_n hx hb dX7_wall_36 rfl (lv_at hl 1 rfl) ?_
        obtain ⟨a32, ea32, hF⟩ := obn hF
        refine cgn S hX hM ea32 ck_5_5_9 q454 (fun _ h => h) dX7_wall_37 ?_
        obtain ⟨a33, ea33, hF⟩ := obn hF
        refine cgnN S hX hM ea33 ck_2_2_8 (uq216 hX) dX7_wall_40 ?_
        refine lv_iload_n hx hb dX7_wall_43 rfl (lv_at hl 0 rfl) ?_
        obtain ⟨v34, ev34, hF⟩ := obn hF
        refine caz S hX hM ev34 dX7_wall_44 ?_
        refine lv_if_ne (tgt := 52) hx hb dX7_wall_45 (by decide) (fun c35 => ?_) (fun c35 => ?_)
        · have hF := ifn hF c35
          refine lv_iconst (v := 0) hx hb dX7_wall_52 rfl ?_
          refine lv_iconst (v := 3) hx hb dX7_wall_53 rfl ?_
          obtain ⟨z36, hF⟩ := gTe hF
          obtain ⟨r36, er36, hF⟩ := obn hF
          refine cctv (rest := []) S hX hM (metX6_need l F D r31.2 x0 0 3 r36 er36) (ci_U (C := "RugReader$HouseReader") (As := [.int 0, .int 3]) (rest := []) S q735 q736 rfl q739 q738 q740 hyX6_need (HI.cell (ci := 4) hX hM (by decide) (by omega)) hlX6_need rfl dX7_wall_54) q740 q112 (Nat.le_of_ble_eq_true rfl) (Nat.le_of_ble_eq_true rfl) hl.1 (Nat.le_of_ble_eq_true rfl) (fun w36 ew36 H locs cs ss hM => ?_) (fun b36 eb36 H locs cs ss hM => ?_)
          · have hF := thr_r hF ew36
            refine lv_aload_n hx hb dX7_wall_57 rfl (lv_at hl 1 rfl) ?_
            obtain ⟨a37, ea37, hF⟩ := obn hF
            refine cgn S hX hM ea37 ck_5_5_9 q454 (fun _ h => h) dX7_wall_58 ?_
            obtain ⟨a38, ea38, hF⟩ := obn hF
            refine cgnN S hX hM ea38 ck_2_2_8 (uq216 hX) dX7_wall_61 ?_
            refine lv_iload_n hx hb dX7_wall_64 rfl (lv_at hl 0 rfl) ?_
            refine lv_iconst (v := 1) hx hb dX7_wall_65 rfl ?_
            obtain ⟨σ39, eσ39, hF⟩ := obn hF
            refine cwz S hX hM eσ39 dX7_wall_66 (fun H locs hM => ?_)
            refine lv_aload_n hx hb dX7_wall_67 rfl (lv_at hl 1 rfl) ?_
            obtain ⟨a40, ea40, hF⟩ := obn hF
            refine cgn S hX hM ea40 ck_5_5_9 q454 (fun _ h => h) dX7_wall_68 ?_
            refine lv_dup hx hb dX7_wall_71 rfl ?_
            obtain ⟨v41, ev41, hF⟩ := obn hF
            refine cgiN S hX hM ev41 ck_2_2_4 (uq197 hX) dX7_wall_72 ?_
            refine lv_iconst (v := 1) hx hb dX7_wall_75 rfl ?_
            refine lv_iadd hx hb dX7_wall_76 ?_
            obtain ⟨σ42, eσ42, hF⟩ := obn hF
            refine cpiN S hX hM eσ42 ck_2_2_4 cw_2_2_4 rfl rfl (uq197 hX) dX7_wall_77 (fun H locs hM => ?_)
            refine lv_aload_n hx hb dX7_wall_80 rfl (lv_at hl 1 rfl) ?_
            obtain ⟨z43, hF⟩ := gTe hF
            obtain ⟨r43, er43, hF⟩ := obn hF
            refine ccr (rest := []) (st1 := []) S hX hM (metX6_go l F D σ42 x0 r43 er43) (ci_U (C := "RugReader$HouseReader") (As := []) (rest := []) S q502 q503 rfl q506 q505 q507 hyX6_go (HI.cell (ci := 4) hX hM (by decide) (by omega)) hlX6_go rfl dX7_wall_81) q507 q112 (Nat.le_of_ble_eq_true rfl) (Nat.le_of_ble_eq_true rfl) hl.1 (Nat.le_of_ble_eq_true rfl) rfl (fun H locs cs ss hM => ?_)
            have hz := (Option.some.inj hF)
            subst hz
            exact crv S hM hr hlocks dX7_wall_84
          · have hF := thr_q hF eb36
            have hz := (Option.some.inj hF)
            subst hz
            exact cxout hM (fun x hx => (hnt x hx).elim) hlocks
        · have hF := ifp hF c35
          refine lv_iconst (v := 1) hx hb dX7_wall_48 rfl ?_
          refine lv_goto (tgt := 53) hx hb dX7_wall_49 (by decide) ?_
          refine lv_iconst (v := 3) hx hb dX7_wall_53 rfl ?_
          obtain ⟨z44, hF⟩ := gTe hF
          obtain ⟨r44, er44, hF⟩ := obn hF
          refine cctv (rest := []) S hX hM (metX6_need l F D r31.2 x0 1 3 r44 er44) (ci_U (C := "RugReader$HouseReader") (As := [.int 1, .int 3]) (rest := []) S q735 q736 rfl q739 q738 q740 hyX6_need (HI.cell (ci := 4) hX hM (by decide) (by omega)) hlX6_need rfl dX7_wall_54) q740 q112 (Nat.le_of_ble_eq_true rfl) (Nat.le_of_ble_eq_true rfl) hl.1 (Nat.le_of_ble_eq_true rfl) (fun w44 ew44 H locs cs ss hM => ?_) (fun b44 eb44 H locs cs ss hM => ?_)
          · have hF := thr_r hF ew44
            refine lv_aload_n hx hb dX7_wall_57 rfl (lv_at hl 1 rfl) ?_
            obtain ⟨a45, ea45, hF⟩ := obn hF
            refine cgn S hX hM ea45 ck_5_5_9 q454 (fun _ h => h) dX7_wall_58 ?_
            obtain ⟨a46, ea46, hF⟩ := obn hF
            refine cgnN S hX hM ea46 ck_2_2_8 (uq216 hX) dX7_wall_61 ?_
            refine lv_iload_n hx hb dX7_wall_64 rfl (lv_at hl 0 rfl) ?_
            refine lv_iconst (v := 1) hx hb dX7_wall_65 rfl ?_
            obtain ⟨σ47, eσ47, hF⟩ := obn hF
            refine cwz S hX hM eσ47 dX7_wall_66 (fun H locs hM => ?_)
            refine lv_aload_n hx hb dX7_wall_67 rfl (lv_at hl 1 rfl) ?_
            obtain ⟨a48, ea48, hF⟩ := obn hF
            refine cgn S hX hM ea48 ck_5_5_9 q454 (fun _ h => h) dX7_wall_68 ?_
            refine lv_dup hx hb dX7_wall_71 rfl ?_
            obtain ⟨v49, ev49, hF⟩ := obn hF
            refine cgiN S hX hM ev49 ck_2_2_4 (uq197 hX) dX7_wall_72 ?_
            refine lv_iconst (v := 1) hx hb dX7_wall_75 rfl ?_
            refine lv_iadd hx hb dX7_wall_76 ?_
            obtain ⟨σ50, eσ50, hF⟩ := obn hF
            refine cpiN S hX hM eσ50 ck_2_2_4 cw_2_2_4 rfl rfl (uq197 hX) dX7_wall_77 (fun H locs hM => ?_)
            refine lv_aload_n hx hb dX7_wall_80 rfl (lv_at hl 1 rfl) ?_
            obtain ⟨z51, hF⟩ := gTe hF
            obtain ⟨r51, er51, hF⟩ := obn hF
            refine ccr (rest := []) (st1 := []) S hX hM (metX6_go l F D σ50 x0 r51 er51) (ci_U (C := "RugReader$HouseReader") (As := []) (rest := []) S q502 q503 rfl q506 q505 q507 hyX6_go (HI.cell (ci := 4) hX hM (by decide) (by omega)) hlX6_go rfl dX7_wall_81) q507 q112 (Nat.le_of_ble_eq_true rfl) (Nat.le_of_ble_eq_true rfl) hl.1 (Nat.le_of_ble_eq_true rfl) rfl (fun H locs cs ss hM => ?_)
            have hz := (Option.some.inj hF)
            subst hz
            exact crv S hM hr hlocks dX7_wall_84
          · have hF := thr_q hF eb44
            have hz := (Option.some.inj hF)
            subst hz
            exact cxout hM (fun x hx => (hnt x hx).elim) hlocks
      · have hF := thr_q hF eb31
        have hz := (Option.some.inj hF)
        subst hz
        exact cxout hM (fun x hx => (hnt x hx).elim) hlocks
    · have hF := thr_q hF eb28
      have hz := (Option.some.inj hF)
      subst hz
      exact cxout hM (fun x hx => (hnt x hx).elim) hlocks
def fJ15_init (h0 : HS) (x0 : Nat) : Unit := ()
theorem hyJ15_init : yJ15_init.cls ≠ "java/lang/invoke/MethodHandle" ∧ yJ15_init.cls ≠ "java/lang/invoke/VarHandle" := by decide +kernel
theorem hlJ15_init : (parseMethodDescriptor yJ15_init.desc).map (fun d => d.parameters.length) = some 0 := by decide +kernel
set_option maxHeartbeats 4000000 in
set_option maxRecDepth 100000 in
theorem metJ15_init (l : Launch) [NoTr l] (D : va_G) (h0 : HS) (x0 : Nat) (r : Unit) (hF : fJ15_init h0 x0 = r) : CMet l yJ15_init (ws_ yJ15_init cJ15_init 1 none) 1 20 D [.ref x0] h0 h0 (.inr none) := by
  refine CMet.ofW (by decide) ?_
  intro p e s m below meth c s₁ B S hX hM hr hlocks hnt hin
  obtain ⟨hx, hb, hml, hown, hts⟩ := id S
  have hl := lv_entry ([.ref x0]) (n := 1) (Nat.le_of_ble_eq_true rfl)
  rw [lg_entry_eq]
  generalize (lg_sl ([.ref x0]) ++ List.replicate (1 - (lg_sl ([.ref x0])).length) Slot.unset).toArray = ls at hl ⊢
  have hl : lv_has ls 1 [(0, .ref x0)] := hl
  unfold fJ15_init at hF
  refine lv_aload_n hx hb dJ15_init_0 rfl (lv_at hl 0 rfl) ?_
  refine cobj S q1053 q148 q149 hl.1 (Nat.le_of_ble_eq_true rfl) dJ15_init_1 (Nat.le_of_ble_eq_true rfl) (Nat.le_of_ble_eq_true rfl) ?_
  have hz := hF
  subst hz
  exact crv S hM hr hlocks dJ15_init_4
def fJ16_init (F : Nat) (h0 : HS) (x0 : Nat) (x1 : Int32) : Option (HS) := ((pI h0 x0 18 18 0 x1).bind fun σ2 => some σ2)
theorem hyJ16_init : yJ16_init.cls ≠ "java/lang/invoke/MethodHandle" ∧ yJ16_init.cls ≠ "java/lang/invoke/VarHandle" := by decide +kernel
theorem hlJ16_init : (parseMethodDescriptor yJ16_init.desc).map (fun d => d.parameters.length) = some 1 := by decide +kernel
set_option maxHeartbeats 4000000 in
set_option maxRecDepth 100000 in
theorem metJ16_init (l : Launch) [NoTr l] (F : Nat) (D : va_G) (h0 : HS) (x0 : Nat) (x1 : Int32) (r : HS) (hF : fJ16_init F h0 x0 x1 = some r) : CMet l yJ16_init (ws_ yJ16_init cJ16_init 2 none) 2 40 D [.ref x0, .int x1] h0 r (.inr none) := by
  refine CMet.ofW (by decide) ?_
  intro p e s m below meth c s₁ B S hX hM hr hlocks hnt hin
  obtain ⟨hx, hb, hml, hown, hts⟩ := id S
  have hl := lv_entry ([.ref x0, .int x1]) (n := 2) (Nat.le_of_ble_eq_true rfl)
  rw [lg_entry_eq]
  generalize (lg_sl ([.ref x0, .int x1]) ++ List.replicate (2 - (lg_sl ([.ref x0, .int x1])).length) Slot.unset).toArray = ls at hl ⊢
  have hl : lv_has ls 2 [(0, .ref x0), (1, .int x1)] := hl
  unfold fJ16_init at hF
  refine lv_aload_n hx hb dJ16_init_0 rfl (lv_at hl 0 rfl) ?_
  refine ccr (rest := []) (st1 := []) S hX hM (metJ15_init l D h0 x0 _ rfl) (ci_I (As := []) (rest := []) S rfl q1050 q1051 q1052 hyJ15_init hlJ15_init rfl dJ16_init_1) q1052 q129 (Nat.le_of_ble_eq_true rfl) (Nat.le_of_ble_eq_true rfl) hl.1 (Nat.le_of_ble_eq_true rfl) rfl (fun H locs cs ss hM => ?_)
  refine lv_aload_n hx hb dJ16_init_4 rfl (lv_at hl 0 rfl) ?_
  refine lv_iload_n hx hb dJ16_init_5 rfl (lv_at hl 1 rfl) ?_
  obtain ⟨σ2, eσ2, hF⟩ := obn hF
  refine cpiF S hX hM eσ2 ck_18_18_0 cw_18_18_0 rfl rfl q1054 hin dJ16_init_6 (fun H locs hM => ?_)
  have hz := (Option.some.inj hF)
  subst hz
  exact crv S hM hr hlocks dJ16_init_9
def fJ16_valueOf (F : Nat) (h0 : HS) (x0 : Int32) : Option (Nat × HS) := (lt_ (if x0 < (-128) then true else (if 127 < x0 then true else false)) fun q1 => (if q1 = true then ((nO h0 18 1).bind fun r5 => ((fJ16_init F r5.2 r5.1 x0).bind fun r6 => some (r5.1, r6))) else ((fA h0 (kG h0 13) 40 (x0 + 128)).bind fun a8 => some (a8, h0))))
theorem hyJ16_valueOf : yJ16_valueOf.cls ≠ "java/lang/invoke/MethodHandle" ∧ yJ16_valueOf.cls ≠ "java/lang/invoke/VarHandle" := by decide +kernel
theorem hlJ16_valueOf : (parseMethodDescriptor yJ16_valueOf.desc).map (fun d => d.parameters.length) = some 1 := by decide +kernel
set_option maxHeartbeats 4000000 in
set_option maxRecDepth 100000 in
theorem metJ16_valueOf (l : Launch) [NoTr l] (F : Nat) (D : va_G) (h0 : HS) (x0 : Int32) (r : Nat × HS) (hF : fJ16_valueOf F h0 x0 = some r) : CMet l yJ16_valueOf (ws_ yJ16_valueOf cJ16_valueOf 1 (some (.object "java/lang/Integer"))) 3 61 D [.int x0] h0 r.2 (.inr (some (.ref r.1))) := by
  refine CMet.ofW (by decide) ?_
  intro p e s m below meth c s₁ B S hX hM hr hlocks hnt hin
  obtain ⟨hx, hb, hml, hown, hts⟩ := id S
  have hl := lv_entry ([.int x0]) (n := 1) (Nat.le_of_ble_eq_true rfl)
  rw [lg_entry_eq]
  generalize (lg_sl ([.int x0]) ++ List.replicate (1 - (lg_sl ([.int x0])).length) Slot.unset).toArray = ls at hl ⊢
  have hl : lv_has ls 1 [(0, .int x0)] := hl
  unfold fJ16_valueOf at hF
  refine lv_iload_n hx hb dJ16_valueOf_0 rfl (lv_at hl 0 rfl) ?_
  refine lv_bipush (v := (-128)) hx hb dJ16_valueOf_1 rfl ?_
  obtain ⟨q1, hq1, hF⟩ := lte hF
  refine cjnc (C := q1 = true) (I := HI D h0 h0 s.heap) (nJ := 1) (lvJ := [(0, .int x0)]) (J := 23) (stJ := []) ?_ ?_
  · intro cq1 H locs cs ss ls hM hl
    have hF := ifp hF cq1
    obtain ⟨r5, er5, hF⟩ := obn hF
    refine cno (ci := 17) S hX hM er5 (by decide) q1045 q1046 q130 dJ16_valueOf_23 (fun H cs ss hM => ?_)
    refine lv_dup hx hb dJ16_valueOf_26 rfl ?_
    refine lv_iload_n hx hb dJ16_valueOf_27 rfl (lv_at hl 0 rfl) ?_
    obtain ⟨r6, er6, hF⟩ := obn hF
    refine ccr (rest := [.ref r5.1]) (st1 := [.ref r5.1]) S hX hM (metJ16_init l F D r5.2 r5.1 x0 r6 er6) (ci_I (As := [.int x0]) (rest := [.ref r5.1]) S rfl q1047 q1048 q1049 hyJ16_init hlJ16_init rfl dJ16_valueOf_28) q1049 q130 (Nat.le_of_ble_eq_true rfl) (Nat.le_of_ble_eq_true rfl) hl.1 (Nat.le_of_ble_eq_true rfl) rfl (fun H locs cs ss hM => ?_)
    have hz := (Option.some.inj hF)
    subst hz
    exact cra S hM hr (Or.inl ⟨_, rfl⟩) hlocks dJ16_valueOf_31
  · intro hAq1
    refine cjnc (C := q1 = false) (I := HI D h0 h0 s.heap) (nJ := 1) (lvJ := [(0, .int x0)]) (J := 13) (stJ := []) ?_ ?_
    · intro cq1 H locs cs ss ls hM hl
      have hF := ifn hF (by rw [cq1]; decide)
      refine cstr S hM (ust5 hX) q1043 dJ16_valueOf_13 ?_
      refine lv_iload_n hx hb dJ16_valueOf_16 rfl (lv_at hl 0 rfl) ?_
      refine lv_sipush (v := 128) hx hb dJ16_valueOf_17 rfl ?_
      refine lv_iadd hx hb dJ16_valueOf_20 ?_
      obtain ⟨a8, ea8, hF⟩ := obn hF
      refine can40 S hX hM ea8 dJ16_valueOf_21 ?_
      have hz := (Option.some.inj hF)
      subst hz
      exact cra S hM hr (Or.inl ⟨_, rfl⟩) hlocks dJ16_valueOf_22
    · intro hBq1
      refine lv_icmp_lt (tgt := 23) hx hb dJ16_valueOf_3 (by decide) (fun c2 => ?_) (fun c2 => ?_)
      · have hq1 := ifp hq1 c2
        subst hq1
        exact hAq1 rfl _ _ _ _ _ hM (lv_sub hl [0] rfl)
      · have hq1 := ifn hq1 c2
        refine lv_iload_n hx hb dJ16_valueOf_6 rfl (lv_at hl 0 rfl) ?_
        refine cst (ref := "") S hM (ust4 hX) q1041 dJ16_valueOf_7 ?_
        refine lv_icmp_gt (tgt := 23) hx hb dJ16_valueOf_10 (by decide) (fun c4 => ?_) (fun c4 => ?_)
        · have hq1 := ifp hq1 c4
          subst hq1
          exact hAq1 rfl _ _ _ _ _ hM (lv_sub hl [0] rfl)
        · have hq1 := ifn hq1 c4
          subst hq1
          exact hBq1 rfl _ _ _ _ _ hM (lv_sub hl [0] rfl)
def fX7_door (F : Nat) (h0 : HS) (x0 : Nat) : Option ((Nat ⊕ Unit) × HS) := ((fR h0 x0 5 5 9).bind fun a1 => ((fR h0 a1 2 2 7).bind fun a2 => gT h0 a2 15 15 (((fJ2_size F h0 a2).bind fun r3 => (if 8 ≤ r3 then (gT h0 x0 5 5 (((fX6_need F h0 x0 0 4).bind fun r5 => thr r5.1 (fun b5 => some (.inl b5, r5.2)) fun w5 => gT r5.2 x0 5 5 (((fX6_go F r5.2 x0).bind fun r6 => ((fR r6 x0 5 5 9).bind fun a7 => gT r6 x0 5 5 (((fX6_holdTuft F r6 x0 a7).bind fun r8 => thr r8.1 (fun b8 => some (.inl b8, r8.2)) fun w8 => ((fR r8.2 x0 5 5 9).bind fun a9 => ((fR r8.2 a9 2 2 9).bind fun a10 => ((aI r8.2 a10 33 w8).bind fun v11 => (if v11 = 0 then (gT r8.2 x0 5 5 (((fX6_need F r8.2 x0 1 3).bind fun r22 => thr r22.1 (fun b22 => some (.inl b22, r22.2)) fun w22 => ((fR r22.2 x0 5 5 9).bind fun a23 => ((fR r22.2 a23 2 2 9).bind fun a24 => ((wI r22.2 a24 33 w8 (vp_nar .boolean 1)).bind fun σ25 => ((fR σ25 x0 5 5 9).bind fun a26 => ((fR σ25 a26 2 2 7).bind fun a27 => ((fJ16_valueOf F σ25 w8).bind fun r28 => gT r28.2 a27 15 15 (((fJ2_add F r28.2 a27 r28.1).bind fun r29 => gT r29.2 x0 5 5 (((fX6_go F r29.2 x0).bind fun r30 => some (.inr (), r30)))))))))))))) else (gT r8.2 x0 5 5 (((fX6_need F r8.2 x0 0 3).bind fun r13 => thr r13.1 (fun b13 => some (.inl b13, r13.2)) fun w13 => ((fR r13.2 x0 5 5 9).bind fun a14 => ((fR r13.2 a14 2 2 9).bind fun a15 => ((wI r13.2 a15 33 w8 (vp_nar .boolean 1)).bind fun σ16 => ((fR σ16 x0 5 5 9).bind fun a17 => ((fR σ16 a17 2 2 7).bind fun a18 => ((fJ16_valueOf F σ16 w8).bind fun r19 => gT r19.2 a18 15 15 (((fJ2_add F r19.2 a18 r19.1).bind fun r20 => gT r20.2 x0 5 5 (((fX6_go F r20.2 x0).bind fun r21 => some (.inr (), r21)))))))))))))))))))))))))) else (gT h0 x0 5 5 (((fX6_need F h0 x0 1 4).bind fun r31 => thr r31.1 (fun b31 => some (.inl b31, r31.2)) fun w31 => gT r31.2 x0 5 5 (((fX6_go F r31.2 x0).bind fun r32 => ((fR r32 x0 5 5 9).bind fun a33 => gT r32 x0 5 5 (((fX6_holdTuft F r32 x0 a33).bind fun r34 => thr r34.1 (fun b34 => some (.inl b34, r34.2)) fun w34 => ((fR r34.2 x0 5 5 9).bind fun a35 => ((fR r34.2 a35 2 2 9).bind fun a36 => ((aI r34.2 a36 33 w34).bind fun v37 => (if v37 = 0 then (gT r34.2 x0 5 5 (((fX6_need F r34.2 x0 1 3).bind fun r48 => thr r48.1 (fun b48 => some (.inl b48, r48.2)) fun w48 => ((fR r48.2 x0 5 5 9).bind fun a49 => ((fR r48.2 a49 2 2 9).bind fun a50 => ((wI r48.2 a50 33 w34 (vp_nar .boolean 1)).bind fun σ51 => ((fR σ51 x0 5 5 9).bind fun a52 => ((fR σ51 a52 2 2 7).bind fun a53 => ((fJ16_valueOf F σ51 w34).bind fun r54 => gT r54.2 a53 15 15 (((fJ2_add F r54.2 a53 r54.1).bind fun r55 => gT r55.2 x0 5 5 (((fX6_go F r55.2 x0).bind fun r56 => some (.inr (), r56)))))))))))))) else (gT r34.2 x0 5 5 (((fX6_need F r34.2 x0 0 3).bind fun r39 => thr r39.1 (fun b39 => some (.inl b39, r39.2)) fun w39 => ((fR r39.2 x0 5 5 9).bind fun a40 => ((fR r39.2 a40 2 2 9).bind fun a41 => ((wI r39.2 a41 33 w34 (vp_nar .boolean 1)).bind fun σ42 => ((fR σ42 x0 5 5 9).bind fun a43 => ((fR σ42 a43 2 2 7).bind fun a44 => ((fJ16_valueOf F σ42 w34).bind fun r45 => gT r45.2 a44 15 15 (((fJ2_add F r45.2 a44 r45.1).bind fun r46 => gT r46.2 x0 5 5 (((fX6_go F r46.2 x0).bind fun r47 => some (.inr (), r47)))))))))))))))))))))))))))))))
theorem hyX7_door : yX7_door.cls ≠ "java/lang/invoke/MethodHandle" ∧ yX7_door.cls ≠ "java/lang/invoke/VarHandle" := by decide +kernel
theorem hlX7_door : (parseMethodDescriptor yX7_door.desc).map (fun d => d.parameters.length) = some 0 := by decide +kernel
set_option maxHeartbeats 4000000 in
set_option maxRecDepth 100000 in
theorem metX7_door (l : Launch) [NoTr l] (F : Nat) (D : va_G) (h0 : HS) (x0 : Nat) (r : (Nat ⊕ Unit) × HS) (hF : fX7_door F h0 x0 = some r) : CMet l yX7_door (ws_ yX7_door cX7_door 2 none) 13 311 D [.ref x0] h0 r.2 (xv r.1) := by
  refine CMet.ofW (by decide) ?_
  intro p e s m below meth c s₁ B S hX hM hr hlocks hnt hin
  obtain ⟨hx, hb, hml, hown, hts⟩ := id S
  have hl := lv_entry ([.ref x0]) (n := 2) (Nat.le_of_ble_eq_true rfl)
  rw [lg_entry_eq]
  generalize (lg_sl ([.ref x0]) ++ List.replicate (2 - (lg_sl ([.ref x0])).length) Slot.unset).toArray = ls at hl ⊢
  have hl : lv_has ls 2 [(0, .ref x0)] := hl
  unfold fX7_door at hF
  refine lv_aload_n hx hb dX7_door_0 rfl (lv_at hl 0 rfl) ?_
  refine lv_aload_n hx hb dX7_door_1 rfl (lv_at hl 0 rfl) ?_
  obtain ⟨a1, ea1, hF⟩ := obn hF
  refine cgn S hX hM ea1 ck_5_5_9 q454 (fun _ h => h) dX7_door_2 ?_
  obtain ⟨a2, ea2, hF⟩ := obn hF
  refine cgnN S hX hM ea2 ck_2_2_7 (uq212 hX) dX7_door_5 ?_
  obtain ⟨z3, hF⟩ := gTe hF
  obtain ⟨r3, er3, hF⟩ := obn hF
  refine ccr (rest := [.ref x0]) (st1 := [.int r3, .ref x0]) S hX hM (metJ2_size l F D h0 a2 r3 er3) (ci_V (C := "java/util/ArrayList") (As := []) (rest := [.ref x0]) S q829 q830 q831 q832 hyJ2_size (HI.cell (ci := 14) hX hM (by decide) (by omega)) hlJ2_size rfl dX7_door_8) q832 q107 (Nat.le_of_ble_eq_true rfl) (Nat.le_of_ble_eq_true rfl) hl.1 (Nat.le_of_ble_eq_true rfl) rfl (fun H locs cs ss hM => ?_)
  refine lv_bipush (v := 8) hx hb dX7_door_11 rfl ?_
  refine lv_icmp_ge (tgt := 20) hx hb dX7_door_13 (by decide) (fun c4 => ?_) (fun c4 => ?_)
  · have hF := ifp hF c4
    refine lv_iconst (v := 0) hx hb dX7_door_20 rfl ?_
    refine lv_iconst (v := 4) hx hb dX7_door_21 rfl ?_
    obtain ⟨z5, hF⟩ := gTe hF
    obtain ⟨r5, er5, hF⟩ := obn hF
    refine cctv (rest := []) S hX hM (metX6_need l F D h0 x0 0 4 r5 er5) (ci_U (C := "RugReader$HouseReader") (As := [.int 0, .int 4]) (rest := []) S q735 q736 rfl q739 q738 q740 hyX6_need (HI.cell (ci := 4) hX hM (by decide) (by omega)) hlX6_need rfl dX7_door_22) q740 q112 (Nat.le_of_ble_eq_true rfl) (Nat.le_of_ble_eq_true rfl) hl.1 (Nat.le_of_ble_eq_true rfl) (fun w5 ew5 H locs cs ss hM => ?_) (fun b5 eb5 H locs cs ss hM => ?_)
    · have hF := thr_r hF ew5
      refine lv_aload_n hx hb dX7_door_25 rfl (lv_at hl 0 rfl) ?_
      obtain ⟨z6, hF⟩ := gTe hF
      obtain ⟨r6, er6, hF⟩ := obn hF
      refine ccr (rest := []) (st1 := []) S hX hM (metX6_go l F D r5.2 x0 r6 er6) (ci_U (C := "RugReader$HouseReader") (As := []) (rest := []) S q502 q503 rfl q506 q505 q507 hyX6_go (HI.cell (ci := 4) hX hM (by decide) (by omega)) hlX6_go rfl dX7_door_26) q507 q112 (Nat.le_of_ble_eq_true rfl) (Nat.le_of_ble_eq_true rfl) hl.1 (Nat.le_of_ble_eq_true rfl) rfl (fun H locs cs ss hM => ?_)
      refine lv_aload_n hx hb dX7_door_29 rfl (lv_at hl 0 rfl) ?_
      refine lv_aload_n hx hb dX7_door_30 rfl (lv_at hl 0 rfl) ?_
      obtain ⟨a7, ea7, hF⟩ := obn hF
      refine cgn S hX hM ea7 ck_5_5_9 q454 (fun _ h => h) dX7_door_31 ?_
      obtain ⟨z8, hF⟩ := gTe hF
      obtain ⟨r8, er8, hF⟩ := obn hF
      refine ccti (rest := []) S hX hM (metX6_holdTuft l F D r6 x0 a7 r8 er8) (ci_U (C := "RugReader$HouseReader") (As := [.ref a7]) (rest := []) S q1026 q1027 rfl q1030 q1029 q1031 hyX6_holdTuft (HI.cell (ci := 4) hX hM (by decide) (by omega)) hlX6_holdTuft rfl dX7_door_34) q1031 q112 (Nat.le_of_ble_eq_true rfl) (Nat.le_of_ble_eq_true rfl) hl.1 (Nat.le_of_ble_eq_true rfl) (fun w8 ew8 H locs cs ss hM => ?_) (fun b8 eb8 H locs cs ss hM => ?_)
      · have hF := thr_r hF ew8
        refine lv_istore_n (lv' := [(1, .int w8), (0, .ref x0)]) hx hb dX7_door_37 rfl hl (by decide) rfl (fun ls hl => ?_)
        refine lv_aload_n hx hb dX7_door_38 rfl (lv_at hl 1 rfl) ?_
        refine lv_aload_n hx hb dX7_door_39 rfl (lv_at hl 1 rfl) ?_
        obtain ⟨a9, ea9, hF⟩ := obn hF
        refine cgn S hX hM ea9 ck_5_5_9 q454 (fun _ h => h) dX7_door_40 ?_
        obtain ⟨a10, ea10, hF⟩ := obn hF
        refine cgnN S hX hM ea10 ck_2_2_9 (uq219 hX) dX7_door_43 ?_
        refine lv_iload_n hx hb dX7_door_46 rfl (lv_at hl 0 rfl) ?_
        obtain ⟨v11, ev11, hF⟩ := obn hF
        refine caz S hX hM ev11 dX7_door_47 ?_
        refine lv_if_ne (tgt := 55) hx hb dX7_door_48 (by decide) (fun c12 => ?_) (fun c12 => ?_)
        · have hF := ifn hF c12
          refine lv_iconst (v := 0) hx hb dX7_door_55 rfl ?_
          refine lv_iconst (v := 3) hx hb dX7_door_56 rfl ?_
          obtain ⟨z13, hF⟩ := gTe hF
          obtain ⟨r13, er13, hF⟩ := obn hF
          refine cctv (rest := []) S hX hM (metX6_need l F D r8.2 x0 0 3 r13 er13) (ci_U (C := "RugReader$HouseReader") (As := [.int 0, .int 3]) (rest := []) S q735 q736 rfl q739 q738 q740 hyX6_need (HI.cell (ci := 4) hX hM (by decide) (by omega)) hlX6_need rfl dX7_door_57) q740 q112 (Nat.le_of_ble_eq_true rfl) (Nat.le_of_ble_eq_true rfl) hl.1 (Nat.le_of_ble_eq_true rfl) (fun w13 ew13 H locs cs ss hM => ?_) (fun b13 eb13 H locs cs ss hM => ?_)
          · have hF := thr_r hF ew13
            refine lv_aload_n hx hb dX7_door_60 rfl (lv_at hl 1 rfl) ?_
            obtain ⟨a14, ea14, hF⟩ := obn hF
            refine cgn S hX hM ea14 ck_5_5_9 q454 (fun _ h => h) dX7_door_61 ?_
            obtain ⟨a15, ea15, hF⟩ := obn hF
            refine cgnN S hX hM ea15 ck_2_2_9 (uq219 hX) dX7_door_64 ?_
            refine lv_iload_n hx hb dX7_door_67 rfl (lv_at hl 0 rfl) ?_
            refine lv_iconst (v := 1) hx hb dX7_door_68 rfl ?_
            obtain ⟨σ16, eσ16, hF⟩ := obn hF
            refine cwz S hX hM eσ16 dX7_door_69 (fun H locs hM => ?_)
            refine lv_aload_n hx hb dX7_door_70 rfl (lv_at hl 1 rfl) ?_
            obtain ⟨a17, ea17, hF⟩ := obn hF
            refine cgn S hX hM ea17 ck_5_5_9 q454 (fun _ h => h) dX7_door_71 ?_
            obtain ⟨a18, ea18, hF⟩ := obn hF
            refine cgnN S hX hM ea18 ck_2_2_7 (uq212 hX) dX7_door_74 ?_
            refine lv_iload_n hx hb dX7_door_77 rfl (lv_at hl 0 rfl) ?_
            obtain ⟨r19, er19, hF⟩ := obn hF
            refine ccr (rest := [.ref a18]) (st1 := [.ref r19.1, .ref a18]) S hX hM (metJ16_valueOf l F D σ16 w8 r19 er19) (ci_S (As := [.int w8]) (rest := [.ref a18]) S q1038 q1039 q130 q1040 hyJ16_valueOf hlJ16_valueOf rfl dX7_door_78) q1040 q130 (Nat.le_of_ble_eq_true rfl) (Nat.le_of_ble_eq_true rfl) hl.1 (Nat.le_of_ble_eq_true rfl) rfl (fun H locs cs ss hM => ?_)
            obtain ⟨z20, hF⟩ := gTe hF
            obtain ⟨r20, er20, hF⟩ := obn hF
            refine ccr (rest := []) (st1 := [.int r20.1]) S hX hM (metJ2_add l F D r19.2 a18 r19.1 r20 er20) (ci_V (C := "java/util/ArrayList") (As := [.ref r19.1]) (rest := []) S q969 q970 q971 q972 hyJ2_add (HI.cell (ci := 14) hX hM (by decide) (by omega)) hlJ2_add rfl dX7_door_81) q972 q107 (Nat.le_of_ble_eq_true rfl) (Nat.le_of_ble_eq_true rfl) hl.1 (Nat.le_of_ble_eq_true rfl) rfl (fun H locs cs ss hM => ?_)
            refine lv_pop hx hb dX7_door_84 rfl ?_
            refine lv_aload_n hx hb dX7_door_85 rfl (lv_at hl 1 rfl) ?_
            obtain ⟨z21, hF⟩ := gTe hF
            obtain ⟨r21, er21, hF⟩ := obn hF
            refine ccr (rest := []) (st1 := []) S hX hM (metX6_go l F D r20.2 x0 r21 er21) (ci_U (C := "RugReader$HouseReader") (As := []) (rest := []) S q502 q503 rfl q506 q505 q507 hyX6_go (HI.cell (ci := 4) hX hM (by decide) (by omega)) hlX6_go rfl dX7_door_86) q507 q112 (Nat.le_of_ble_eq_true rfl) (Nat.le_of_ble_eq_true rfl) hl.1 (Nat.le_of_ble_eq_true rfl) rfl (fun H locs cs ss hM => ?_)
            have hz := (Option.some.inj hF)
            subst hz
            exact crv S hM hr hlocks dX7_door_89
          · have hF := thr_q hF eb13
            have hz := (Option.some.inj hF)
            subst hz
            exact cxout hM (fun x hx => (hnt x hx).elim) hlocks
        · have hF := ifp hF c12
          refine lv_iconst (v := 1) hx hb dX7_door_51 rfl ?_
          refine lv_goto (tgt := 56) hx hb dX7_door_52 (by decide) ?_
          refine lv_iconst (v := 3) hx hb dX7_door_56 rfl ?_
          obtain ⟨z22, hF⟩ := gTe hF
          obtain ⟨r22, er22, hF⟩ := obn hF
          refine cctv (rest := []) S hX hM (metX6_need l F D r8.2 x0 1 3 r22 er22) (ci_U (C := "RugReader$HouseReader") (As := [.int 1, .int 3]) (rest := []) S q735 q736 rfl q739 q738 q740 hyX6_need (HI.cell (ci := 4) hX hM (by decide) (by omega)) hlX6_need rfl dX7_door_57) q740 q112 (Nat.le_of_ble_eq_true rfl) (Nat.le_of_ble_eq_true rfl) hl.1 (Nat.le_of_ble_eq_true rfl) (fun w22 ew22 H locs cs ss hM => ?_) (fun b22 eb22 H locs cs ss hM => ?_)
          · have hF := thr_r hF ew22
            refine lv_aload_n hx hb dX7_door_60 rfl (lv_at hl 1 rfl) ?_
            obtain ⟨a23, ea23, hF⟩ := obn hF
            refine cgn S hX hM ea23 ck_5_5_9 q454 (fun _ h => h) dX7_door_61 ?_
            obtain ⟨a24, ea24, hF⟩ := obn hF
            refine cgnN S hX hM ea24 ck_2_2_9 (uq219 hX) dX7_door_64 ?_
            refine lv_iload_n hx hb dX7_door_67 rfl (lv_at hl 0 rfl) ?_
            refine lv_iconst (v := 1) hx hb dX7_door_68 rfl ?_
            obtain ⟨σ25, eσ25, hF⟩ := obn hF
            refine cwz S hX hM eσ25 dX7_door_69 (fun H locs hM => ?_)
            refine lv_aload_n hx hb dX7_door_70 rfl (lv_at hl 1 rfl) ?_
            obtain ⟨a26, ea26, hF⟩ := obn hF
            refine cgn S hX hM ea26 ck_5_5_9 q454 (fun _ h => h) dX7_door_71 ?_
            obtain ⟨a27, ea27, hF⟩ := obn hF
            refine cgnN S hX hM ea27 ck_2_2_7 (uq212 hX) dX7_door_74 ?_
            refine lv_iload_n hx hb dX7_door_77 rfl (lv_at hl 0 rfl) ?_
            obtain ⟨r28, er28, hF⟩ := obn hF
            refine ccr (rest := [.ref a27]) (st1 := [.ref r28.1, .ref a27]) S hX hM (metJ16_valueOf l F D σ25 w8 r28 er28) (ci_S (As := [.int w8]) (rest := [.ref a27]) S q1038 q1039 q130 q1040 hyJ16_valueOf hlJ16_valueOf rfl dX7_door_78) q1040 q130 (Nat.le_of_ble_eq_true rfl) (Nat.le_of_ble_eq_true rfl) hl.1 (Nat.le_of_ble_eq_true rfl) rfl (fun H locs cs ss hM => ?_)
            obtain ⟨z29, hF⟩ := gTe hF
            obtain ⟨r29, er29, hF⟩ := obn hF
            refine ccr (rest := []) (st1 := [.int r29.1]) S hX hM (metJ2_add l F D r28.2 a27 r28.1 r29 er29) (ci_V (C := "java/util/ArrayList") (As := [.ref r28.1]) (rest := []) S q969 q970 q971 q972 hyJ2_add (HI.cell (ci := 14) hX hM (by decide) (by omega)) hlJ2_add rfl dX7_door_81) q972 q107 (Nat.le_of_ble_eq_true rfl) (Nat.le_of_ble_eq_true rfl) hl.1 (Nat.le_of_ble_eq_true rfl) rfl (fun H locs cs ss hM => ?_)
            refine lv_pop hx hb dX7_door_84 rfl ?_
            refine lv_aload_n hx hb dX7_door_85 rfl (lv_at hl 1 rfl) ?_
            obtain ⟨z30, hF⟩ := gTe hF
            obtain ⟨r30, er30, hF⟩ := obn hF
            refine ccr (rest := []) (st1 := []) S hX hM (metX6_go l F D r29.2 x0 r30 er30) (ci_U (C := "RugReader$HouseReader") (As := []) (rest := []) S q502 q503 rfl q506 q505 q507 hyX6_go (HI.cell (ci := 4) hX hM (by decide) (by omega)) hlX6_go rfl dX7_door_86) q507 q112 (Nat.le_of_ble_eq_true rfl) (Nat.le_of_ble_eq_true rfl) hl.1 (Nat.le_of_ble_eq_true rfl) rfl (fun H locs cs ss hM => ?_)
            have hz := (Option.some.inj hF)
            subst hz
            exact crv S hM hr hlocks dX7_door_89
          · have hF := thr_q hF eb22
            have hz := (Option.some.inj hF)
            subst hz
            exact cxout hM (fun x hx => (hnt x hx).elim) hlocks
      · have hF := thr_q hF eb8
        have hz := (Option.some.inj hF)
        subst hz
        exact cxout hM (fun x hx => (hnt x hx).elim) hlocks
    · have hF := thr_q hF eb5
      have hz := (Option.some.inj hF)
      subst hz
      exact cxout hM (fun x hx => (hnt x hx).elim) hlocks
  · have hF := ifn hF c4
    refine lv_iconst (v := 1) hx hb dX7_door_16 rfl ?_
    refine lv_goto (tgt := 21) hx hb dX7_door_17 (by decide) ?_
    refine lv_iconst (v := 4) hx hb dX7_door_21 rfl ?_
    obtain ⟨z31, hF⟩ := gTe hF
    obtain ⟨r31, er31, hF⟩ := obn hF
    refine cctv (rest := []) S hX hM (metX6_need l F D h0 x0 1 4 r31 er31) (ci_U (C := "RugReader$HouseReader") (As := [.int 1, .int 4]) (rest := []) S q735 q736 rfl q739 q738 q740 hyX6_need (HI.cell (ci := 4) hX hM (by decide) (by omega)) hlX6_need rfl dX7_door_22) q740 q112 (Nat.le_of_ble_eq_true rfl) (Nat.le_of_ble_eq_true rfl) hl.1 (Nat.le_of_ble_eq_true rfl) (fun w31 ew31 H locs cs ss hM => ?_) (fun b31 eb31 H locs cs ss hM => ?_)
    · have hF := thr_r hF ew31
      refine lv_aload_n hx hb dX7_door_25 rfl (lv_at hl 0 rfl) ?_
      obtain ⟨z32, hF⟩ := gTe hF
      obtain ⟨r32, er32, hF⟩ := obn hF
      refine ccr (rest := []) (st1 := []) S hX hM (metX6_go l F D r31.2 x0 r32 er32) (ci_U (C := "RugReader$HouseReader") (As := []) (rest := []) S q502 q503 rfl q506 q505 q507 hyX6_go (HI.cell (ci := 4) hX hM (by decide) (by omega)) hlX6_go rfl dX7_door_26) q507 q112 (Nat.le_of_ble_eq_true rfl) (Nat.le_of_ble_eq_true rfl) hl.1 (Nat.le_of_ble_eq_true rfl) rfl (fun H locs cs ss hM => ?_)
      refine lv_aload_n hx hb dX7_door_29 rfl (lv_at hl 0 rfl) ?_
      refine lv_aload_n hx hb dX7_door_30 rfl (lv_at hl 0 rfl) ?_
      obtain ⟨a33, ea33, hF⟩ := obn hF
      refine cgn S hX hM ea33 ck_5_5_9 q454 (fun _ h => h) dX7_door_31 ?_
      obtain ⟨z34, hF⟩ := gTe hF
      obtain ⟨r34, er34, hF⟩ := obn hF
      refine ccti (rest := []) S hX hM (metX6_holdTuft l F D r32 x0 a33 r34 er34) (ci_U (C := "RugReader$HouseReader") (As := [.ref a33]) (rest := []) S q1026 q1027 rfl q1030 q1029 q1031 hyX6_holdTuft (HI.cell (ci := 4) hX hM (by decide) (by omega)) hlX6_holdTuft rfl dX7_door_34) q1031 q112 (Nat.le_of_ble_eq_true rfl) (Nat.le_of_ble_eq_true rfl) hl.1 (Nat.le_of_ble_eq_true rfl) (fun w34 ew34 H locs cs ss hM => ?_) (fun b34 eb34 H locs cs ss hM => ?_)
      · have hF := thr_r hF ew34
        refine lv_istore_n (lv' := [(1, .int w34), (0, .ref x0)]) hx hb dX7_door_37 rfl hl (by decide) rfl (fun ls hl => ?_)
        refine lv_aload_n hx hb dX7_door_38 rfl (lv_at hl 1 rfl) ?_
        refine lv_aload_n hx hb dX7_door_39 rfl (lv_at hl 1 rfl) ?_
        obtain ⟨a35, ea35, hF⟩ := obn hF
        refine cgn S hX hM ea35 ck_5_5_9 q454 (fun _ h => h) dX7_door_40 ?_
        obtain ⟨a36, ea36, hF⟩ := obn hF
        refine cgnN S hX hM ea36 ck_2_2_9 (uq219 hX) dX7_door_43 ?_
        refine lv_iload_n hx hb dX7_door_46 rfl (lv_at hl 0 rfl) ?_
        obtain ⟨v37, ev37, hF⟩ := obn hF
        refine caz S hX hM ev37 dX7_door_47 ?_
        refine lv_if_ne (tgt := 55) hx hb dX7_door_48 (by decide) (fun c38 => ?_) (fun c38 => ?_)
        · have hF := ifn hF c38
          refine lv_iconst (v := 0) hx hb dX7_door_55 rfl ?_
          refine lv_iconst (v := 3) hx hb dX7_door_56 rfl ?_
          obtain ⟨z39, hF⟩ := gTe hF
          obtain ⟨r39, er39, hF⟩ := obn hF
          refine cctv (rest := []) S hX hM (metX6_need l F D r34.2 x0 0 3 r39 er39) (ci_U (C := "RugReader$HouseReader") (As := [.int 0, .int 3]) (rest := []) S q735 q736 rfl q739 q738 q740 hyX6_need (HI.cell (ci := 4) hX hM (by decide) (by omega)) hlX6_need rfl dX7_door_57) q740 q112 (Nat.le_of_ble_eq_true rfl) (Nat.le_of_ble_eq_true rfl) hl.1 (Nat.le_of_ble_eq_true rfl) (fun w39 ew39 H locs cs ss hM => ?_) (fun b39 eb39 H locs cs ss hM => ?_)
          · have hF := thr_r hF ew39
            refine lv_aload_n hx hb dX7_door_60 rfl (lv_at hl 1 rfl) ?_
            obtain ⟨a40, ea40, hF⟩ := obn hF
            refine cgn S hX hM ea40 ck_5_5_9 q454 (fun _ h => h) dX7_door_61 ?_
            obtain ⟨a41, ea41, hF⟩ := obn hF
            refine cgnN S hX hM ea41 ck_2_2_9 (uq219 hX) dX7_door_64 ?_
            refine lv_iload_n hx hb dX7_door_67 rfl (lv_at hl 0 rfl) ?_
            refine lv_iconst (v := 1) hx hb dX7_door_68 rfl ?_
            obtain ⟨σ42, eσ42, hF⟩ := obn hF
            refine cwz S hX hM eσ42 dX7_door_69 (fun H locs hM => ?_)
            refine lv_aload_n hx hb dX7_door_70 rfl (lv_at hl 1 rfl) ?_
            obtain ⟨a43, ea43, hF⟩ := obn hF
            refine cgn S hX hM ea43 ck_5_5_9 q454 (fun _ h => h) dX7_door_71 ?_
            obtain ⟨a44, ea44, hF⟩ := obn hF
            refine cgnN S hX hM ea44 ck_2_2_7 (uq212 hX) dX7_door_74 ?_
            refine lv_iload_n hx hb dX7_door_77 rfl (lv_at hl 0 rfl) ?_
            obtain ⟨r45, er45, hF⟩ := obn hF
            refine ccr (rest := [.ref a44]) (st1 := [.ref r45.1, .ref a44]) S hX hM (metJ16_valueOf l F D σ42 w34 r45 er45) (ci_S (As := [.int w34]) (rest := [.ref a44]) S q1038 q1039 q130 q1040 hyJ16_valueOf hlJ16_valueOf rfl dX7_door_78) q1040 q130 (Nat.le_of_ble_eq_true rfl) (Nat.le_of_ble_eq_true rfl) hl.1 (Nat.le_of_ble_eq_true rfl) rfl (fun H locs cs ss hM => ?_)
            obtain ⟨z46, hF⟩ := gTe hF
            obtain ⟨r46, er46, hF⟩ := obn hF
            refine ccr (rest := []) (st1 := [.int r46.1]) S hX hM (metJ2_add l F D r45.2 a44 r45.1 r46 er46) (ci_V (C := "java/util/ArrayList") (As := [.ref r45.1]) (rest := []) S q969 q970 q971 q972 hyJ2_add (HI.cell (ci := 14) hX hM (by decide) (by omega)) hlJ2_add rfl dX7_door_81) q972 q107 (Nat.le_of_ble_eq_true rfl) (Nat.le_of_ble_eq_true rfl) hl.1 (Nat.le_of_ble_eq_true rfl) rfl (fun H locs cs ss hM => ?_)
            refine lv_pop hx hb dX7_door_84 rfl ?_
            refine lv_aload_n hx hb dX7_door_85 rfl (lv_at hl 1 rfl) ?_
            obtain ⟨z47, hF⟩ := gTe hF
            obtain ⟨r47, er47, hF⟩ := obn hF
            refine ccr (rest := []) (st1 := []) S hX hM (metX6_go l F D r46.2 x0 r47 er47) (ci_U (C := "RugReader$HouseReader") (As := []) (rest := []) S q502 q503 rfl q506 q505 q507 hyX6_go (HI.cell (ci := 4) hX hM (by decide) (by omega)) hlX6_go rfl dX7_door_86) q507 q112 (Nat.le_of_ble_eq_true rfl) (Nat.le_of_ble_eq_true rfl) hl.1 (Nat.le_of_ble_eq_true rfl) rfl (fun H locs cs ss hM => ?_)
            have hz := (Option.some.inj hF)
            subst hz
            exact crv S hM hr hlocks dX7_door_89
          · have hF := thr_q hF eb39
            have hz := (Option.some.inj hF)
            subst hz
            exact cxout hM (fun x hx => (hnt x hx).elim) hlocks
        · have hF := ifp hF c38
          refine lv_iconst (v := 1) hx hb dX7_door_51 rfl ?_
          refine lv_goto (tgt := 56) hx hb dX7_door_52 (by decide) ?_
          refine lv_iconst (v := 3) hx hb dX7_door_56 rfl ?_
          obtain ⟨z48, hF⟩ := gTe hF
          obtain ⟨r48, er48, hF⟩ := obn hF
          refine cctv (rest := []) S hX hM (metX6_need l F D r34.2 x0 1 3 r48 er48) (ci_U (C := "RugReader$HouseReader") (As := [.int 1, .int 3]) (rest := []) S q735 q736 rfl q739 q738 q740 hyX6_need (HI.cell (ci := 4) hX hM (by decide) (by omega)) hlX6_need rfl dX7_door_57) q740 q112 (Nat.le_of_ble_eq_true rfl) (Nat.le_of_ble_eq_true rfl) hl.1 (Nat.le_of_ble_eq_true rfl) (fun w48 ew48 H locs cs ss hM => ?_) (fun b48 eb48 H locs cs ss hM => ?_)
          · have hF := thr_r hF ew48
            refine lv_aload_n hx hb dX7_door_60 rfl (lv_at hl 1 rfl) ?_
            obtain ⟨a49, ea49, hF⟩ := obn hF
            refine cgn S hX hM ea49 ck_5_5_9 q454 (fun _ h => h) dX7_door_61 ?_
            obtain ⟨a50, ea50, hF⟩ := obn hF
            refine cgnN S hX hM ea50 ck_2_2_9 (uq219 hX) dX7_door_64 ?_
            refine lv_iload_n hx hb dX7_door_67 rfl (lv_at hl 0 rfl) ?_
            refine lv_iconst (v := 1) hx hb dX7_door_68 rfl ?_
            obtain ⟨σ51, eσ51, hF⟩ := obn hF
            refine cwz S hX hM eσ51 dX7_door_69 (fun H locs hM => ?_)
            refine lv_aload_n hx hb dX7_door_70 rfl (lv_at hl 1 rfl) ?_
            obtain ⟨a52, ea52, hF⟩ := obn hF
            refine cgn S hX hM ea52 ck_5_5_9 q454 (fun _ h => h) dX7_door_71 ?_
            obtain ⟨a53, ea53, hF⟩ := obn hF
            refine cgnN S hX hM ea53 ck_2_2_7 (uq212 hX) dX7_door_74 ?_
            refine lv_iload_n hx hb dX7_door_77 rfl (lv_at hl 0 rfl) ?_
            obtain ⟨r54, er54, hF⟩ := obn hF
            refine ccr (rest := [.ref a53]) (st1 := [.ref r54.1, .ref a53]) S hX hM (metJ16_valueOf l F D σ51 w34 r54 er54) (ci_S (As := [.int w34]) (rest := [.ref a53]) S q1038 q1039 q130 q1040 hyJ16_valueOf hlJ16_valueOf rfl dX7_door_78) q1040 q130 (Nat.le_of_ble_eq_true rfl) (Nat.le_of_ble_eq_true rfl) hl.1 (Nat.le_of_ble_eq_true rfl) rfl (fun H locs cs ss hM => ?_)
            obtain ⟨z55, hF⟩ := gTe hF
            obtain ⟨r55, er55, hF⟩ := obn hF
            refine ccr (rest := []) (st1 := [.int r55.1]) S hX hM (metJ2_add l F D r54.2 a53 r54.1 r55 er55) (ci_V (C := "java/util/ArrayList") (As := [.ref r54.1]) (rest := []) S q969 q970 q971 q972 hyJ2_add (HI.cell (ci := 14) hX hM (by decide) (by omega)) hlJ2_add rfl dX7_door_81) q972 q107 (Nat.le_of_ble_eq_true rfl) (Nat.le_of_ble_eq_true rfl) hl.1 (Nat.le_of_ble_eq_true rfl) rfl (fun H locs cs ss hM => ?_)
            refine lv_pop hx hb dX7_door_84 rfl ?_
            refine lv_aload_n hx hb dX7_door_85 rfl (lv_at hl 1 rfl) ?_
            obtain ⟨z56, hF⟩ := gTe hF
            obtain ⟨r56, er56, hF⟩ := obn hF
            refine ccr (rest := []) (st1 := []) S hX hM (metX6_go l F D r55.2 x0 r56 er56) (ci_U (C := "RugReader$HouseReader") (As := []) (rest := []) S q502 q503 rfl q506 q505 q507 hyX6_go (HI.cell (ci := 4) hX hM (by decide) (by omega)) hlX6_go rfl dX7_door_86) q507 q112 (Nat.le_of_ble_eq_true rfl) (Nat.le_of_ble_eq_true rfl) hl.1 (Nat.le_of_ble_eq_true rfl) rfl (fun H locs cs ss hM => ?_)
            have hz := (Option.some.inj hF)
            subst hz
            exact crv S hM hr hlocks dX7_door_89
          · have hF := thr_q hF eb48
            have hz := (Option.some.inj hF)
            subst hz
            exact cxout hM (fun x hx => (hnt x hx).elim) hlocks
      · have hF := thr_q hF eb34
        have hz := (Option.some.inj hF)
        subst hz
        exact cxout hM (fun x hx => (hnt x hx).elim) hlocks
    · have hF := thr_q hF eb31
      have hz := (Option.some.inj hF)
      subst hz
      exact cxout hM (fun x hx => (hnt x hx).elim) hlocks
def fX11_init (F : Nat) (h0 : HS) (x0 : Nat) (x1 : Nat) (x2 : Int32) : Option (HS) := ((fX9_init F h0 x0 x1).bind fun r1 => ((nA r1 31 41).bind fun r2 => ((pR r2.2 x0 10 10 1 (some r2.1)).bind fun σ3 => ((nA σ3 31 41).bind fun r4 => ((pR r4.2 x0 10 10 2 (some r4.1)).bind fun σ5 => ((fR σ5 x0 10 10 1).bind fun a6 => ((wI σ5 a6 31 0 x2).bind fun σ7 => some σ7)))))))
theorem hyX11_init : yX11_init.cls ≠ "java/lang/invoke/MethodHandle" ∧ yX11_init.cls ≠ "java/lang/invoke/VarHandle" := by decide +kernel
theorem hlX11_init : (parseMethodDescriptor yX11_init.desc).map (fun d => d.parameters.length) = some 2 := by decide +kernel
set_option maxHeartbeats 4000000 in
set_option maxRecDepth 100000 in
theorem metX11_init (l : Launch) [NoTr l] (F : Nat) (D : va_G) (h0 : HS) (x0 : Nat) (x1 : Nat) (x2 : Int32) (r : HS) (hF : fX11_init F h0 x0 x1 x2 = some r) : CMet l yX11_init (ws_ yX11_init cX11_init 3 none) 2 41 D [.ref x0, .ref x1, .int x2] h0 r (.inr none) := by
  refine CMet.ofW (by decide) ?_
  intro p e s m below meth c s₁ B S hX hM hr hlocks hnt hin
  obtain ⟨hx, hb, hml, hown, hts⟩ := id S
  have hl := lv_entry ([.ref x0, .ref x1, .int x2]) (n := 3) (Nat.le_of_ble_eq_true rfl)
  rw [lg_entry_eq]
  generalize (lg_sl ([.ref x0, .ref x1, .int x2]) ++ List.replicate (3 - (lg_sl ([.ref x0, .ref x1, .int x2])).length) Slot.unset).toArray = ls at hl ⊢
  have hl : lv_has ls 3 [(0, .ref x0), (1, .ref x1), (2, .int x2)] := hl
  unfold fX11_init at hF
  refine lv_aload_n hx hb dX11_init_0 rfl (lv_at hl 0 rfl) ?_
  refine lv_aload_n hx hb dX11_init_1 rfl (lv_at hl 1 rfl) ?_
  obtain ⟨r1, er1, hF⟩ := obn hF
  refine ccr (rest := []) (st1 := []) S hX hM (metX9_init l F D h0 x0 x1 r1 er1) (ci_I (As := [.ref x1]) (rest := []) S rfl q1068 q943 q944 hyX9_init hlX9_init rfl dX11_init_2) q944 q127 (Nat.le_of_ble_eq_true rfl) (Nat.le_of_ble_eq_true rfl) hl.1 (Nat.le_of_ble_eq_true rfl) rfl (fun H locs cs ss hM => ?_)
  refine lv_aload_n hx hb dX11_init_5 rfl (lv_at hl 0 rfl) ?_
  refine lv_bipush (v := 41) hx hb dX11_init_6 rfl ?_
  obtain ⟨r2, er2, hF⟩ := obn hF
  refine cnai S hX hM er2 dX11_init_8 (fun H cs ss hM => ?_)
  obtain ⟨σ3, eσ3, hF⟩ := obn hF
  refine cprF (v := (some r2.1)) S hX hM eσ3 ck_10_10_1 cw_10_10_1 rfl q1069 hin dX11_init_10 (fun H locs hM => ?_)
  refine lv_aload_n hx hb dX11_init_13 rfl (lv_at hl 0 rfl) ?_
  refine lv_bipush (v := 41) hx hb dX11_init_14 rfl ?_
  obtain ⟨r4, er4, hF⟩ := obn hF
  refine cnai S hX hM er4 dX11_init_16 (fun H cs ss hM => ?_)
  obtain ⟨σ5, eσ5, hF⟩ := obn hF
  refine cprF (v := (some r4.1)) S hX hM eσ5 ck_10_10_2 cw_10_10_2 rfl q1072 hin dX11_init_18 (fun H locs hM => ?_)
  refine lv_aload_n hx hb dX11_init_21 rfl (lv_at hl 0 rfl) ?_
  obtain ⟨a6, ea6, hF⟩ := obn hF
  refine cgn S hX hM ea6 ck_10_10_1 q1069 (fun _ h => h) dX11_init_22 ?_
  refine lv_iconst (v := 0) hx hb dX11_init_25 rfl ?_
  refine lv_iload_n hx hb dX11_init_26 rfl (lv_at hl 2 rfl) ?_
  obtain ⟨σ7, eσ7, hF⟩ := obn hF
  refine cwi S hX hM eσ7 dX11_init_27 (fun H locs hM => ?_)
  have hz := (Option.some.inj hF)
  subst hz
  exact crv S hM hr hlocks dX11_init_28
def fX6_direction (F : Nat) (h0 : HS) (x0 : Nat) : Option (Int32) := gT h0 x0 5 7 (((fX6_is F h0 x0 (kG h0 33)).bind fun r1 => (if r1 = 0 then (gT h0 x0 5 7 (((fX6_is F h0 x0 (kG h0 34)).bind fun r3 => (if r3 = 0 then (gT h0 x0 5 7 (((fX6_is F h0 x0 (kG h0 35)).bind fun r5 => (if r5 = 0 then (gT h0 x0 5 7 (((fX6_is F h0 x0 (kG h0 36)).bind fun r7 => (if r7 = 0 then (some (-1)) else (some 3))))) else (some 2))))) else (some 1))))) else (some 0))))
theorem hyX6_direction : yX6_direction.cls ≠ "java/lang/invoke/MethodHandle" ∧ yX6_direction.cls ≠ "java/lang/invoke/VarHandle" := by decide +kernel
theorem hlX6_direction : (parseMethodDescriptor yX6_direction.desc).map (fun d => d.parameters.length) = some 0 := by decide +kernel
set_option maxHeartbeats 4000000 in
set_option maxRecDepth 100000 in
theorem metX6_direction (l : Launch) [NoTr l] (F : Nat) (D : va_G) (h0 : HS) (x0 : Nat) (r : Int32) (hF : fX6_direction F h0 x0 = some r) : CMet l yX6_direction (ws_ yX6_direction cX6_direction 1 (some .int)) 3 65 D [.ref x0] h0 h0 (.inr (some (.int r))) := by
  refine CMet.ofW (by decide) ?_
  intro p e s m below meth c s₁ B S hX hM hr hlocks hnt hin
  obtain ⟨hx, hb, hml, hown, hts⟩ := id S
  have hl := lv_entry ([.ref x0]) (n := 1) (Nat.le_of_ble_eq_true rfl)
  rw [lg_entry_eq]
  generalize (lg_sl ([.ref x0]) ++ List.replicate (1 - (lg_sl ([.ref x0])).length) Slot.unset).toArray = ls at hl ⊢
  have hl : lv_has ls 1 [(0, .ref x0)] := hl
  unfold fX6_direction at hF
  refine lv_aload_n hx hb dX6_direction_0 rfl (lv_at hl 0 rfl) ?_
  refine cldc S hM (uq1092 hX) dX6_direction_1 ?_
  obtain ⟨z1, hF⟩ := gTe hF
  obtain ⟨r1, er1, hF⟩ := obn hF
  refine ccr (rest := []) (st1 := [.int r1]) S hX hM (metX6_is l F D h0 x0 (kG h0 33) r1 er1) (by
        have ez : kT h0 x0 = 5 ∨ kT h0 x0 = 6 ∨ kT h0 x0 = 7 := by omega
        rcases ez with ez | ez | ez
        · exact ci_V (C := "RugReader$HouseReader") (As := [.ref (kG h0 33)]) (rest := []) S q1093 q714 q2343 q715 hyX6_is (HI.cell (ci := 4) hX hM (by decide) ez) hlX6_is rfl dX6_direction_3
        · exact ci_V (C := "RugReader$WalkReader") (As := [.ref (kG h0 33)]) (rest := []) S q1093 q714 q2345 q715 hyX6_is (HI.cell (ci := 5) hX hM (by decide) ez) hlX6_is rfl dX6_direction_3
        · exact ci_V (C := "RugReader$SentenceReader") (As := [.ref (kG h0 33)]) (rest := []) S q1093 q714 q2344 q715 hyX6_is (HI.cell (ci := 6) hX hM (by decide) ez) hlX6_is rfl dX6_direction_3) q715 q112 (Nat.le_of_ble_eq_true rfl) (Nat.le_of_ble_eq_true rfl) hl.1 (Nat.le_of_ble_eq_true rfl) rfl (fun H locs cs ss hM => ?_)
  refine lv_if_eq (tgt := 13) hx hb dX6_direction_6 (by decide) (fun c2 => ?_) (fun c2 => ?_)
  · have hF := ifp hF c2
    refine lv_aload_n hx hb dX6_direction_13 rfl (lv_at hl 0 rfl) ?_
    refine cldc S hM (uq1094 hX) dX6_direction_14 ?_
    obtain ⟨z3, hF⟩ := gTe hF
    obtain ⟨r3, er3, hF⟩ := obn hF
    refine ccr (rest := []) (st1 := [.int r3]) S hX hM (metX6_is l F D h0 x0 (kG h0 34) r3 er3) (by
          have ez : kT h0 x0 = 5 ∨ kT h0 x0 = 6 ∨ kT h0 x0 = 7 := by omega
          rcases ez with ez | ez | ez
          · exact ci_V (C := "RugReader$HouseReader") (As := [.ref (kG h0 34)]) (rest := []) S q1093 q714 q2343 q715 hyX6_is (HI.cell (ci := 4) hX hM (by decide) ez) hlX6_is rfl dX6_direction_16
          · exact ci_V (C := "RugReader$WalkReader") (As := [.ref (kG h0 34)]) (rest := []) S q1093 q714 q2345 q715 hyX6_is (HI.cell (ci := 5) hX hM (by decide) ez) hlX6_is rfl dX6_direction_16
          · exact ci_V (C := "RugReader$SentenceReader") (As := [.ref (kG h0 34)]) (rest := []) S q1093 q714 q2344 q715 hyX6_is (HI.cell (ci := 6) hX hM (by decide) ez) hlX6_is rfl dX6_direction_16) q715 q112 (Nat.le_of_ble_eq_true rfl) (Nat.le_of_ble_eq_true rfl) hl.1 (Nat.le_of_ble_eq_true rfl) rfl (fun H locs cs ss hM => ?_)
    refine lv_if_eq (tgt := 26) hx hb dX6_direction_19 (by decide) (fun c4 => ?_) (fun c4 => ?_)
    · have hF := ifp hF c4
      refine lv_aload_n hx hb dX6_direction_26 rfl (lv_at hl 0 rfl) ?_
      refine cldc S hM (uq1095 hX) dX6_direction_27 ?_
      obtain ⟨z5, hF⟩ := gTe hF
      obtain ⟨r5, er5, hF⟩ := obn hF
      refine ccr (rest := []) (st1 := [.int r5]) S hX hM (metX6_is l F D h0 x0 (kG h0 35) r5 er5) (by
            have ez : kT h0 x0 = 5 ∨ kT h0 x0 = 6 ∨ kT h0 x0 = 7 := by omega
            rcases ez with ez | ez | ez
            · exact ci_V (C := "RugReader$HouseReader") (As := [.ref (kG h0 35)]) (rest := []) S q1093 q714 q2343 q715 hyX6_is (HI.cell (ci := 4) hX hM (by decide) ez) hlX6_is rfl dX6_direction_29
            · exact ci_V (C := "RugReader$WalkReader") (As := [.ref (kG h0 35)]) (rest := []) S q1093 q714 q2345 q715 hyX6_is (HI.cell (ci := 5) hX hM (by decide) ez) hlX6_is rfl dX6_direction_29
            · exact ci_V (C := "RugReader$SentenceReader") (As := [.ref (kG h0 35)]) (rest := []) S q1093 q714 q2344 q715 hyX6_is (HI.cell (ci := 6) hX hM (by decide) ez) hlX6_is rfl dX6_direction_29) q715 q112 (Nat.le_of_ble_eq_true rfl) (Nat.le_of_ble_eq_true rfl) hl.1 (Nat.le_of_ble_eq_true rfl) rfl (fun H locs cs ss hM => ?_)
      refine lv_if_eq (tgt := 39) hx hb dX6_direction_32 (by decide) (fun c6 => ?_) (fun c6 => ?_)
      · have hF := ifp hF c6
        refine lv_aload_n hx hb dX6_direction_39 rfl (lv_at hl 0 rfl) ?_
        refine cldc S hM (uq1096 hX) dX6_direction_40 ?_
        obtain ⟨z7, hF⟩ := gTe hF
        obtain ⟨r7, er7, hF⟩ := obn hF
        refine ccr (rest := []) (st1 := [.int r7]) S hX hM (metX6_is l F D h0 x0 (kG h0 36) r7 er7) (by
              have ez : kT h0 x0 = 5 ∨ kT h0 x0 = 6 ∨ kT h0 x0 = 7 := by omega
              rcases ez with ez | ez | ez
              · exact ci_V (C := "RugReader$HouseReader") (As := [.ref (kG h0 36)]) (rest := []) S q1093 q714 q2343 q715 hyX6_is (HI.cell (ci := 4) hX hM (by decide) ez) hlX6_is rfl dX6_direction_42
              · exact ci_V (C := "RugReader$WalkReader") (As := [.ref (kG h0 36)]) (rest := []) S q1093 q714 q2345 q715 hyX6_is (HI.cell (ci := 5) hX hM (by decide) ez) hlX6_is rfl dX6_direction_42
              · exact ci_V (C := "RugReader$SentenceReader") (As := [.ref (kG h0 36)]) (rest := []) S q1093 q714 q2344 q715 hyX6_is (HI.cell (ci := 6) hX hM (by decide) ez) hlX6_is rfl dX6_direction_42) q715 q112 (Nat.le_of_ble_eq_true rfl) (Nat.le_of_ble_eq_true rfl) hl.1 (Nat.le_of_ble_eq_true rfl) rfl (fun H locs cs ss hM => ?_)
        refine lv_if_eq (tgt := 52) hx hb dX6_direction_45 (by decide) (fun c8 => ?_) (fun c8 => ?_)
        · have hF := ifp hF c8
          refine lv_iconst (v := (-1)) hx hb dX6_direction_52 rfl ?_
          have hz := (Option.some.inj hF)
          subst hz
          exact cri S hM hr hlocks dX6_direction_53
        · have hF := ifn hF c8
          refine lv_iconst (v := 3) hx hb dX6_direction_48 rfl ?_
          refine lv_goto (tgt := 53) hx hb dX6_direction_49 (by decide) ?_
          have hz := (Option.some.inj hF)
          subst hz
          exact cri S hM hr hlocks dX6_direction_53
      · have hF := ifn hF c6
        refine lv_iconst (v := 2) hx hb dX6_direction_35 rfl ?_
        refine lv_goto (tgt := 53) hx hb dX6_direction_36 (by decide) ?_
        have hz := (Option.some.inj hF)
        subst hz
        exact cri S hM hr hlocks dX6_direction_53
    · have hF := ifn hF c4
      refine lv_iconst (v := 1) hx hb dX6_direction_22 rfl ?_
      refine lv_goto (tgt := 53) hx hb dX6_direction_23 (by decide) ?_
      have hz := (Option.some.inj hF)
      subst hz
      exact cri S hM hr hlocks dX6_direction_53
  · have hF := ifn hF c2
    refine lv_iconst (v := 0) hx hb dX6_direction_9 rfl ?_
    refine lv_goto (tgt := 53) hx hb dX6_direction_10 (by decide) ?_
    have hz := (Option.some.inj hF)
    subst hz
    exact cri S hM hr hlocks dX6_direction_53
def fX11_last (F : Nat) (h0 : HS) (x0 : Nat) : Option (Int32) := ((fR h0 x0 10 10 1).bind fun a1 => ((oI h0 x0 10 10 3).bind fun v2 => ((aI h0 a1 31 v2).bind fun v3 => some v3)))
theorem hyX11_last : yX11_last.cls ≠ "java/lang/invoke/MethodHandle" ∧ yX11_last.cls ≠ "java/lang/invoke/VarHandle" := by decide +kernel
theorem hlX11_last : (parseMethodDescriptor yX11_last.desc).map (fun d => d.parameters.length) = some 0 := by decide +kernel
set_option maxHeartbeats 4000000 in
set_option maxRecDepth 100000 in
theorem metX11_last (l : Launch) [NoTr l] (F : Nat) (D : va_G) (h0 : HS) (x0 : Nat) (r : Int32) (hF : fX11_last F h0 x0 = some r) : CMet l yX11_last (ws_ yX11_last cX11_last 1 (some .int)) 0 0 D [.ref x0] h0 h0 (.inr (some (.int r))) := by
  refine CMet.ofW (by decide) ?_
  intro p e s m below meth c s₁ B S hX hM hr hlocks hnt hin
  obtain ⟨hx, hb, hml, hown, hts⟩ := id S
  have hl := lv_entry ([.ref x0]) (n := 1) (Nat.le_of_ble_eq_true rfl)
  rw [lg_entry_eq]
  generalize (lg_sl ([.ref x0]) ++ List.replicate (1 - (lg_sl ([.ref x0])).length) Slot.unset).toArray = ls at hl ⊢
  have hl : lv_has ls 1 [(0, .ref x0)] := hl
  unfold fX11_last at hF
  refine lv_aload_n hx hb dX11_last_0 rfl (lv_at hl 0 rfl) ?_
  obtain ⟨a1, ea1, hF⟩ := obn hF
  refine cgn S hX hM ea1 ck_10_10_1 q1069 (fun _ h => h) dX11_last_1 ?_
  refine lv_aload_n hx hb dX11_last_4 rfl (lv_at hl 0 rfl) ?_
  obtain ⟨v2, ev2, hF⟩ := obn hF
  refine cgi S hX hM ev2 ck_10_10_3 q1074 (fun _ h => h) dX11_last_5 ?_
  obtain ⟨v3, ev3, hF⟩ := obn hF
  refine cai S hX hM ev3 dX11_last_8 ?_
  have hz := (Option.some.inj hF)
  subst hz
  exact cri S hM hr hlocks dX11_last_9
def fX2_isCell (F : Nat) (h0 : HS) (x0 : Nat) (x1 : Int32) (x2 : Int32) : Option (Int32) := ((oI h0 x0 2 2 0).bind fun v1 => (if (fX1_isIn x1 0 (v1 - 1)) = 0 then (some 0) else ((oI h0 x0 2 2 1).bind fun v4 => (if (fX1_isIn x2 0 (v4 - 1)) = 0 then (some 0) else (some 1)))))
theorem hyX2_isCell : yX2_isCell.cls ≠ "java/lang/invoke/MethodHandle" ∧ yX2_isCell.cls ≠ "java/lang/invoke/VarHandle" := by decide +kernel
theorem hlX2_isCell : (parseMethodDescriptor yX2_isCell.desc).map (fun d => d.parameters.length) = some 2 := by decide +kernel
set_option maxHeartbeats 4000000 in
set_option maxRecDepth 100000 in
theorem metX2_isCell (l : Launch) [NoTr l] (F : Nat) (D : va_G) (h0 : HS) (x0 : Nat) (x1 : Int32) (x2 : Int32) (r : Int32) (hF : fX2_isCell F h0 x0 x1 x2 = some r) : CMet l yX2_isCell (ws_ yX2_isCell cX2_isCell 3 (some .boolean)) 1 22 D [.ref x0, .int x1, .int x2] h0 h0 (.inr (some (.int r))) := by
  refine CMet.ofW (by decide) ?_
  intro p e s m below meth c s₁ B S hX hM hr hlocks hnt hin
  obtain ⟨hx, hb, hml, hown, hts⟩ := id S
  have hl := lv_entry ([.ref x0, .int x1, .int x2]) (n := 3) (Nat.le_of_ble_eq_true rfl)
  rw [lg_entry_eq]
  generalize (lg_sl ([.ref x0, .int x1, .int x2]) ++ List.replicate (3 - (lg_sl ([.ref x0, .int x1, .int x2])).length) Slot.unset).toArray = ls at hl ⊢
  have hl : lv_has ls 3 [(0, .ref x0), (1, .int x1), (2, .int x2)] := hl
  unfold fX2_isCell at hF
  refine lv_iload_n hx hb dX2_isCell_0 rfl (lv_at hl 1 rfl) ?_
  refine lv_iconst (v := 0) hx hb dX2_isCell_1 rfl ?_
  refine lv_aload_n hx hb dX2_isCell_2 rfl (lv_at hl 0 rfl) ?_
  obtain ⟨v1, ev1, hF⟩ := obn hF
  refine cgi S hX hM ev1 ck_2_2_0 q183 (fun _ h => h) dX2_isCell_3 ?_
  refine lv_iconst (v := 1) hx hb dX2_isCell_6 rfl ?_
  refine lv_isub hx hb dX2_isCell_7 ?_
  refine ccr (rest := []) (st1 := [.int (fX1_isIn x1 0 (v1 - 1))]) S hX hM (metX1_isIn l D h0 x1 0 (v1 - 1) _ rfl) (ci_SN (As := [.int x1, .int 0, .int (v1 - 1)]) (rest := []) S (uq1121 hX) q821 q103 q822 hyX1_isIn hlX1_isIn rfl dX2_isCell_8) q822 q103 (Nat.le_of_ble_eq_true rfl) (Nat.le_of_ble_eq_true rfl) hl.1 (Nat.le_of_ble_eq_true rfl) rfl (fun H locs cs ss hM => ?_)
  refine lv_if_eq (tgt := 32) hx hb dX2_isCell_11 (by decide) (fun c3 => ?_) (fun c3 => ?_)
  · have hF := ifp hF c3
    refine lv_iconst (v := 0) hx hb dX2_isCell_32 rfl ?_
    have hz := (Option.some.inj hF)
    subst hz
    exact crz S hM hr hlocks (gBn gB0) dX2_isCell_33
  · have hF := ifn hF c3
    refine lv_iload_n hx hb dX2_isCell_14 rfl (lv_at hl 2 rfl) ?_
    refine lv_iconst (v := 0) hx hb dX2_isCell_15 rfl ?_
    refine lv_aload_n hx hb dX2_isCell_16 rfl (lv_at hl 0 rfl) ?_
    obtain ⟨v4, ev4, hF⟩ := obn hF
    refine cgi S hX hM ev4 ck_2_2_1 q187 (fun _ h => h) dX2_isCell_17 ?_
    refine lv_iconst (v := 1) hx hb dX2_isCell_20 rfl ?_
    refine lv_isub hx hb dX2_isCell_21 ?_
    refine ccr (rest := []) (st1 := [.int (fX1_isIn x2 0 (v4 - 1))]) S hX hM (metX1_isIn l D h0 x2 0 (v4 - 1) _ rfl) (ci_SN (As := [.int x2, .int 0, .int (v4 - 1)]) (rest := []) S (uq1121 hX) q821 q103 q822 hyX1_isIn hlX1_isIn rfl dX2_isCell_22) q822 q103 (Nat.le_of_ble_eq_true rfl) (Nat.le_of_ble_eq_true rfl) hl.1 (Nat.le_of_ble_eq_true rfl) rfl (fun H locs cs ss hM => ?_)
    refine lv_if_eq (tgt := 32) hx hb dX2_isCell_25 (by decide) (fun c6 => ?_) (fun c6 => ?_)
    · have hF := ifp hF c6
      refine lv_iconst (v := 0) hx hb dX2_isCell_32 rfl ?_
      have hz := (Option.some.inj hF)
      subst hz
      exact crz S hM hr hlocks (gBn gB0) dX2_isCell_33
    · have hF := ifn hF c6
      refine lv_iconst (v := 1) hx hb dX2_isCell_28 rfl ?_
      refine lv_goto (tgt := 33) hx hb dX2_isCell_29 (by decide) ?_
      have hz := (Option.some.inj hF)
      subst hz
      exact crz S hM hr hlocks (gBn gB1) dX2_isCell_33
def fX2_beside (F : Nat) (h0 : HS) (x0 : Nat) (x1 : Int32) (x2 : Int32) : Option (Int32) := ((aI h0 (kG h0 10) 31 x2).bind fun v2 => ((aI h0 (kG h0 11) 31 x2).bind fun v4 => gT h0 x0 2 2 (((fX2_isCell F h0 x0 ((irm x1 12) + v2) ((x1 / 12) + v4)).bind fun r5 => (if r5 = 0 then (some (-1)) else (some ((12 * ((x1 / 12) + v4)) + ((irm x1 12) + v2))))))))
theorem hyX2_beside : yX2_beside.cls ≠ "java/lang/invoke/MethodHandle" ∧ yX2_beside.cls ≠ "java/lang/invoke/VarHandle" := by decide +kernel
theorem hlX2_beside : (parseMethodDescriptor yX2_beside.desc).map (fun d => d.parameters.length) = some 2 := by decide +kernel
set_option maxHeartbeats 4000000 in
set_option maxRecDepth 100000 in
theorem metX2_beside (l : Launch) [NoTr l] (F : Nat) (D : va_G) (h0 : HS) (x0 : Nat) (x1 : Int32) (x2 : Int32) (r : Int32) (hF : fX2_beside F h0 x0 x1 x2 = some r) : CMet l yX2_beside (ws_ yX2_beside cX2_beside 5 (some .int)) 2 44 D [.ref x0, .int x1, .int x2] h0 h0 (.inr (some (.int r))) := by
  refine CMet.ofW (by decide) ?_
  intro p e s m below meth c s₁ B S hX hM hr hlocks hnt hin
  obtain ⟨hx, hb, hml, hown, hts⟩ := id S
  have hl := lv_entry ([.ref x0, .int x1, .int x2]) (n := 5) (Nat.le_of_ble_eq_true rfl)
  rw [lg_entry_eq]
  generalize (lg_sl ([.ref x0, .int x1, .int x2]) ++ List.replicate (5 - (lg_sl ([.ref x0, .int x1, .int x2])).length) Slot.unset).toArray = ls at hl ⊢
  have hl : lv_has ls 5 [(0, .ref x0), (1, .int x1), (2, .int x2)] := hl
  unfold fX2_beside at hF
  refine lv_iload_n hx hb dX2_beside_0 rfl (lv_at hl 1 rfl) ?_
  refine lv_bipush (v := 12) hx hb dX2_beside_1 rfl ?_
  refine lv_irem hx hb dX2_beside_3 (by decide) ?_
  refine cstrN S hM (ust0 hX) (uq1113 hX) dX2_beside_4 ?_
  refine lv_iload_n hx hb dX2_beside_7 rfl (lv_at hl 2 rfl) ?_
  obtain ⟨v2, ev2, hF⟩ := obn hF
  refine cai S hX hM ev2 dX2_beside_8 ?_
  refine lv_iadd hx hb dX2_beside_9 ?_
  refine lv_istore_n (lv' := [(3, .int ((irm x1 12) + v2)), (0, .ref x0), (1, .int x1), (2, .int x2)]) hx hb dX2_beside_10 rfl hl (by decide) rfl (fun ls hl => ?_)
  refine lv_iload_n hx hb dX2_beside_11 rfl (lv_at hl 2 rfl) ?_
  refine lv_bipush (v := 12) hx hb dX2_beside_12 rfl ?_
  refine lv_idiv hx hb dX2_beside_14 (by decide) ?_
  refine cstrN S hM (ust1 hX) (uq1115 hX) dX2_beside_15 ?_
  refine lv_iload_n hx hb dX2_beside_18 rfl (lv_at hl 3 rfl) ?_
  obtain ⟨v4, ev4, hF⟩ := obn hF
  refine cai S hX hM ev4 dX2_beside_19 ?_
  refine lv_iadd hx hb dX2_beside_20 ?_
  refine lv_istore (lv' := [(4, .int ((x1 / 12) + v4)), (3, .int ((irm x1 12) + v2)), (0, .ref x0), (1, .int x1), (2, .int x2)]) hx hb dX2_beside_21 hl (by decide) rfl (fun ls hl => ?_)
  refine lv_aload_n hx hb dX2_beside_23 rfl (lv_at hl 2 rfl) ?_
  refine lv_iload_n hx hb dX2_beside_24 rfl (lv_at hl 1 rfl) ?_
  refine lv_iload hx hb dX2_beside_25 (lv_at hl 0 rfl) ?_
  obtain ⟨z5, hF⟩ := gTe hF
  obtain ⟨r5, er5, hF⟩ := obn hF
  refine ccr (rest := []) (st1 := [.int r5]) S hX hM (metX2_isCell l F D h0 x0 ((irm x1 12) + v2) ((x1 / 12) + v4) r5 er5) (ci_V (C := "RugReader$House") (As := [.int ((irm x1 12) + v2), .int ((x1 / 12) + v4)]) (rest := []) S q1117 q1118 q1119 q1120 hyX2_isCell (HI.cell (ci := 1) hX hM (by decide) (by omega)) hlX2_isCell rfl dX2_beside_27) q1120 q104 (Nat.le_of_ble_eq_true rfl) (Nat.le_of_ble_eq_true rfl) hl.1 (Nat.le_of_ble_eq_true rfl) rfl (fun H locs cs ss hM => ?_)
  refine lv_if_eq (tgt := 43) hx hb dX2_beside_30 (by decide) (fun c6 => ?_) (fun c6 => ?_)
  · have hF := ifp hF c6
    refine lv_iconst (v := (-1)) hx hb dX2_beside_43 rfl ?_
    have hz := (Option.some.inj hF)
    subst hz
    exact cri S hM hr hlocks dX2_beside_44
  · have hF := ifn hF c6
    refine lv_bipush (v := 12) hx hb dX2_beside_33 rfl ?_
    refine lv_iload hx hb dX2_beside_35 (lv_at hl 0 rfl) ?_
    refine lv_imul hx hb dX2_beside_37 ?_
    refine lv_iload_n hx hb dX2_beside_38 rfl (lv_at hl 1 rfl) ?_
    refine lv_iadd hx hb dX2_beside_39 ?_
    refine lv_goto (tgt := 44) hx hb dX2_beside_40 (by decide) ?_
    have hz := (Option.some.inj hF)
    subst hz
    exact cri S hM hr hlocks dX2_beside_44
def fX2_open (F : Nat) (h0 : HS) (x0 : Nat) (x1 : Int32) (x2 : Int32) : Option (Int32) := gT h0 x0 2 2 (((fX2_beside F h0 x0 x1 x2).bind fun r1 => (if r1 = (-1) then (some (-1)) else ((fR h0 x0 2 2 8).bind fun a3 => ((aI h0 a3 33 r1).bind fun v4 => (if v4 = 0 then (some r1) else (some (-1))))))))
theorem hyX2_open : yX2_open.cls ≠ "java/lang/invoke/MethodHandle" ∧ yX2_open.cls ≠ "java/lang/invoke/VarHandle" := by decide +kernel
theorem hlX2_open : (parseMethodDescriptor yX2_open.desc).map (fun d => d.parameters.length) = some 2 := by decide +kernel
set_option maxHeartbeats 4000000 in
set_option maxRecDepth 100000 in
theorem metX2_open (l : Launch) [NoTr l] (F : Nat) (D : va_G) (h0 : HS) (x0 : Nat) (x1 : Int32) (x2 : Int32) (r : Int32) (hF : fX2_open F h0 x0 x1 x2 = some r) : CMet l yX2_open (ws_ yX2_open cX2_open 4 (some .int)) 3 68 D [.ref x0, .int x1, .int x2] h0 h0 (.inr (some (.int r))) := by
  refine CMet.ofW (by decide) ?_
  intro p e s m below meth c s₁ B S hX hM hr hlocks hnt hin
  obtain ⟨hx, hb, hml, hown, hts⟩ := id S
  have hl := lv_entry ([.ref x0, .int x1, .int x2]) (n := 4) (Nat.le_of_ble_eq_true rfl)
  rw [lg_entry_eq]
  generalize (lg_sl ([.ref x0, .int x1, .int x2]) ++ List.replicate (4 - (lg_sl ([.ref x0, .int x1, .int x2])).length) Slot.unset).toArray = ls at hl ⊢
  have hl : lv_has ls 4 [(0, .ref x0), (1, .int x1), (2, .int x2)] := hl
  unfold fX2_open at hF
  refine lv_aload_n hx hb dX2_open_0 rfl (lv_at hl 0 rfl) ?_
  refine lv_iload_n hx hb dX2_open_1 rfl (lv_at hl 1 rfl) ?_
  refine lv_iload_n hx hb dX2_open_2 rfl (lv_at hl 2 rfl) ?_
  obtain ⟨z1, hF⟩ := gTe hF
  obtain ⟨r1, er1, hF⟩ := obn hF
  refine ccr (rest := []) (st1 := [.int r1]) S hX hM (metX2_beside l F D h0 x0 x1 x2 r1 er1) (ci_V (C := "RugReader$House") (As := [.int x1, .int x2]) (rest := []) S q1109 q1110 q1111 q1112 hyX2_beside (HI.cell (ci := 1) hX hM (by decide) (by omega)) hlX2_beside rfl dX2_open_3) q1112 q104 (Nat.le_of_ble_eq_true rfl) (Nat.le_of_ble_eq_true rfl) hl.1 (Nat.le_of_ble_eq_true rfl) rfl (fun H locs cs ss hM => ?_)
  refine lv_istore_n (lv' := [(3, .int r1), (0, .ref x0), (1, .int x1), (2, .int x2)]) hx hb dX2_open_6 rfl hl (by decide) rfl (fun ls hl => ?_)
  refine lv_iload_n hx hb dX2_open_7 rfl (lv_at hl 0 rfl) ?_
  refine lv_iconst (v := (-1)) hx hb dX2_open_8 rfl ?_
  refine lv_icmp_eq (tgt := 21) hx hb dX2_open_9 (by decide) (fun c2 => ?_) (fun c2 => ?_)
  · have hF := ifp hF c2
    refine lv_iconst (v := (-1)) hx hb dX2_open_21 rfl ?_
    refine lv_goto (tgt := 26) hx hb dX2_open_22 (by decide) ?_
    have hz := (Option.some.inj hF)
    subst hz
    exact cri S hM hr hlocks dX2_open_26
  · have hF := ifn hF c2
    refine lv_aload_n hx hb dX2_open_12 rfl (lv_at hl 1 rfl) ?_
    obtain ⟨a3, ea3, hF⟩ := obn hF
    refine cgn S hX hM ea3 ck_2_2_8 q214 (fun _ h => h) dX2_open_13 ?_
    refine lv_iload_n hx hb dX2_open_16 rfl (lv_at hl 0 rfl) ?_
    obtain ⟨v4, ev4, hF⟩ := obn hF
    refine caz S hX hM ev4 dX2_open_17 ?_
    refine lv_if_eq (tgt := 25) hx hb dX2_open_18 (by decide) (fun c5 => ?_) (fun c5 => ?_)
    · have hF := ifp hF c5
      refine lv_iload_n hx hb dX2_open_25 rfl (lv_at hl 0 rfl) ?_
      have hz := (Option.some.inj hF)
      subst hz
      exact cri S hM hr hlocks dX2_open_26
    · have hF := ifn hF c5
      refine lv_iconst (v := (-1)) hx hb dX2_open_21 rfl ?_
      refine lv_goto (tgt := 26) hx hb dX2_open_22 (by decide) ?_
      have hz := (Option.some.inj hF)
      subst hz
      exact cri S hM hr hlocks dX2_open_26
def fX11_on (F : Nat) (h0 : HS) (x0 : Nat) (x1 : Int32) (x2 : Int32) : Option (HS) := ((fR h0 x0 10 10 2).bind fun a1 => ((oI h0 x0 10 10 3).bind fun v2 => ((wI h0 a1 31 v2 x1).bind fun σ3 => ((oI σ3 x0 10 10 3).bind fun v4 => ((pI σ3 x0 10 10 3 (v4 + 1)).bind fun σ5 => ((fR σ5 x0 10 10 1).bind fun a6 => ((oI σ5 x0 10 10 3).bind fun v7 => ((wI σ5 a6 31 v7 x2).bind fun σ8 => ((fR σ8 x0 10 10 2).bind fun a9 => ((oI σ8 x0 10 10 3).bind fun v10 => ((wI σ8 a9 31 v10 x1).bind fun σ11 => some σ11)))))))))))
theorem hyX11_on : yX11_on.cls ≠ "java/lang/invoke/MethodHandle" ∧ yX11_on.cls ≠ "java/lang/invoke/VarHandle" := by decide +kernel
theorem hlX11_on : (parseMethodDescriptor yX11_on.desc).map (fun d => d.parameters.length) = some 2 := by decide +kernel
set_option maxHeartbeats 4000000 in
set_option maxRecDepth 100000 in
theorem metX11_on (l : Launch) [NoTr l] (F : Nat) (D : va_G) (h0 : HS) (x0 : Nat) (x1 : Int32) (x2 : Int32) (r : HS) (hF : fX11_on F h0 x0 x1 x2 = some r) : CMet l yX11_on (ws_ yX11_on cX11_on 3 none) 0 0 D [.ref x0, .int x1, .int x2] h0 r (.inr none) := by
  refine CMet.ofW (by decide) ?_
  intro p e s m below meth c s₁ B S hX hM hr hlocks hnt hin
  obtain ⟨hx, hb, hml, hown, hts⟩ := id S
  have hl := lv_entry ([.ref x0, .int x1, .int x2]) (n := 3) (Nat.le_of_ble_eq_true rfl)
  rw [lg_entry_eq]
  generalize (lg_sl ([.ref x0, .int x1, .int x2]) ++ List.replicate (3 - (lg_sl ([.ref x0, .int x1, .int x2])).length) Slot.unset).toArray = ls at hl ⊢
  have hl : lv_has ls 3 [(0, .ref x0), (1, .int x1), (2, .int x2)] := hl
  unfold fX11_on at hF
  refine lv_aload_n hx hb dX11_on_0 rfl (lv_at hl 0 rfl) ?_
  obtain ⟨a1, ea1, hF⟩ := obn hF
  refine cgn S hX hM ea1 ck_10_10_2 q1072 (fun _ h => h) dX11_on_1 ?_
  refine lv_aload_n hx hb dX11_on_4 rfl (lv_at hl 0 rfl) ?_
  obtain ⟨v2, ev2, hF⟩ := obn hF
  refine cgi S hX hM ev2 ck_10_10_3 q1074 (fun _ h => h) dX11_on_5 ?_
  refine lv_iload_n hx hb dX11_on_8 rfl (lv_at hl 1 rfl) ?_
  obtain ⟨σ3, eσ3, hF⟩ := obn hF
  refine cwi S hX hM eσ3 dX11_on_9 (fun H locs hM => ?_)
  refine lv_aload_n hx hb dX11_on_10 rfl (lv_at hl 0 rfl) ?_
  refine lv_dup hx hb dX11_on_11 rfl ?_
  obtain ⟨v4, ev4, hF⟩ := obn hF
  refine cgi S hX hM ev4 ck_10_10_3 q1074 (fun _ h => h) dX11_on_12 ?_
  refine lv_iconst (v := 1) hx hb dX11_on_15 rfl ?_
  refine lv_iadd hx hb dX11_on_16 ?_
  obtain ⟨σ5, eσ5, hF⟩ := obn hF
  refine cpi S hX hM eσ5 ck_10_10_3 cw_10_10_3 rfl rfl q1074 (fun _ h => h) dX11_on_17 (fun H locs hM => ?_)
  refine lv_aload_n hx hb dX11_on_20 rfl (lv_at hl 0 rfl) ?_
  obtain ⟨a6, ea6, hF⟩ := obn hF
  refine cgn S hX hM ea6 ck_10_10_1 q1069 (fun _ h => h) dX11_on_21 ?_
  refine lv_aload_n hx hb dX11_on_24 rfl (lv_at hl 0 rfl) ?_
  obtain ⟨v7, ev7, hF⟩ := obn hF
  refine cgi S hX hM ev7 ck_10_10_3 q1074 (fun _ h => h) dX11_on_25 ?_
  refine lv_iload_n hx hb dX11_on_28 rfl (lv_at hl 2 rfl) ?_
  obtain ⟨σ8, eσ8, hF⟩ := obn hF
  refine cwi S hX hM eσ8 dX11_on_29 (fun H locs hM => ?_)
  refine lv_aload_n hx hb dX11_on_30 rfl (lv_at hl 0 rfl) ?_
  obtain ⟨a9, ea9, hF⟩ := obn hF
  refine cgn S hX hM ea9 ck_10_10_2 q1072 (fun _ h => h) dX11_on_31 ?_
  refine lv_aload_n hx hb dX11_on_34 rfl (lv_at hl 0 rfl) ?_
  obtain ⟨v10, ev10, hF⟩ := obn hF
  refine cgi S hX hM ev10 ck_10_10_3 q1074 (fun _ h => h) dX11_on_35 ?_
  refine lv_iload_n hx hb dX11_on_38 rfl (lv_at hl 1 rfl) ?_
  obtain ⟨σ11, eσ11, hF⟩ := obn hF
  refine cwi S hX hM eσ11 dX11_on_39 (fun H locs hM => ?_)
  have hz := (Option.some.inj hF)
  subst hz
  exact crv S hM hr hlocks dX11_on_40
def lX7_way_129 (F : Nat) : Nat → HS → Nat → Nat → Int32 → Int32 → Int32 → Option ((HS) ⊕ ((Nat ⊕ Unit) × HS))
  | 0, _, _, _, _, _, _ => none
  | n + 1, σ, y0, y3, y4, y5, y6 => (if y5 ≤ y6 then (some (.inl σ)) else ((fR σ y0 5 5 9).bind fun a27 => gT σ y3 10 10 (((fX11_last F σ y3).bind fun r28 => gT σ a27 2 2 (((fX2_open F σ a27 r28 y4).bind fun r29 => (lt_ (if r29 = (-1) then 0 else 1) fun q30 => gT σ y0 5 5 (((fX6_need F σ y0 q30 5).bind fun r32 => thr r32.1 (fun b32 => some (.inr (.inl b32, r32.2))) fun w32 => gT r32.2 y3 10 10 (((fX11_on F r32.2 y3 y4 r29).bind fun r33 => lX7_way_129 F n r33 y0 y3 y4 y5 (y6 + 1))))))))))))
def lX7_way_85 (F : Nat) : Nat → HS → Nat → Nat → Int32 → Option ((HS) ⊕ ((Nat ⊕ Unit) × HS))
  | 0, _, _, _, _ => none
  | n + 1, σ, y0, y3, y4 => (if y4 = (-1) then (some (.inl σ)) else (gT σ y0 5 5 (((fX6_go F σ y0).bind fun r20 => gT r20 y0 5 5 (((fX6_hold F r20 y0 1 11).bind fun r21 => thr r21.1 (fun b21 => some (.inr (.inl b21, r21.2))) fun w21 => ((oI r21.2 y3 10 10 3).bind fun v22 => (lt_ (if 40 < (v22 + w21) then 0 else 1) fun q23 => gT r21.2 y0 5 5 (((fX6_need F r21.2 y0 q23 4).bind fun r25 => thr r25.1 (fun b25 => some (.inr (.inl b25, r25.2))) fun w25 => (osm (lX7_way_129 F F r25.2 y0 y3 y4 w21 0) Sum.inr fun q34 => gT q34 y0 5 5 (((fX6_go F q34 y0).bind fun r35 => gT r35 y0 5 5 (((fX6_direction F r35 y0).bind fun r36 => lX7_way_85 F n r35 y0 y3 r36)))))))))))))))
def fX7_way (F : Nat) (h0 : HS) (x0 : Nat) : Option ((Nat ⊕ Unit) × HS) := ((fR h0 x0 5 5 9).bind fun a1 => ((fR h0 a1 2 2 6).bind fun a2 => gT h0 a2 15 15 (((fJ2_size F h0 a2).bind fun r3 => (if 6 ≤ r3 then (gT h0 x0 5 5 (((fX6_need F h0 x0 0 4).bind fun r5 => thr r5.1 (fun b5 => some (.inl b5, r5.2)) fun w5 => gT r5.2 x0 5 5 (((fX6_go F r5.2 x0).bind fun r6 => gT r6 x0 5 5 (((fX7_fresh F r6 x0).bind fun r7 => thr r7.1 (fun b7 => some (.inl b7, r7.2)) fun w7 => ((fR r7.2 x0 5 5 9).bind fun a8 => gT r7.2 x0 5 5 (((fX6_holdTuft F r7.2 x0 a8).bind fun r9 => thr r9.1 (fun b9 => some (.inl b9, r9.2)) fun w9 => ((fR r9.2 x0 5 5 9).bind fun a10 => ((fR r9.2 a10 2 2 8).bind fun a11 => ((aI r9.2 a11 33 w9).bind fun v12 => (if v12 = 0 then (gT r9.2 x0 5 5 (((fX6_need F r9.2 x0 1 5).bind fun r41 => thr r41.1 (fun b41 => some (.inl b41, r41.2)) fun w41 => gT r41.2 x0 5 5 (((fX6_go F r41.2 x0).bind fun r42 => ((nO r42 10 4).bind fun r43 => ((fX11_init F r43.2 r43.1 w7 w9).bind fun r44 => gT r44 x0 5 5 (((fX6_direction F r44 x0).bind fun r45 => (osm (lX7_way_85 F F r44 x0 r43.1 r45) id fun q46 => ((fR q46 x0 5 5 9).bind fun a47 => ((fR q46 a47 2 2 6).bind fun a48 => gT q46 a48 15 15 (((fJ2_add F q46 a48 r43.1).bind fun r49 => some (.inr (), r49.2))))))))))))))) else (gT r9.2 x0 5 5 (((fX6_need F r9.2 x0 0 5).bind fun r14 => thr r14.1 (fun b14 => some (.inl b14, r14.2)) fun w14 => gT r14.2 x0 5 5 (((fX6_go F r14.2 x0).bind fun r15 => ((nO r15 10 4).bind fun r16 => ((fX11_init F r16.2 r16.1 w7 w9).bind fun r17 => gT r17 x0 5 5 (((fX6_direction F r17 x0).bind fun r18 => (osm (lX7_way_85 F F r17 x0 r16.1 r18) id fun q37 => ((fR q37 x0 5 5 9).bind fun a38 => ((fR q37 a38 2 2 6).bind fun a39 => gT q37 a39 15 15 (((fJ2_add F q37 a39 r16.1).bind fun r40 => some (.inr (), r40.2))))))))))))))))))))))))))))) else (gT h0 x0 5 5 (((fX6_need F h0 x0 1 4).bind fun r50 => thr r50.1 (fun b50 => some (.inl b50, r50.2)) fun w50 => gT r50.2 x0 5 5 (((fX6_go F r50.2 x0).bind fun r51 => gT r51 x0 5 5 (((fX7_fresh F r51 x0).bind fun r52 => thr r52.1 (fun b52 => some (.inl b52, r52.2)) fun w52 => ((fR r52.2 x0 5 5 9).bind fun a53 => gT r52.2 x0 5 5 (((fX6_holdTuft F r52.2 x0 a53).bind fun r54 => thr r54.1 (fun b54 => some (.inl b54, r54.2)) fun w54 => ((fR r54.2 x0 5 5 9).bind fun a55 => ((fR r54.2 a55 2 2 8).bind fun a56 => ((aI r54.2 a56 33 w54).bind fun v57 => (if v57 = 0 then (gT r54.2 x0 5 5 (((fX6_need F r54.2 x0 1 5).bind fun r68 => thr r68.1 (fun b68 => some (.inl b68, r68.2)) fun w68 => gT r68.2 x0 5 5 (((fX6_go F r68.2 x0).bind fun r69 => ((nO r69 10 4).bind fun r70 => ((fX11_init F r70.2 r70.1 w52 w54).bind fun r71 => gT r71 x0 5 5 (((fX6_direction F r71 x0).bind fun r72 => (osm (lX7_way_85 F F r71 x0 r70.1 r72) id fun q73 => ((fR q73 x0 5 5 9).bind fun a74 => ((fR q73 a74 2 2 6).bind fun a75 => gT q73 a75 15 15 (((fJ2_add F q73 a75 r70.1).bind fun r76 => some (.inr (), r76.2))))))))))))))) else (gT r54.2 x0 5 5 (((fX6_need F r54.2 x0 0 5).bind fun r59 => thr r59.1 (fun b59 => some (.inl b59, r59.2)) fun w59 => gT r59.2 x0 5 5 (((fX6_go F r59.2 x0).bind fun r60 => ((nO r60 10 4).bind fun r61 => ((fX11_init F r61.2 r61.1 w52 w54).bind fun r62 => gT r62 x0 5 5 (((fX6_direction F r62 x0).bind fun r63 => (osm (lX7_way_85 F F r62 x0 r61.1 r63) id fun q64 => ((fR q64 x0 5 5 9).bind fun a65 => ((fR q64 a65 2 2 6).bind fun a66 => gT q64 a66 15 15 (((fJ2_add F q64 a66 r61.1).bind fun r67 => some (.inr (), r67.2))))))))))))))))))))))))))))))))))
theorem hyX7_way : yX7_way.cls ≠ "java/lang/invoke/MethodHandle" ∧ yX7_way.cls ≠ "java/lang/invoke/VarHandle" := by decide +kernel
theorem hlX7_way : (parseMethodDescriptor yX7_way.desc).map (fun d => d.parameters.length) = some 0 := by decide +kernel
set_option maxHeartbeats 4000000 in
set_option maxRecDepth 100000 in
theorem wlX7_way_129 {p : Program} {l : Launch} [NoTr l] {e : Env} {s : State} {m : MethodId} {args : Array Value} {below : List Frame} {meth : Method} {c : Code} {D : va_G} {h0 : HS} (S : CallFix p m c cX7_way 8 s args lw_all RX7) (hX : CX D (kG h0) s) (hr : meth.sig.returnType = none) (hlocks : meth.locks = false) (hnt : ∀ x ∈ c.exceptionTable.toList, False) (F : Nat) (res : (Nat ⊕ Unit) × HS) : ∀ (n : Nat) (σ : HS) (y0 : Nat) (y3 : Nat) (y4 : Int32) (y5 : Int32) (y6 : Int32) (out : (HS) ⊕ ((Nat ⊕ Unit) × HS)), lX7_way_129 F n σ y0 y3 y4 y5 y6 = some out → (∀ v, out = .inr v → v = res) → (∀ o, out = .inl o → ∀ (H : Heap) (locs : List Loc) (cs ss : Nat) (ls : Array Slot), HI D h0 o s.heap H locs cs ss → lv_has ls 8 [(0, .ref y0), (3, .ref y3)] → W p l e (cR 13 311 h0) s m args below meth c H locs cs ss (cMQ below D h0 res.2 (xv res.1) args s) (F0 m 181 ls [])) → ∀ (H : Heap) (locs : List Loc) (cs ss : Nat) (ls : Array Slot), HI D h0 σ s.heap H locs cs ss → lv_has ls 8 [(0, .ref y0), (3, .ref y3), (4, .int y4), (5, .int y5), (6, .int y6)] → W p l e (cR 13 311 h0) s m args below meth c H locs cs ss (cMQ below D h0 res.2 (xv res.1) args s) (F0 m 129 ls []) := by
  intro n
  induction n with
  | zero =>
    intro σ y0 y3 y4 y5 y6 out hF
    cases (show (none : Option _) = some out from hF)
  | succ n ih =>
    intro σ y0 y3 y4 y5 y6 out hF hv hk H locs cs ss ls hM hl
    rw [lX7_way_129] at hF
    obtain ⟨hx, hb, hml, hown, hts⟩ := id S
    refine lv_iload hx hb dX7_way_129 (lv_at hl 4 rfl) ?_
    refine lv_iload hx hb dX7_way_131 (lv_at hl 3 rfl) ?_
    refine lv_icmp_ge (tgt := 181) hx hb dX7_way_133 (by decide) (fun c26 => ?_) (fun c26 => ?_)
    · have hF := ifp hF c26
      cases hF
      exact hk _ rfl _ _ _ _ _ hM (lv_sub hl [0, 1] rfl)
    · have hF := ifn hF c26
      refine lv_aload_n hx hb dX7_way_136 rfl (lv_at hl 0 rfl) ?_
      obtain ⟨a27, ea27, hF⟩ := obn hF
      refine cgn S hX hM ea27 ck_5_5_9 q454 (fun _ h => h) dX7_way_137 ?_
      refine lv_aload_n hx hb dX7_way_140 rfl (lv_at hl 1 rfl) ?_
      obtain ⟨z28, hF⟩ := gTe hF
      obtain ⟨r28, er28, hF⟩ := obn hF
      refine ccr (rest := [.ref a27]) (st1 := [.int r28, .ref a27]) S hX hM (metX11_last l F D σ y3 r28 er28) (ci_V (C := "RugReader$Way") (As := []) (rest := [.ref a27]) S q1101 q1102 q1103 q1104 hyX11_last (HI.cell (ci := 9) hX hM (by decide) (by omega)) hlX11_last rfl dX7_way_141) q1104 q132 (Nat.le_of_ble_eq_true rfl) (Nat.le_of_ble_eq_true rfl) hl.1 (Nat.le_of_ble_eq_true rfl) rfl (fun H locs cs ss hM => ?_)
      refine lv_iload hx hb dX7_way_144 (lv_at hl 2 rfl) ?_
      obtain ⟨z29, hF⟩ := gTe hF
      obtain ⟨r29, er29, hF⟩ := obn hF
      refine ccr (rest := []) (st1 := [.int r29]) S hX hM (metX2_open l F D σ a27 r28 y4 r29 er29) (ci_V (C := "RugReader$House") (As := [.int r28, .int y4]) (rest := []) S q1105 q1106 q1107 q1108 hyX2_open (HI.cell (ci := 1) hX hM (by decide) (by omega)) hlX2_open rfl dX7_way_146) q1108 q104 (Nat.le_of_ble_eq_true rfl) (Nat.le_of_ble_eq_true rfl) hl.1 (Nat.le_of_ble_eq_true rfl) rfl (fun H locs cs ss hM => ?_)
      refine lv_istore (lv' := [(7, .int r29), (0, .ref y0), (3, .ref y3), (4, .int y4), (5, .int y5), (6, .int y6)]) hx hb dX7_way_149 hl (by decide) rfl (fun ls hl => ?_)
      refine lv_aload_n hx hb dX7_way_151 rfl (lv_at hl 1 rfl) ?_
      refine lv_iload hx hb dX7_way_152 (lv_at hl 0 rfl) ?_
      refine lv_iconst (v := (-1)) hx hb dX7_way_154 rfl ?_
      obtain ⟨q30, hq30, hF⟩ := lte hF
      refine cjn (I := HI D h0 σ s.heap) (nJ := 8) (lvJ := [(0, .ref y0), (3, .ref y3), (4, .int y4), (5, .int y5), (6, .int y6), (7, .int r29)]) (J := 163) (stJ := [.int q30, .ref y0]) ?_ ?_
      · intro H locs cs ss ls hM hl
        refine lv_iconst (v := 5) hx hb dX7_way_163 rfl ?_
        obtain ⟨z32, hF⟩ := gTe hF
        obtain ⟨r32, er32, hF⟩ := obn hF
        refine cctv (rest := []) S hX hM (metX6_need l F D σ y0 q30 5 r32 er32) (ci_U (C := "RugReader$HouseReader") (As := [.int q30, .int 5]) (rest := []) S q735 q736 rfl q739 q738 q740 hyX6_need (HI.cell (ci := 4) hX hM (by decide) (by omega)) hlX6_need rfl dX7_way_164) q740 q112 (Nat.le_of_ble_eq_true rfl) (Nat.le_of_ble_eq_true rfl) hl.1 (Nat.le_of_ble_eq_true rfl) (fun w32 ew32 H locs cs ss hM => ?_) (fun b32 eb32 H locs cs ss hM => ?_)
        · have hF := thr_r hF ew32
          refine lv_aload_n hx hb dX7_way_167 rfl (lv_at hl 1 rfl) ?_
          refine lv_iload hx hb dX7_way_168 (lv_at hl 2 rfl) ?_
          refine lv_iload hx hb dX7_way_170 (lv_at hl 5 rfl) ?_
          obtain ⟨z33, hF⟩ := gTe hF
          obtain ⟨r33, er33, hF⟩ := obn hF
          refine ccr (rest := []) (st1 := []) S hX hM (metX11_on l F D r32.2 y3 y4 r29 r33 er33) (ci_V (C := "RugReader$Way") (As := [.int y4, .int r29]) (rest := []) S q1122 q1123 q1124 q1125 hyX11_on (HI.cell (ci := 9) hX hM (by decide) (by omega)) hlX11_on rfl dX7_way_172) q1125 q132 (Nat.le_of_ble_eq_true rfl) (Nat.le_of_ble_eq_true rfl) hl.1 (Nat.le_of_ble_eq_true rfl) rfl (fun H locs cs ss hM => ?_)
          refine lv_iinc (v := y6 + 1) (lv' := [(6, .int (y6 + 1)), (0, .ref y0), (3, .ref y3), (4, .int y4), (5, .int y5), (7, .int r29)]) hx hb dX7_way_175 hl (k := 4) rfl rfl (by decide) rfl (fun ls hl => ?_)
          refine lv_goto (tgt := 129) hx hb dX7_way_178 (by decide) ?_
          exact ih _ _ _ _ _ _ out hF hv hk _ _ _ _ _ hM (lv_sub hl [1, 2, 3, 4, 0] rfl)
        · have hF := thr_q hF eb32
          have hz := (hv _ ((Option.some.inj hF)).symm)
          subst hz
          exact cxout hM (fun x hx => (hnt x hx).elim) hlocks
      · intro hJq30
        refine lv_icmp_eq (tgt := 162) hx hb dX7_way_155 (by decide) (fun c31 => ?_) (fun c31 => ?_)
        · have hq30 := ifp hq30 c31
          refine lv_iconst (v := 0) hx hb dX7_way_162 rfl ?_
          subst hq30
          exact hJq30 _ _ _ _ _ hM (lv_sub hl [1, 2, 3, 4, 5, 0] rfl)
        · have hq30 := ifn hq30 c31
          refine lv_iconst (v := 1) hx hb dX7_way_158 rfl ?_
          refine lv_goto (tgt := 163) hx hb dX7_way_159 (by decide) ?_
          subst hq30
          exact hJq30 _ _ _ _ _ hM (lv_sub hl [1, 2, 3, 4, 5, 0] rfl)
set_option maxHeartbeats 4000000 in
set_option maxRecDepth 100000 in
theorem wlX7_way_85 {p : Program} {l : Launch} [NoTr l] {e : Env} {s : State} {m : MethodId} {args : Array Value} {below : List Frame} {meth : Method} {c : Code} {D : va_G} {h0 : HS} (S : CallFix p m c cX7_way 8 s args lw_all RX7) (hX : CX D (kG h0) s) (hr : meth.sig.returnType = none) (hlocks : meth.locks = false) (hnt : ∀ x ∈ c.exceptionTable.toList, False) (F : Nat) (res : (Nat ⊕ Unit) × HS) : ∀ (n : Nat) (σ : HS) (y0 : Nat) (y3 : Nat) (y4 : Int32) (out : (HS) ⊕ ((Nat ⊕ Unit) × HS)), lX7_way_85 F n σ y0 y3 y4 = some out → (∀ v, out = .inr v → v = res) → (∀ o, out = .inl o → ∀ (H : Heap) (locs : List Loc) (cs ss : Nat) (ls : Array Slot), HI D h0 o s.heap H locs cs ss → lv_has ls 8 [(0, .ref y0), (3, .ref y3)] → W p l e (cR 13 311 h0) s m args below meth c H locs cs ss (cMQ below D h0 res.2 (xv res.1) args s) (F0 m 194 ls [])) → ∀ (H : Heap) (locs : List Loc) (cs ss : Nat) (ls : Array Slot), HI D h0 σ s.heap H locs cs ss → lv_has ls 8 [(0, .ref y0), (3, .ref y3), (4, .int y4)] → W p l e (cR 13 311 h0) s m args below meth c H locs cs ss (cMQ below D h0 res.2 (xv res.1) args s) (F0 m 85 ls []) := by
  intro n
  induction n with
  | zero =>
    intro σ y0 y3 y4 out hF
    cases (show (none : Option _) = some out from hF)
  | succ n ih =>
    intro σ y0 y3 y4 out hF hv hk H locs cs ss ls hM hl
    rw [lX7_way_85] at hF
    obtain ⟨hx, hb, hml, hown, hts⟩ := id S
    refine lv_iload hx hb dX7_way_85 (lv_at hl 2 rfl) ?_
    refine lv_iconst (v := (-1)) hx hb dX7_way_87 rfl ?_
    refine lv_icmp_eq (tgt := 194) hx hb dX7_way_88 (by decide) (fun c19 => ?_) (fun c19 => ?_)
    · have hF := ifp hF c19
      cases hF
      exact hk _ rfl _ _ _ _ _ hM (lv_sub hl [0, 1] rfl)
    · have hF := ifn hF c19
      refine lv_aload_n hx hb dX7_way_91 rfl (lv_at hl 0 rfl) ?_
      obtain ⟨z20, hF⟩ := gTe hF
      obtain ⟨r20, er20, hF⟩ := obn hF
      refine ccr (rest := []) (st1 := []) S hX hM (metX6_go l F D σ y0 r20 er20) (ci_U (C := "RugReader$HouseReader") (As := []) (rest := []) S q502 q503 rfl q506 q505 q507 hyX6_go (HI.cell (ci := 4) hX hM (by decide) (by omega)) hlX6_go rfl dX7_way_92) q507 q112 (Nat.le_of_ble_eq_true rfl) (Nat.le_of_ble_eq_true rfl) hl.1 (Nat.le_of_ble_eq_true rfl) rfl (fun H locs cs ss hM => ?_)
      refine lv_aload_n hx hb dX7_way_95 rfl (lv_at hl 0 rfl) ?_
      refine lv_iconst (v := 1) hx hb dX7_way_96 rfl ?_
      refine lv_bipush (v := 11) hx hb dX7_way_97 rfl ?_
      obtain ⟨z21, hF⟩ := gTe hF
      obtain ⟨r21, er21, hF⟩ := obn hF
      refine ccti (rest := []) S hX hM (metX6_hold l F D r20 y0 1 11 r21 er21) (ci_U (C := "RugReader$HouseReader") (As := [.int 1, .int 11]) (rest := []) S q1097 q1098 rfl q813 q1100 q818 hyX6_hold (HI.cell (ci := 4) hX hM (by decide) (by omega)) hlX6_hold rfl dX7_way_99) q818 q112 (Nat.le_of_ble_eq_true rfl) (Nat.le_of_ble_eq_true rfl) hl.1 (Nat.le_of_ble_eq_true rfl) (fun w21 ew21 H locs cs ss hM => ?_) (fun b21 eb21 H locs cs ss hM => ?_)
      · have hF := thr_r hF ew21
        refine lv_istore (lv' := [(5, .int w21), (0, .ref y0), (3, .ref y3), (4, .int y4)]) hx hb dX7_way_102 hl (by decide) rfl (fun ls hl => ?_)
        refine lv_aload_n hx hb dX7_way_104 rfl (lv_at hl 1 rfl) ?_
        refine lv_aload_n hx hb dX7_way_105 rfl (lv_at hl 2 rfl) ?_
        obtain ⟨v22, ev22, hF⟩ := obn hF
        refine cgiN S hX hM ev22 ck_10_10_3 (uq1076 hX) dX7_way_106 ?_
        refine lv_iload hx hb dX7_way_109 (lv_at hl 0 rfl) ?_
        refine lv_iadd hx hb dX7_way_111 ?_
        refine lv_bipush (v := 40) hx hb dX7_way_112 rfl ?_
        obtain ⟨q23, hq23, hF⟩ := lte hF
        refine cjn (I := HI D h0 r21.2 s.heap) (nJ := 8) (lvJ := [(0, .ref y0), (3, .ref y3), (4, .int y4), (5, .int w21)]) (J := 122) (stJ := [.int q23, .ref y0]) ?_ ?_
        · intro H locs cs ss ls hM hl
          refine lv_iconst (v := 4) hx hb dX7_way_122 rfl ?_
          obtain ⟨z25, hF⟩ := gTe hF
          obtain ⟨r25, er25, hF⟩ := obn hF
          refine cctv (rest := []) S hX hM (metX6_need l F D r21.2 y0 q23 4 r25 er25) (ci_U (C := "RugReader$HouseReader") (As := [.int q23, .int 4]) (rest := []) S q735 q736 rfl q739 q738 q740 hyX6_need (HI.cell (ci := 4) hX hM (by decide) (by omega)) hlX6_need rfl dX7_way_123) q740 q112 (Nat.le_of_ble_eq_true rfl) (Nat.le_of_ble_eq_true rfl) hl.1 (Nat.le_of_ble_eq_true rfl) (fun w25 ew25 H locs cs ss hM => ?_) (fun b25 eb25 H locs cs ss hM => ?_)
          · have hF := thr_r hF ew25
            refine lv_iconst (v := 0) hx hb dX7_way_126 rfl ?_
            refine lv_istore (lv' := [(6, .int 0), (0, .ref y0), (3, .ref y3), (4, .int y4), (5, .int w21)]) hx hb dX7_way_127 hl (by decide) rfl (fun ls hl => ?_)
            obtain ⟨oq34, hq34, h1q34, h2q34⟩ := osx hF
            refine wlX7_way_129 S hX hr hlocks hnt F _  F _ _ _ _ _ _ oq34 hq34 (fun v e => (hv _ ((h2q34 v e)).symm)) (fun q34 eq34 H locs cs ss ls hM hl => ?_) _ _ _ _ _ hM (lv_sub hl [1, 2, 3, 4, 0] rfl)
            have hF := h1q34 _ eq34
            refine lv_aload_n hx hb dX7_way_181 rfl (lv_at hl 0 rfl) ?_
            obtain ⟨z35, hF⟩ := gTe hF
            obtain ⟨r35, er35, hF⟩ := obn hF
            refine ccr (rest := []) (st1 := []) S hX hM (metX6_go l F D q34 y0 r35 er35) (ci_U (C := "RugReader$HouseReader") (As := []) (rest := []) S q502 q503 rfl q506 q505 q507 hyX6_go (HI.cell (ci := 4) hX hM (by decide) (by omega)) hlX6_go rfl dX7_way_182) q507 q112 (Nat.le_of_ble_eq_true rfl) (Nat.le_of_ble_eq_true rfl) hl.1 (Nat.le_of_ble_eq_true rfl) rfl (fun H locs cs ss hM => ?_)
            refine lv_aload_n hx hb dX7_way_185 rfl (lv_at hl 0 rfl) ?_
            obtain ⟨z36, hF⟩ := gTe hF
            obtain ⟨r36, er36, hF⟩ := obn hF
            refine ccr (rest := []) (st1 := [.int r36]) S hX hM (metX6_direction l F D r35 y0 r36 er36) (ci_U (C := "RugReader$HouseReader") (As := []) (rest := []) S q1086 q1087 rfl q1090 q1089 q1091 hyX6_direction (HI.cell (ci := 4) hX hM (by decide) (by omega)) hlX6_direction rfl dX7_way_186) q1091 q112 (Nat.le_of_ble_eq_true rfl) (Nat.le_of_ble_eq_true rfl) hl.1 (Nat.le_of_ble_eq_true rfl) rfl (fun H locs cs ss hM => ?_)
            refine lv_istore (lv' := [(4, .int r36), (0, .ref y0), (3, .ref y3)]) hx hb dX7_way_189 hl (by decide) rfl (fun ls hl => ?_)
            refine lv_goto (tgt := 85) hx hb dX7_way_191 (by decide) ?_
            exact ih _ _ _ _ out hF hv hk _ _ _ _ _ hM (lv_sub hl [1, 2, 0] rfl)
          · have hF := thr_q hF eb25
            have hz := (hv _ ((Option.some.inj hF)).symm)
            subst hz
            exact cxout hM (fun x hx => (hnt x hx).elim) hlocks
        · intro hJq23
          refine lv_icmp_gt (tgt := 121) hx hb dX7_way_114 (by decide) (fun c24 => ?_) (fun c24 => ?_)
          · have hq23 := ifp hq23 c24
            refine lv_iconst (v := 0) hx hb dX7_way_121 rfl ?_
            subst hq23
            exact hJq23 _ _ _ _ _ hM (lv_sub hl [1, 2, 3, 0] rfl)
          · have hq23 := ifn hq23 c24
            refine lv_iconst (v := 1) hx hb dX7_way_117 rfl ?_
            refine lv_goto (tgt := 122) hx hb dX7_way_118 (by decide) ?_
            subst hq23
            exact hJq23 _ _ _ _ _ hM (lv_sub hl [1, 2, 3, 0] rfl)
      · have hF := thr_q hF eb21
        have hz := (hv _ ((Option.some.inj hF)).symm)
        subst hz
        exact cxout hM (fun x hx => (hnt x hx).elim) hlocks
set_option maxHeartbeats 4000000 in
set_option maxRecDepth 100000 in
theorem metX7_way (l : Launch) [NoTr l] (F : Nat) (D : va_G) (h0 : HS) (x0 : Nat) (r : (Nat ⊕ Unit) × HS) (hF : fX7_way F h0 x0 = some r) : CMet l yX7_way (ws_ yX7_way cX7_way 8 none) 13 311 D [.ref x0] h0 r.2 (xv r.1) := by
  refine CMet.ofW (by decide) ?_
  intro p e s m below meth c s₁ B S hX hM hr hlocks hnt hin
  obtain ⟨hx, hb, hml, hown, hts⟩ := id S
  have hl := lv_entry ([.ref x0]) (n := 8) (Nat.le_of_ble_eq_true rfl)
  rw [lg_entry_eq]
  generalize (lg_sl ([.ref x0]) ++ List.replicate (8 - (lg_sl ([.ref x0])).length) Slot.unset).toArray = ls at hl ⊢
  have hl : lv_has ls 8 [(0, .ref x0)] := hl
  unfold fX7_way at hF
  refine lv_aload_n hx hb dX7_way_0 rfl (lv_at hl 0 rfl) ?_
  refine lv_aload_n hx hb dX7_way_1 rfl (lv_at hl 0 rfl) ?_
  obtain ⟨a1, ea1, hF⟩ := obn hF
  refine cgn S hX hM ea1 ck_5_5_9 q454 (fun _ h => h) dX7_way_2 ?_
  obtain ⟨a2, ea2, hF⟩ := obn hF
  refine cgnN S hX hM ea2 ck_2_2_6 (uq209 hX) dX7_way_5 ?_
  obtain ⟨z3, hF⟩ := gTe hF
  obtain ⟨r3, er3, hF⟩ := obn hF
  refine ccr (rest := [.ref x0]) (st1 := [.int r3, .ref x0]) S hX hM (metJ2_size l F D h0 a2 r3 er3) (ci_V (C := "java/util/ArrayList") (As := []) (rest := [.ref x0]) S q829 q830 q831 q832 hyJ2_size (HI.cell (ci := 14) hX hM (by decide) (by omega)) hlJ2_size rfl dX7_way_8) q832 q107 (Nat.le_of_ble_eq_true rfl) (Nat.le_of_ble_eq_true rfl) hl.1 (Nat.le_of_ble_eq_true rfl) rfl (fun H locs cs ss hM => ?_)
  refine lv_bipush (v := 6) hx hb dX7_way_11 rfl ?_
  refine lv_icmp_ge (tgt := 20) hx hb dX7_way_13 (by decide) (fun c4 => ?_) (fun c4 => ?_)
  · have hF := ifp hF c4
    refine lv_iconst (v := 0) hx hb dX7_way_20 rfl ?_
    refine lv_iconst (v := 4) hx hb dX7_way_21 rfl ?_
    obtain ⟨z5, hF⟩ := gTe hF
    obtain ⟨r5, er5, hF⟩ := obn hF
    refine cctv (rest := []) S hX hM (metX6_need l F D h0 x0 0 4 r5 er5) (ci_U (C := "RugReader$HouseReader") (As := [.int 0, .int 4]) (rest := []) S q735 q736 rfl q739 q738 q740 hyX6_need (HI.cell (ci := 4) hX hM (by decide) (by omega)) hlX6_need rfl dX7_way_22) q740 q112 (Nat.le_of_ble_eq_true rfl) (Nat.le_of_ble_eq_true rfl) hl.1 (Nat.le_of_ble_eq_true rfl) (fun w5 ew5 H locs cs ss hM => ?_) (fun b5 eb5 H locs cs ss hM => ?_)
    · have hF := thr_r hF ew5
      refine lv_aload_n hx hb dX7_way_25 rfl (lv_at hl 0 rfl) ?_
      obtain ⟨z6, hF⟩ := gTe hF
      obtain ⟨r6, er6, hF⟩ := obn hF
      refine ccr (rest := []) (st1 := []) S hX hM (metX6_go l F D r5.2 x0 r6 er6) (ci_U (C := "RugReader$HouseReader") (As := []) (rest := []) S q502 q503 rfl q506 q505 q507 hyX6_go (HI.cell (ci := 4) hX hM (by decide) (by omega)) hlX6_go rfl dX7_way_26) q507 q112 (Nat.le_of_ble_eq_true rfl) (Nat.le_of_ble_eq_true rfl) hl.1 (Nat.le_of_ble_eq_true rfl) rfl (fun H locs cs ss hM => ?_)
      refine lv_aload_n hx hb dX7_way_29 rfl (lv_at hl 0 rfl) ?_
      obtain ⟨z7, hF⟩ := gTe hF
      obtain ⟨r7, er7, hF⟩ := obn hF
      refine cctr (rest := []) S hX hM (metX7_fresh l F D r6 x0 r7 er7) (ci_V (C := "RugReader$HouseReader") (As := []) (rest := []) S q833 q835 qs7 q836 hyX7_fresh (HI.cell (ci := 4) hX hM (by decide) (by omega)) hlX7_fresh rfl dX7_way_30) q836 q113 (Nat.le_of_ble_eq_true rfl) (Nat.le_of_ble_eq_true rfl) hl.1 (Nat.le_of_ble_eq_true rfl) (fun w7 ew7 H locs cs ss hM => ?_) (fun b7 eb7 H locs cs ss hM => ?_)
      · have hF := thr_r hF ew7
        refine lv_astore_n (lv' := [(1, .ref w7), (0, .ref x0)]) hx hb dX7_way_33 rfl hl (by decide) rfl (fun ls hl => ?_)
        refine lv_aload_n hx hb dX7_way_34 rfl (lv_at hl 1 rfl) ?_
        refine lv_aload_n hx hb dX7_way_35 rfl (lv_at hl 1 rfl) ?_
        obtain ⟨a8, ea8, hF⟩ := obn hF
        refine cgn S hX hM ea8 ck_5_5_9 q454 (fun _ h => h) dX7_way_36 ?_
        obtain ⟨z9, hF⟩ := gTe hF
        obtain ⟨r9, er9, hF⟩ := obn hF
        refine ccti (rest := []) S hX hM (metX6_holdTuft l F D r7.2 x0 a8 r9 er9) (ci_U (C := "RugReader$HouseReader") (As := [.ref a8]) (rest := []) S q1026 q1027 rfl q1030 q1029 q1031 hyX6_holdTuft (HI.cell (ci := 4) hX hM (by decide) (by omega)) hlX6_holdTuft rfl dX7_way_39) q1031 q112 (Nat.le_of_ble_eq_true rfl) (Nat.le_of_ble_eq_true rfl) hl.1 (Nat.le_of_ble_eq_true rfl) (fun w9 ew9 H locs cs ss hM => ?_) (fun b9 eb9 H locs cs ss hM => ?_)
        · have hF := thr_r hF ew9
          refine lv_istore_n (lv' := [(2, .int w9), (1, .ref w7), (0, .ref x0)]) hx hb dX7_way_42 rfl hl (by decide) rfl (fun ls hl => ?_)
          refine lv_aload_n hx hb dX7_way_43 rfl (lv_at hl 2 rfl) ?_
          refine lv_aload_n hx hb dX7_way_44 rfl (lv_at hl 2 rfl) ?_
          obtain ⟨a10, ea10, hF⟩ := obn hF
          refine cgn S hX hM ea10 ck_5_5_9 q454 (fun _ h => h) dX7_way_45 ?_
          obtain ⟨a11, ea11, hF⟩ := obn hF
          refine cgnN S hX hM ea11 ck_2_2_8 (uq216 hX) dX7_way_48 ?_
          refine lv_iload_n hx hb dX7_way_51 rfl (lv_at hl 0 rfl) ?_
          obtain ⟨v12, ev12, hF⟩ := obn hF
          refine caz S hX hM ev12 dX7_way_52 ?_
          refine lv_if_ne (tgt := 60) hx hb dX7_way_53 (by decide) (fun c13 => ?_) (fun c13 => ?_)
          · have hF := ifn hF c13
            refine lv_iconst (v := 0) hx hb dX7_way_60 rfl ?_
            refine lv_iconst (v := 5) hx hb dX7_way_61 rfl ?_
            obtain ⟨z14, hF⟩ := gTe hF
            obtain ⟨r14, er14, hF⟩ := obn hF
            refine cctv (rest := []) S hX hM (metX6_need l F D r9.2 x0 0 5 r14 er14) (ci_U (C := "RugReader$HouseReader") (As := [.int 0, .int 5]) (rest := []) S q735 q736 rfl q739 q738 q740 hyX6_need (HI.cell (ci := 4) hX hM (by decide) (by omega)) hlX6_need rfl dX7_way_62) q740 q112 (Nat.le_of_ble_eq_true rfl) (Nat.le_of_ble_eq_true rfl) hl.1 (Nat.le_of_ble_eq_true rfl) (fun w14 ew14 H locs cs ss hM => ?_) (fun b14 eb14 H locs cs ss hM => ?_)
            · have hF := thr_r hF ew14
              refine lv_aload_n hx hb dX7_way_65 rfl (lv_at hl 2 rfl) ?_
              obtain ⟨z15, hF⟩ := gTe hF
              obtain ⟨r15, er15, hF⟩ := obn hF
              refine ccr (rest := []) (st1 := []) S hX hM (metX6_go l F D r14.2 x0 r15 er15) (ci_U (C := "RugReader$HouseReader") (As := []) (rest := []) S q502 q503 rfl q506 q505 q507 hyX6_go (HI.cell (ci := 4) hX hM (by decide) (by omega)) hlX6_go rfl dX7_way_66) q507 q112 (Nat.le_of_ble_eq_true rfl) (Nat.le_of_ble_eq_true rfl) hl.1 (Nat.le_of_ble_eq_true rfl) rfl (fun H locs cs ss hM => ?_)
              obtain ⟨r16, er16, hF⟩ := obn hF
              refine cno (ci := 9) S hX hM er16 (by decide) q1063 q1064 q132 dX7_way_69 (fun H cs ss hM => ?_)
              refine lv_dup hx hb dX7_way_72 rfl ?_
              refine lv_aload_n hx hb dX7_way_73 rfl (lv_at hl 1 rfl) ?_
              refine lv_iload_n hx hb dX7_way_74 rfl (lv_at hl 0 rfl) ?_
              obtain ⟨r17, er17, hF⟩ := obn hF
              refine ccr (rest := [.ref r16.1]) (st1 := [.ref r16.1]) S hX hM (metX11_init l F D r16.2 r16.1 w7 w9 r17 er17) (ci_I (As := [.ref w7, .int w9]) (rest := [.ref r16.1]) S rfl q1065 q1066 q1067 hyX11_init hlX11_init rfl dX7_way_75) q1067 q132 (Nat.le_of_ble_eq_true rfl) (Nat.le_of_ble_eq_true rfl) hl.1 (Nat.le_of_ble_eq_true rfl) rfl (fun H locs cs ss hM => ?_)
              refine lv_astore_n (lv' := [(3, .ref r16.1), (2, .int w9), (1, .ref w7), (0, .ref x0)]) hx hb dX7_way_78 rfl hl (by decide) rfl (fun ls hl => ?_)
              refine lv_aload_n hx hb dX7_way_79 rfl (lv_at hl 3 rfl) ?_
              obtain ⟨z18, hF⟩ := gTe hF
              obtain ⟨r18, er18, hF⟩ := obn hF
              refine ccr (rest := []) (st1 := [.int r18]) S hX hM (metX6_direction l F D r17 x0 r18 er18) (ci_U (C := "RugReader$HouseReader") (As := []) (rest := []) S q1086 q1087 rfl q1090 q1089 q1091 hyX6_direction (HI.cell (ci := 4) hX hM (by decide) (by omega)) hlX6_direction rfl dX7_way_80) q1091 q112 (Nat.le_of_ble_eq_true rfl) (Nat.le_of_ble_eq_true rfl) hl.1 (Nat.le_of_ble_eq_true rfl) rfl (fun H locs cs ss hM => ?_)
              refine lv_istore (lv' := [(4, .int r18), (3, .ref r16.1), (2, .int w9), (1, .ref w7), (0, .ref x0)]) hx hb dX7_way_83 hl (by decide) rfl (fun ls hl => ?_)
              obtain ⟨oq37, hq37, h1q37, h2q37⟩ := osx hF
              refine wlX7_way_85 S hX hr hlocks hnt F _  F _ _ _ _ oq37 hq37 (fun v e => (h2q37 v e)) (fun q37 eq37 H locs cs ss ls hM hl => ?_) _ _ _ _ _ hM (lv_sub hl [4, 1, 0] rfl)
              have hF := h1q37 _ eq37
              refine lv_aload_n hx hb dX7_way_194 rfl (lv_at hl 0 rfl) ?_
              obtain ⟨a38, ea38, hF⟩ := obn hF
              refine cgn S hX hM ea38 ck_5_5_9 q454 (fun _ h => h) dX7_way_195 ?_
              obtain ⟨a39, ea39, hF⟩ := obn hF
              refine cgnN S hX hM ea39 ck_2_2_6 (uq209 hX) dX7_way_198 ?_
              refine lv_aload_n hx hb dX7_way_201 rfl (lv_at hl 1 rfl) ?_
              obtain ⟨z40, hF⟩ := gTe hF
              obtain ⟨r40, er40, hF⟩ := obn hF
              refine ccr (rest := []) (st1 := [.int r40.1]) S hX hM (metJ2_add l F D q37 a39 r16.1 r40 er40) (ci_V (C := "java/util/ArrayList") (As := [.ref r16.1]) (rest := []) S q969 q970 q971 q972 hyJ2_add (HI.cell (ci := 14) hX hM (by decide) (by omega)) hlJ2_add rfl dX7_way_202) q972 q107 (Nat.le_of_ble_eq_true rfl) (Nat.le_of_ble_eq_true rfl) hl.1 (Nat.le_of_ble_eq_true rfl) rfl (fun H locs cs ss hM => ?_)
              refine lv_pop hx hb dX7_way_205 rfl ?_
              have hz := (Option.some.inj hF)
              subst hz
              exact crv S hM hr hlocks dX7_way_206
            · have hF := thr_q hF eb14
              have hz := (Option.some.inj hF)
              subst hz
              exact cxout hM (fun x hx => (hnt x hx).elim) hlocks
          · have hF := ifp hF c13
            refine lv_iconst (v := 1) hx hb dX7_way_56 rfl ?_
            refine lv_goto (tgt := 61) hx hb dX7_way_57 (by decide) ?_
            refine lv_iconst (v := 5) hx hb dX7_way_61 rfl ?_
            obtain ⟨z41, hF⟩ := gTe hF
            obtain ⟨r41, er41, hF⟩ := obn hF
            refine cctv (rest := []) S hX hM (metX6_need l F D r9.2 x0 1 5 r41 er41) (ci_U (C := "RugReader$HouseReader") (As := [.int 1, .int 5]) (rest := []) S q735 q736 rfl q739 q738 q740 hyX6_need (HI.cell (ci := 4) hX hM (by decide) (by omega)) hlX6_need rfl dX7_way_62) q740 q112 (Nat.le_of_ble_eq_true rfl) (Nat.le_of_ble_eq_true rfl) hl.1 (Nat.le_of_ble_eq_true rfl) (fun w41 ew41 H locs cs ss hM => ?_) (fun b41 eb41 H locs cs ss hM => ?_)
            · have hF := thr_r hF ew41
              refine lv_aload_n hx hb dX7_way_65 rfl (lv_at hl 2 rfl) ?_
              obtain ⟨z42, hF⟩ := gTe hF
              obtain ⟨r42, er42, hF⟩ := obn hF
              refine ccr (rest := []) (st1 := []) S hX hM (metX6_go l F D r41.2 x0 r42 er42) (ci_U (C := "RugReader$HouseReader") (As := []) (rest := []) S q502 q503 rfl q506 q505 q507 hyX6_go (HI.cell (ci := 4) hX hM (by decide) (by omega)) hlX6_go rfl dX7_way_66) q507 q112 (Nat.le_of_ble_eq_true rfl) (Nat.le_of_ble_eq_true rfl) hl.1 (Nat.le_of_ble_eq_true rfl) rfl (fun H locs cs ss hM => ?_)
              obtain ⟨r43, er43, hF⟩ := obn hF
              refine cno (ci := 9) S hX hM er43 (by decide) q1063 q1064 q132 dX7_way_69 (fun H cs ss hM => ?_)
              refine lv_dup hx hb dX7_way_72 rfl ?_
              refine lv_aload_n hx hb dX7_way_73 rfl (lv_at hl 1 rfl) ?_
              refine lv_iload_n hx hb dX7_way_74 rfl (lv_at hl 0 rfl) ?_
              obtain ⟨r44, er44, hF⟩ := obn hF
              refine ccr (rest := [.ref r43.1]) (st1 := [.ref r43.1]) S hX hM (metX11_init l F D r43.2 r43.1 w7 w9 r44 er44) (ci_I (As := [.ref w7, .int w9]) (rest := [.ref r43.1]) S rfl q1065 q1066 q1067 hyX11_init hlX11_init rfl dX7_way_75) q1067 q132 (Nat.le_of_ble_eq_true rfl) (Nat.le_of_ble_eq_true rfl) hl.1 (Nat.le_of_ble_eq_true rfl) rfl (fun H locs cs ss hM => ?_)
              refine lv_astore_n (lv' := [(3, .ref r43.1), (2, .int w9), (1, .ref w7), (0, .ref x0)]) hx hb dX7_way_78 rfl hl (by decide) rfl (fun ls hl => ?_)
              refine lv_aload_n hx hb dX7_way_79 rfl (lv_at hl 3 rfl) ?_
              obtain ⟨z45, hF⟩ := gTe hF
              obtain ⟨r45, er45, hF⟩ := obn hF
              refine ccr (rest := []) (st1 := [.int r45]) S hX hM (metX6_direction l F D r44 x0 r45 er45) (ci_U (C := "RugReader$HouseReader") (As := []) (rest := []) S q1086 q1087 rfl q1090 q1089 q1091 hyX6_direction (HI.cell (ci := 4) hX hM (by decide) (by omega)) hlX6_direction rfl dX7_way_80) q1091 q112 (Nat.le_of_ble_eq_true rfl) (Nat.le_of_ble_eq_true rfl) hl.1 (Nat.le_of_ble_eq_true rfl) rfl (fun H locs cs ss hM => ?_)
              refine lv_istore (lv' := [(4, .int r45), (3, .ref r43.1), (2, .int w9), (1, .ref w7), (0, .ref x0)]) hx hb dX7_way_83 hl (by decide) rfl (fun ls hl => ?_)
              obtain ⟨oq46, hq46, h1q46, h2q46⟩ := osx hF
              refine wlX7_way_85 S hX hr hlocks hnt F _  F _ _ _ _ oq46 hq46 (fun v e => (h2q46 v e)) (fun q46 eq46 H locs cs ss ls hM hl => ?_) _ _ _ _ _ hM (lv_sub hl [4, 1, 0] rfl)
              have hF := h1q46 _ eq46
              refine lv_aload_n hx hb dX7_way_194 rfl (lv_at hl 0 rfl) ?_
              obtain ⟨a47, ea47, hF⟩ := obn hF
              refine cgn S hX hM ea47 ck_5_5_9 q454 (fun _ h => h) dX7_way_195 ?_
              obtain ⟨a48, ea48, hF⟩ := obn hF
              refine cgnN S hX hM ea48 ck_2_2_6 (uq209 hX) dX7_way_198 ?_
              refine lv_aload_n hx hb dX7_way_201 rfl (lv_at hl 1 rfl) ?_
              obtain ⟨z49, hF⟩ := gTe hF
              obtain ⟨r49, er49, hF⟩ := obn hF
              refine ccr (rest := []) (st1 := [.int r49.1]) S hX hM (metJ2_add l F D q46 a48 r43.1 r49 er49) (ci_V (C := "java/util/ArrayList") (As := [.ref r43.1]) (rest := []) S q969 q970 q971 q972 hyJ2_add (HI.cell (ci := 14) hX hM (by decide) (by omega)) hlJ2_add rfl dX7_way_202) q972 q107 (Nat.le_of_ble_eq_true rfl) (Nat.le_of_ble_eq_true rfl) hl.1 (Nat.le_of_ble_eq_true rfl) rfl (fun H locs cs ss hM => ?_)
              refine lv_pop hx hb dX7_way_205 rfl ?_
              have hz := (Option.some.inj hF)
              subst hz
              exact crv S hM hr hlocks dX7_way_206
            · have hF := thr_q hF eb41
              have hz := (Option.some.inj hF)
              subst hz
              exact cxout hM (fun x hx => (hnt x hx).elim) hlocks
        · have hF := thr_q hF eb9
          have hz := (Option.some.inj hF)
          subst hz
          exact cxout hM (fun x hx => (hnt x hx).elim) hlocks
      · have hF := thr_q hF eb7
        have hz := (Option.some.inj hF)
        subst hz
        exact cxout hM (fun x hx => (hnt x hx).elim) hlocks
    · have hF := thr_q hF eb5
      have hz := (Option.some.inj hF)
      subst hz
      exact cxout hM (fun x hx => (hnt x hx).elim) hlocks
  · have hF := ifn hF c4
    refine lv_iconst (v := 1) hx hb dX7_way_16 rfl ?_
    refine lv_goto (tgt := 21) hx hb dX7_way_17 (by decide) ?_
    refine lv_iconst (v := 4) hx hb dX7_way_21 rfl ?_
    obtain ⟨z50, hF⟩ := gTe hF
    obtain ⟨r50, er50, hF⟩ := obn hF
    refine cctv (rest := []) S hX hM (metX6_need l F D h0 x0 1 4 r50 er50) (ci_U (C := "RugReader$HouseReader") (As := [.int 1, .int 4]) (rest := []) S q735 q736 rfl q739 q738 q740 hyX6_need (HI.cell (ci := 4) hX hM (by decide) (by omega)) hlX6_need rfl dX7_way_22) q740 q112 (Nat.le_of_ble_eq_true rfl) (Nat.le_of_ble_eq_true rfl) hl.1 (Nat.le_of_ble_eq_true rfl) (fun w50 ew50 H locs cs ss hM => ?_) (fun b50 eb50 H locs cs ss hM => ?_)
    · have hF := thr_r hF ew50
      refine lv_aload_n hx hb dX7_way_25 rfl (lv_at hl 0 rfl) ?_
      obtain ⟨z51, hF⟩ := gTe hF
      obtain ⟨r51, er51, hF⟩ := obn hF
      refine ccr (rest := []) (st1 := []) S hX hM (metX6_go l F D r50.2 x0 r51 er51) (ci_U (C := "RugReader$HouseReader") (As := []) (rest := []) S q502 q503 rfl q506 q505 q507 hyX6_go (HI.cell (ci := 4) hX hM (by decide) (by omega)) hlX6_go rfl dX7_way_26) q507 q112 (Nat.le_of_ble_eq_true rfl) (Nat.le_of_ble_eq_true rfl) hl.1 (Nat.le_of_ble_eq_true rfl) rfl (fun H locs cs ss hM => ?_)
      refine lv_aload_n hx hb dX7_way_29 rfl (lv_at hl 0 rfl) ?_
      obtain ⟨z52, hF⟩ := gTe hF
      obtain ⟨r52, er52, hF⟩ := obn hF
      refine cctr (rest := []) S hX hM (metX7_fresh l F D r51 x0 r52 er52) (ci_V (C := "RugReader$HouseReader") (As := []) (rest := []) S q833 q835 qs7 q836 hyX7_fresh (HI.cell (ci := 4) hX hM (by decide) (by omega)) hlX7_fresh rfl dX7_way_30) q836 q113 (Nat.le_of_ble_eq_true rfl) (Nat.le_of_ble_eq_true rfl) hl.1 (Nat.le_of_ble_eq_true rfl) (fun w52 ew52 H locs cs ss hM => ?_) (fun b52 eb52 H locs cs ss hM => ?_)
      · have hF := thr_r hF ew52
        refine lv_astore_n (lv' := [(1, .ref w52), (0, .ref x0)]) hx hb dX7_way_33 rfl hl (by decide) rfl (fun ls hl => ?_)
        refine lv_aload_n hx hb dX7_way_34 rfl (lv_at hl 1 rfl) ?_
        refine lv_aload_n hx hb dX7_way_35 rfl (lv_at hl 1 rfl) ?_
        obtain ⟨a53, ea53, hF⟩ := obn hF
        refine cgn S hX hM ea53 ck_5_5_9 q454 (fun _ h => h) dX7_way_36 ?_
        obtain ⟨z54, hF⟩ := gTe hF
        obtain ⟨r54, er54, hF⟩ := obn hF
        refine ccti (rest := []) S hX hM (metX6_holdTuft l F D r52.2 x0 a53 r54 er54) (ci_U (C := "RugReader$HouseReader") (As := [.ref a53]) (rest := []) S q1026 q1027 rfl q1030 q1029 q1031 hyX6_holdTuft (HI.cell (ci := 4) hX hM (by decide) (by omega)) hlX6_holdTuft rfl dX7_way_39) q1031 q112 (Nat.le_of_ble_eq_true rfl) (Nat.le_of_ble_eq_true rfl) hl.1 (Nat.le_of_ble_eq_true rfl) (fun w54 ew54 H locs cs ss hM => ?_) (fun b54 eb54 H locs cs ss hM => ?_)
        · have hF := thr_r hF ew54
          refine lv_istore_n (lv' := [(2, .int w54), (1, .ref w52), (0, .ref x0)]) hx hb dX7_way_42 rfl hl (by decide) rfl (fun ls hl => ?_)
          refine lv_aload_n hx hb dX7_way_43 rfl (lv_at hl 2 rfl) ?_
          refine lv_aload_n hx hb dX7_way_44 rfl (lv_at hl 2 rfl) ?_
          obtain ⟨a55, ea55, hF⟩ := obn hF
          refine cgn S hX hM ea55 ck_5_5_9 q454 (fun _ h => h) dX7_way_45 ?_
          obtain ⟨a56, ea56, hF⟩ := obn hF
          refine cgnN S hX hM ea56 ck_2_2_8 (uq216 hX) dX7_way_48 ?_
          refine lv_iload_n hx hb dX7_way_51 rfl (lv_at hl 0 rfl) ?_
          obtain ⟨v57, ev57, hF⟩ := obn hF
          refine caz S hX hM ev57 dX7_way_52 ?_
          refine lv_if_ne (tgt := 60) hx hb dX7_way_53 (by decide) (fun c58 => ?_) (fun c58 => ?_)
          · have hF := ifn hF c58
            refine lv_iconst (v := 0) hx hb dX7_way_60 rfl ?_
            refine lv_iconst (v := 5) hx hb dX7_way_61 rfl ?_
            obtain ⟨z59, hF⟩ := gTe hF
            obtain ⟨r59, er59, hF⟩ := obn hF
            refine cctv (rest := []) S hX hM (metX6_need l F D r54.2 x0 0 5 r59 er59) (ci_U (C := "RugReader$HouseReader") (As := [.int 0, .int 5]) (rest := []) S q735 q736 rfl q739 q738 q740 hyX6_need (HI.cell (ci := 4) hX hM (by decide) (by omega)) hlX6_need rfl dX7_way_62) q740 q112 (Nat.le_of_ble_eq_true rfl) (Nat.le_of_ble_eq_true rfl) hl.1 (Nat.le_of_ble_eq_true rfl) (fun w59 ew59 H locs cs ss hM => ?_) (fun b59 eb59 H locs cs ss hM => ?_)
            · have hF := thr_r hF ew59
              refine lv_aload_n hx hb dX7_way_65 rfl (lv_at hl 2 rfl) ?_
              obtain ⟨z60, hF⟩ := gTe hF
              obtain ⟨r60, er60, hF⟩ := obn hF
              refine ccr (rest := []) (st1 := []) S hX hM (metX6_go l F D r59.2 x0 r60 er60) (ci_U (C := "RugReader$HouseReader") (As := []) (rest := []) S q502 q503 rfl q506 q505 q507 hyX6_go (HI.cell (ci := 4) hX hM (by decide) (by omega)) hlX6_go rfl dX7_way_66) q507 q112 (Nat.le_of_ble_eq_true rfl) (Nat.le_of_ble_eq_true rfl) hl.1 (Nat.le_of_ble_eq_true rfl) rfl (fun H locs cs ss hM => ?_)
              obtain ⟨r61, er61, hF⟩ := obn hF
              refine cno (ci := 9) S hX hM er61 (by decide) q1063 q1064 q132 dX7_way_69 (fun H cs ss hM => ?_)
              refine lv_dup hx hb dX7_way_72 rfl ?_
              refine lv_aload_n hx hb dX7_way_73 rfl (lv_at hl 1 rfl) ?_
              refine lv_iload_n hx hb dX7_way_74 rfl (lv_at hl 0 rfl) ?_
              obtain ⟨r62, er62, hF⟩ := obn hF
              refine ccr (rest := [.ref r61.1]) (st1 := [.ref r61.1]) S hX hM (metX11_init l F D r61.2 r61.1 w52 w54 r62 er62) (ci_I (As := [.ref w52, .int w54]) (rest := [.ref r61.1]) S rfl q1065 q1066 q1067 hyX11_init hlX11_init rfl dX7_way_75) q1067 q132 (Nat.le_of_ble_eq_true rfl) (Nat.le_of_ble_eq_true rfl) hl.1 (Nat.le_of_ble_eq_true rfl) rfl (fun H locs cs ss hM => ?_)
              refine lv_astore_n (lv' := [(3, .ref r61.1), (2, .int w54), (1, .ref w52), (0, .ref x0)]) hx hb dX7_way_78 rfl hl (by decide) rfl (fun ls hl => ?_)
              refine lv_aload_n hx hb dX7_way_79 rfl (lv_at hl 3 rfl) ?_
              obtain ⟨z63, hF⟩ := gTe hF
              obtain ⟨r63, er63, hF⟩ := obn hF
              refine ccr (rest := []) (st1 := [.int r63]) S hX hM (metX6_direction l F D r62 x0 r63 er63) (ci_U (C := "RugReader$HouseReader") (As := []) (rest := []) S q1086 q1087 rfl q1090 q1089 q1091 hyX6_direction (HI.cell (ci := 4) hX hM (by decide) (by omega)) hlX6_direction rfl dX7_way_80) q1091 q112 (Nat.le_of_ble_eq_true rfl) (Nat.le_of_ble_eq_true rfl) hl.1 (Nat.le_of_ble_eq_true rfl) rfl (fun H locs cs ss hM => ?_)
              refine lv_istore (lv' := [(4, .int r63), (3, .ref r61.1), (2, .int w54), (1, .ref w52), (0, .ref x0)]) hx hb dX7_way_83 hl (by decide) rfl (fun ls hl => ?_)
              obtain ⟨oq64, hq64, h1q64, h2q64⟩ := osx hF
              refine wlX7_way_85 S hX hr hlocks hnt F _  F _ _ _ _ oq64 hq64 (fun v e => (h2q64 v e)) (fun q64 eq64 H locs cs ss ls hM hl => ?_) _ _ _ _ _ hM (lv_sub hl [4, 1, 0] rfl)
              have hF := h1q64 _ eq64
              refine lv_aload_n hx hb dX7_way_194 rfl (lv_at hl 0 rfl) ?_
              obtain ⟨a65, ea65, hF⟩ := obn hF
              refine cgn S hX hM ea65 ck_5_5_9 q454 (fun _ h => h) dX7_way_195 ?_
              obtain ⟨a66, ea66, hF⟩ := obn hF
              refine cgnN S hX hM ea66 ck_2_2_6 (uq209 hX) dX7_way_198 ?_
              refine lv_aload_n hx hb dX7_way_201 rfl (lv_at hl 1 rfl) ?_
              obtain ⟨z67, hF⟩ := gTe hF
              obtain ⟨r67, er67, hF⟩ := obn hF
              refine ccr (rest := []) (st1 := [.int r67.1]) S hX hM (metJ2_add l F D q64 a66 r61.1 r67 er67) (ci_V (C := "java/util/ArrayList") (As := [.ref r61.1]) (rest := []) S q969 q970 q971 q972 hyJ2_add (HI.cell (ci := 14) hX hM (by decide) (by omega)) hlJ2_add rfl dX7_way_202) q972 q107 (Nat.le_of_ble_eq_true rfl) (Nat.le_of_ble_eq_true rfl) hl.1 (Nat.le_of_ble_eq_true rfl) rfl (fun H locs cs ss hM => ?_)
              refine lv_pop hx hb dX7_way_205 rfl ?_
              have hz := (Option.some.inj hF)
              subst hz
              exact crv S hM hr hlocks dX7_way_206
            · have hF := thr_q hF eb59
              have hz := (Option.some.inj hF)
              subst hz
              exact cxout hM (fun x hx => (hnt x hx).elim) hlocks
          · have hF := ifp hF c58
            refine lv_iconst (v := 1) hx hb dX7_way_56 rfl ?_
            refine lv_goto (tgt := 61) hx hb dX7_way_57 (by decide) ?_
            refine lv_iconst (v := 5) hx hb dX7_way_61 rfl ?_
            obtain ⟨z68, hF⟩ := gTe hF
            obtain ⟨r68, er68, hF⟩ := obn hF
            refine cctv (rest := []) S hX hM (metX6_need l F D r54.2 x0 1 5 r68 er68) (ci_U (C := "RugReader$HouseReader") (As := [.int 1, .int 5]) (rest := []) S q735 q736 rfl q739 q738 q740 hyX6_need (HI.cell (ci := 4) hX hM (by decide) (by omega)) hlX6_need rfl dX7_way_62) q740 q112 (Nat.le_of_ble_eq_true rfl) (Nat.le_of_ble_eq_true rfl) hl.1 (Nat.le_of_ble_eq_true rfl) (fun w68 ew68 H locs cs ss hM => ?_) (fun b68 eb68 H locs cs ss hM => ?_)
            · have hF := thr_r hF ew68
              refine lv_aload_n hx hb dX7_way_65 rfl (lv_at hl 2 rfl) ?_
              obtain ⟨z69, hF⟩ := gTe hF
              obtain ⟨r69, er69, hF⟩ := obn hF
              refine ccr (rest := []) (st1 := []) S hX hM (metX6_go l F D r68.2 x0 r69 er69) (ci_U (C := "RugReader$HouseReader") (As := []) (rest := []) S q502 q503 rfl q506 q505 q507 hyX6_go (HI.cell (ci := 4) hX hM (by decide) (by omega)) hlX6_go rfl dX7_way_66) q507 q112 (Nat.le_of_ble_eq_true rfl) (Nat.le_of_ble_eq_true rfl) hl.1 (Nat.le_of_ble_eq_true rfl) rfl (fun H locs cs ss hM => ?_)
              obtain ⟨r70, er70, hF⟩ := obn hF
              refine cno (ci := 9) S hX hM er70 (by decide) q1063 q1064 q132 dX7_way_69 (fun H cs ss hM => ?_)
              refine lv_dup hx hb dX7_way_72 rfl ?_
              refine lv_aload_n hx hb dX7_way_73 rfl (lv_at hl 1 rfl) ?_
              refine lv_iload_n hx hb dX7_way_74 rfl (lv_at hl 0 rfl) ?_
              obtain ⟨r71, er71, hF⟩ := obn hF
              refine ccr (rest := [.ref r70.1]) (st1 := [.ref r70.1]) S hX hM (metX11_init l F D r70.2 r70.1 w52 w54 r71 er71) (ci_I (As := [.ref w52, .int w54]) (rest := [.ref r70.1]) S rfl q1065 q1066 q1067 hyX11_init hlX11_init rfl dX7_way_75) q1067 q132 (Nat.le_of_ble_eq_true rfl) (Nat.le_of_ble_eq_true rfl) hl.1 (Nat.le_of_ble_eq_true rfl) rfl (fun H locs cs ss hM => ?_)
              refine lv_astore_n (lv' := [(3, .ref r70.1), (2, .int w54), (1, .ref w52), (0, .ref x0)]) hx hb dX7_way_78 rfl hl (by decide) rfl (fun ls hl => ?_)
              refine lv_aload_n hx hb dX7_way_79 rfl (lv_at hl 3 rfl) ?_
              obtain ⟨z72, hF⟩ := gTe hF
              obtain ⟨r72, er72, hF⟩ := obn hF
              refine ccr (rest := []) (st1 := [.int r72]) S hX hM (metX6_direction l F D r71 x0 r72 er72) (ci_U (C := "RugReader$HouseReader") (As := []) (rest := []) S q1086 q1087 rfl q1090 q1089 q1091 hyX6_direction (HI.cell (ci := 4) hX hM (by decide) (by omega)) hlX6_direction rfl dX7_way_80) q1091 q112 (Nat.le_of_ble_eq_true rfl) (Nat.le_of_ble_eq_true rfl) hl.1 (Nat.le_of_ble_eq_true rfl) rfl (fun H locs cs ss hM => ?_)
              refine lv_istore (lv' := [(4, .int r72), (3, .ref r70.1), (2, .int w54), (1, .ref w52), (0, .ref x0)]) hx hb dX7_way_83 hl (by decide) rfl (fun ls hl => ?_)
              obtain ⟨oq73, hq73, h1q73, h2q73⟩ := osx hF
              refine wlX7_way_85 S hX hr hlocks hnt F _  F _ _ _ _ oq73 hq73 (fun v e => (h2q73 v e)) (fun q73 eq73 H locs cs ss ls hM hl => ?_) _ _ _ _ _ hM (lv_sub hl [4, 1, 0] rfl)
              have hF := h1q73 _ eq73
              refine lv_aload_n hx hb dX7_way_194 rfl (lv_at hl 0 rfl) ?_
              obtain ⟨a74, ea74, hF⟩ := obn hF
              refine cgn S hX hM ea74 ck_5_5_9 q454 (fun _ h => h) dX7_way_195 ?_
              obtain ⟨a75, ea75, hF⟩ := obn hF
              refine cgnN S hX hM ea75 ck_2_2_6 (uq209 hX) dX7_way_198 ?_
              refine lv_aload_n hx hb dX7_way_201 rfl (lv_at hl 1 rfl) ?_
              obtain ⟨z76, hF⟩ := gTe hF
              obtain ⟨r76, er76, hF⟩ := obn hF
              refine ccr (rest := []) (st1 := [.int r76.1]) S hX hM (metJ2_add l F D q73 a75 r70.1 r76 er76) (ci_V (C := "java/util/ArrayList") (As := [.ref r70.1]) (rest := []) S q969 q970 q971 q972 hyJ2_add (HI.cell (ci := 14) hX hM (by decide) (by omega)) hlJ2_add rfl dX7_way_202) q972 q107 (Nat.le_of_ble_eq_true rfl) (Nat.le_of_ble_eq_true rfl) hl.1 (Nat.le_of_ble_eq_true rfl) rfl (fun H locs cs ss hM => ?_)
              refine lv_pop hx hb dX7_way_205 rfl ?_
              have hz := (Option.some.inj hF)
              subst hz
              exact crv S hM hr hlocks dX7_way_206
            · have hF := thr_q hF eb68
              have hz := (Option.some.inj hF)
              subst hz
              exact cxout hM (fun x hx => (hnt x hx).elim) hlocks
        · have hF := thr_q hF eb54
          have hz := (Option.some.inj hF)
          subst hz
          exact cxout hM (fun x hx => (hnt x hx).elim) hlocks
      · have hF := thr_q hF eb52
        have hz := (Option.some.inj hF)
        subst hz
        exact cxout hM (fun x hx => (hnt x hx).elim) hlocks
    · have hF := thr_q hF eb50
      have hz := (Option.some.inj hF)
      subst hz
      exact cxout hM (fun x hx => (hnt x hx).elim) hlocks
def fX7_fade (F : Nat) (h0 : HS) (x0 : Nat) : Option ((Nat ⊕ Unit) × HS) := gT h0 x0 5 5 (((fX6_is F h0 x0 (kG h0 42)).bind fun r1 => gT h0 x0 5 5 (((fX6_need F h0 x0 r1 1).bind fun r2 => thr r2.1 (fun b2 => some (.inl b2, r2.2)) fun w2 => gT r2.2 x0 5 5 (((fX7_once F r2.2 x0 1).bind fun r3 => thr r3.1 (fun b3 => some (.inl b3, r3.2)) fun w3 => ((fR r3.2 x0 5 5 9).bind fun a4 => gT r3.2 x0 5 5 (((fX6_number F r3.2 x0 1 9).bind fun r5 => thr r5.1 (fun b5 => some (.inl b5, r5.2)) fun w5 => ((pI r5.2 a4 2 2 2 w5).bind fun σ6 => some (.inr (), σ6)))))))))))
theorem hyX7_fade : yX7_fade.cls ≠ "java/lang/invoke/MethodHandle" ∧ yX7_fade.cls ≠ "java/lang/invoke/VarHandle" := by decide +kernel
theorem hlX7_fade : (parseMethodDescriptor yX7_fade.desc).map (fun d => d.parameters.length) = some 0 := by decide +kernel
set_option maxHeartbeats 4000000 in
set_option maxRecDepth 100000 in
theorem metX7_fade (l : Launch) [NoTr l] (F : Nat) (D : va_G) (h0 : HS) (x0 : Nat) (r : (Nat ⊕ Unit) × HS) (hF : fX7_fade F h0 x0 = some r) : CMet l yX7_fade (ws_ yX7_fade cX7_fade 1 none) 12 289 D [.ref x0] h0 r.2 (xv r.1) := by
  refine CMet.ofW (by decide) ?_
  intro p e s m below meth c s₁ B S hX hM hr hlocks hnt hin
  obtain ⟨hx, hb, hml, hown, hts⟩ := id S
  have hl := lv_entry ([.ref x0]) (n := 1) (Nat.le_of_ble_eq_true rfl)
  rw [lg_entry_eq]
  generalize (lg_sl ([.ref x0]) ++ List.replicate (1 - (lg_sl ([.ref x0])).length) Slot.unset).toArray = ls at hl ⊢
  have hl : lv_has ls 1 [(0, .ref x0)] := hl
  unfold fX7_fade at hF
  refine lv_aload_n hx hb dX7_fade_0 rfl (lv_at hl 0 rfl) ?_
  refine lv_aload_n hx hb dX7_fade_1 rfl (lv_at hl 0 rfl) ?_
  refine cldc S hM (uq1130 hX) dX7_fade_2 ?_
  obtain ⟨z1, hF⟩ := gTe hF
  obtain ⟨r1, er1, hF⟩ := obn hF
  refine ccr (rest := [.ref x0]) (st1 := [.int r1, .ref x0]) S hX hM (metX6_is l F D h0 x0 (kG h0 42) r1 er1) (ci_U (C := "RugReader$HouseReader") (As := [.ref (kG h0 42)]) (rest := [.ref x0]) S q710 q711 rfl q714 q713 q715 hyX6_is (HI.cell (ci := 4) hX hM (by decide) (by omega)) hlX6_is rfl dX7_fade_4) q715 q112 (Nat.le_of_ble_eq_true rfl) (Nat.le_of_ble_eq_true rfl) hl.1 (Nat.le_of_ble_eq_true rfl) rfl (fun H locs cs ss hM => ?_)
  refine lv_iconst (v := 1) hx hb dX7_fade_7 rfl ?_
  obtain ⟨z2, hF⟩ := gTe hF
  obtain ⟨r2, er2, hF⟩ := obn hF
  refine cctv (rest := []) S hX hM (metX6_need l F D h0 x0 r1 1 r2 er2) (ci_U (C := "RugReader$HouseReader") (As := [.int r1, .int 1]) (rest := []) S q735 q736 rfl q739 q738 q740 hyX6_need (HI.cell (ci := 4) hX hM (by decide) (by omega)) hlX6_need rfl dX7_fade_8) q740 q112 (Nat.le_of_ble_eq_true rfl) (Nat.le_of_ble_eq_true rfl) hl.1 (Nat.le_of_ble_eq_true rfl) (fun w2 ew2 H locs cs ss hM => ?_) (fun b2 eb2 H locs cs ss hM => ?_)
  · have hF := thr_r hF ew2
    refine lv_aload_n hx hb dX7_fade_11 rfl (lv_at hl 0 rfl) ?_
    refine lv_iconst (v := 1) hx hb dX7_fade_12 rfl ?_
    obtain ⟨z3, hF⟩ := gTe hF
    obtain ⟨r3, er3, hF⟩ := obn hF
    refine cctv (rest := []) S hX hM (metX7_once l F D r2.2 x0 1 r3 er3) (ci_V (C := "RugReader$HouseReader") (As := [.int 1]) (rest := []) S q728 q730 qs4 q731 hyX7_once (HI.cell (ci := 4) hX hM (by decide) (by omega)) hlX7_once rfl dX7_fade_13) q731 q113 (Nat.le_of_ble_eq_true rfl) (Nat.le_of_ble_eq_true rfl) hl.1 (Nat.le_of_ble_eq_true rfl) (fun w3 ew3 H locs cs ss hM => ?_) (fun b3 eb3 H locs cs ss hM => ?_)
    · have hF := thr_r hF ew3
      refine lv_aload_n hx hb dX7_fade_16 rfl (lv_at hl 0 rfl) ?_
      obtain ⟨a4, ea4, hF⟩ := obn hF
      refine cgn S hX hM ea4 ck_5_5_9 q454 (fun _ h => h) dX7_fade_17 ?_
      refine lv_aload_n hx hb dX7_fade_20 rfl (lv_at hl 0 rfl) ?_
      refine lv_iconst (v := 1) hx hb dX7_fade_21 rfl ?_
      refine lv_bipush (v := 9) hx hb dX7_fade_22 rfl ?_
      obtain ⟨z5, hF⟩ := gTe hF
      obtain ⟨r5, er5, hF⟩ := obn hF
      refine ccti (rest := [.ref a4]) S hX hM (metX6_number l F D r3.2 x0 1 9 r5 er5) (ci_U (C := "RugReader$HouseReader") (As := [.int 1, .int 9]) (rest := [.ref a4]) S q806 q807 rfl q810 q809 q811 hyX6_number (HI.cell (ci := 4) hX hM (by decide) (by omega)) hlX6_number rfl dX7_fade_24) q811 q112 (Nat.le_of_ble_eq_true rfl) (Nat.le_of_ble_eq_true rfl) hl.1 (Nat.le_of_ble_eq_true rfl) (fun w5 ew5 H locs cs ss hM => ?_) (fun b5 eb5 H locs cs ss hM => ?_)
      · have hF := thr_r hF ew5
        obtain ⟨σ6, eσ6, hF⟩ := obn hF
        refine cpiN S hX hM eσ6 ck_2_2_2 cw_2_2_2 rfl rfl (uq192 hX) dX7_fade_27 (fun H locs hM => ?_)
        have hz := (Option.some.inj hF)
        subst hz
        exact crv S hM hr hlocks dX7_fade_30
      · have hF := thr_q hF eb5
        have hz := (Option.some.inj hF)
        subst hz
        exact cxout hM (fun x hx => (hnt x hx).elim) hlocks
    · have hF := thr_q hF eb3
      have hz := (Option.some.inj hF)
      subst hz
      exact cxout hM (fun x hx => (hnt x hx).elim) hlocks
  · have hF := thr_q hF eb2
    have hz := (Option.some.inj hF)
    subst hz
    exact cxout hM (fun x hx => (hnt x hx).elim) hlocks
def fX7_line (F : Nat) (h0 : HS) (x0 : Nat) : Option ((Nat ⊕ Unit) × HS) := gT h0 x0 5 5 (((fX6_is F h0 x0 (kG h0 37)).bind fun r1 => (if r1 = 0 then (gT h0 x0 5 5 (((fX6_is F h0 x0 (kG h0 38)).bind fun r3 => (if r3 = 0 then (gT h0 x0 5 5 (((fX6_is F h0 x0 (kG h0 39)).bind fun r5 => (if r5 = 0 then (gT h0 x0 5 5 (((fX6_is F h0 x0 (kG h0 40)).bind fun r7 => (if r7 = 0 then (gT h0 x0 5 5 (((fX6_is F h0 x0 (kG h0 41)).bind fun r9 => (if r9 = 0 then (gT h0 x0 5 5 (((fX7_fade F h0 x0).bind fun r11 => thr r11.1 (fun b11 => some (.inl b11, r11.2)) fun w11 => some (.inr (), r11.2)))) else (gT h0 x0 5 5 (((fX7_way F h0 x0).bind fun r12 => thr r12.1 (fun b12 => some (.inl b12, r12.2)) fun w12 => some (.inr (), r12.2)))))))) else (gT h0 x0 5 5 (((fX7_door F h0 x0).bind fun r13 => thr r13.1 (fun b13 => some (.inl b13, r13.2)) fun w13 => some (.inr (), r13.2)))))))) else (gT h0 x0 5 5 (((fX7_wall F h0 x0).bind fun r14 => thr r14.1 (fun b14 => some (.inl b14, r14.2)) fun w14 => some (.inr (), r14.2)))))))) else (gT h0 x0 5 5 (((fX7_person F h0 x0).bind fun r15 => thr r15.1 (fun b15 => some (.inl b15, r15.2)) fun w15 => some (.inr (), r15.2)))))))) else (gT h0 x0 5 5 (((fX7_rug F h0 x0).bind fun r16 => thr r16.1 (fun b16 => some (.inl b16, r16.2)) fun w16 => some (.inr (), r16.2)))))))
theorem hyX7_line : yX7_line.cls ≠ "java/lang/invoke/MethodHandle" ∧ yX7_line.cls ≠ "java/lang/invoke/VarHandle" := by decide +kernel
theorem hlX7_line : (parseMethodDescriptor yX7_line.desc).map (fun d => d.parameters.length) = some 0 := by decide +kernel
set_option maxHeartbeats 4000000 in
set_option maxRecDepth 100000 in
theorem metX7_line (l : Launch) [NoTr l] (F : Nat) (D : va_G) (h0 : HS) (x0 : Nat) (r : (Nat ⊕ Unit) × HS) (hF : fX7_line F h0 x0 = some r) : CMet l yX7_line (ws_ yX7_line cX7_line 1 none) 14 338 D [.ref x0] h0 r.2 (xv r.1) := by
  refine CMet.ofW (by decide) ?_
  intro p e s m below meth c s₁ B S hX hM hr hlocks hnt hin
  obtain ⟨hx, hb, hml, hown, hts⟩ := id S
  have hl := lv_entry ([.ref x0]) (n := 1) (Nat.le_of_ble_eq_true rfl)
  rw [lg_entry_eq]
  generalize (lg_sl ([.ref x0]) ++ List.replicate (1 - (lg_sl ([.ref x0])).length) Slot.unset).toArray = ls at hl ⊢
  have hl : lv_has ls 1 [(0, .ref x0)] := hl
  unfold fX7_line at hF
  refine lv_aload_n hx hb dX7_line_0 rfl (lv_at hl 0 rfl) ?_
  refine cldc S hM (uq709 hX) dX7_line_1 ?_
  obtain ⟨z1, hF⟩ := gTe hF
  obtain ⟨r1, er1, hF⟩ := obn hF
  refine ccr (rest := []) (st1 := [.int r1]) S hX hM (metX6_is l F D h0 x0 (kG h0 37) r1 er1) (ci_U (C := "RugReader$HouseReader") (As := [.ref (kG h0 37)]) (rest := []) S q710 q711 rfl q714 q713 q715 hyX6_is (HI.cell (ci := 4) hX hM (by decide) (by omega)) hlX6_is rfl dX7_line_3) q715 q112 (Nat.le_of_ble_eq_true rfl) (Nat.le_of_ble_eq_true rfl) hl.1 (Nat.le_of_ble_eq_true rfl) rfl (fun H locs cs ss hM => ?_)
  refine lv_if_eq (tgt := 16) hx hb dX7_line_6 (by decide) (fun c2 => ?_) (fun c2 => ?_)
  · have hF := ifp hF c2
    refine lv_aload_n hx hb dX7_line_16 rfl (lv_at hl 0 rfl) ?_
    refine cldc S hM (uq824 hX) dX7_line_17 ?_
    obtain ⟨z3, hF⟩ := gTe hF
    obtain ⟨r3, er3, hF⟩ := obn hF
    refine ccr (rest := []) (st1 := [.int r3]) S hX hM (metX6_is l F D h0 x0 (kG h0 38) r3 er3) (ci_U (C := "RugReader$HouseReader") (As := [.ref (kG h0 38)]) (rest := []) S q710 q711 rfl q714 q713 q715 hyX6_is (HI.cell (ci := 4) hX hM (by decide) (by omega)) hlX6_is rfl dX7_line_19) q715 q112 (Nat.le_of_ble_eq_true rfl) (Nat.le_of_ble_eq_true rfl) hl.1 (Nat.le_of_ble_eq_true rfl) rfl (fun H locs cs ss hM => ?_)
    refine lv_if_eq (tgt := 32) hx hb dX7_line_22 (by decide) (fun c4 => ?_) (fun c4 => ?_)
    · have hF := ifp hF c4
      refine lv_aload_n hx hb dX7_line_32 rfl (lv_at hl 0 rfl) ?_
      refine cldc S hM (uq1021 hX) dX7_line_33 ?_
      obtain ⟨z5, hF⟩ := gTe hF
      obtain ⟨r5, er5, hF⟩ := obn hF
      refine ccr (rest := []) (st1 := [.int r5]) S hX hM (metX6_is l F D h0 x0 (kG h0 39) r5 er5) (ci_U (C := "RugReader$HouseReader") (As := [.ref (kG h0 39)]) (rest := []) S q710 q711 rfl q714 q713 q715 hyX6_is (HI.cell (ci := 4) hX hM (by decide) (by omega)) hlX6_is rfl dX7_line_35) q715 q112 (Nat.le_of_ble_eq_true rfl) (Nat.le_of_ble_eq_true rfl) hl.1 (Nat.le_of_ble_eq_true rfl) rfl (fun H locs cs ss hM => ?_)
      refine lv_if_eq (tgt := 48) hx hb dX7_line_38 (by decide) (fun c6 => ?_) (fun c6 => ?_)
      · have hF := ifp hF c6
        refine lv_aload_n hx hb dX7_line_48 rfl (lv_at hl 0 rfl) ?_
        refine cldc S hM (uq1033 hX) dX7_line_49 ?_
        obtain ⟨z7, hF⟩ := gTe hF
        obtain ⟨r7, er7, hF⟩ := obn hF
        refine ccr (rest := []) (st1 := [.int r7]) S hX hM (metX6_is l F D h0 x0 (kG h0 40) r7 er7) (ci_U (C := "RugReader$HouseReader") (As := [.ref (kG h0 40)]) (rest := []) S q710 q711 rfl q714 q713 q715 hyX6_is (HI.cell (ci := 4) hX hM (by decide) (by omega)) hlX6_is rfl dX7_line_51) q715 q112 (Nat.le_of_ble_eq_true rfl) (Nat.le_of_ble_eq_true rfl) hl.1 (Nat.le_of_ble_eq_true rfl) rfl (fun H locs cs ss hM => ?_)
        refine lv_if_eq (tgt := 64) hx hb dX7_line_54 (by decide) (fun c8 => ?_) (fun c8 => ?_)
        · have hF := ifp hF c8
          refine lv_aload_n hx hb dX7_line_64 rfl (lv_at hl 0 rfl) ?_
          refine cldc S hM (uq1058 hX) dX7_line_65 ?_
          obtain ⟨z9, hF⟩ := gTe hF
          obtain ⟨r9, er9, hF⟩ := obn hF
          refine ccr (rest := []) (st1 := [.int r9]) S hX hM (metX6_is l F D h0 x0 (kG h0 41) r9 er9) (ci_U (C := "RugReader$HouseReader") (As := [.ref (kG h0 41)]) (rest := []) S q710 q711 rfl q714 q713 q715 hyX6_is (HI.cell (ci := 4) hX hM (by decide) (by omega)) hlX6_is rfl dX7_line_67) q715 q112 (Nat.le_of_ble_eq_true rfl) (Nat.le_of_ble_eq_true rfl) hl.1 (Nat.le_of_ble_eq_true rfl) rfl (fun H locs cs ss hM => ?_)
          refine lv_if_eq (tgt := 80) hx hb dX7_line_70 (by decide) (fun c10 => ?_) (fun c10 => ?_)
          · have hF := ifp hF c10
            refine lv_aload_n hx hb dX7_line_80 rfl (lv_at hl 0 rfl) ?_
            obtain ⟨z11, hF⟩ := gTe hF
            obtain ⟨r11, er11, hF⟩ := obn hF
            refine cctv (rest := []) S hX hM (metX7_fade l F D h0 x0 r11 er11) (ci_V (C := "RugReader$HouseReader") (As := []) (rest := []) S q1126 q1128 qs14 q1129 hyX7_fade (HI.cell (ci := 4) hX hM (by decide) (by omega)) hlX7_fade rfl dX7_line_81) q1129 q113 (Nat.le_of_ble_eq_true rfl) (Nat.le_of_ble_eq_true rfl) hl.1 (Nat.le_of_ble_eq_true rfl) (fun w11 ew11 H locs cs ss hM => ?_) (fun b11 eb11 H locs cs ss hM => ?_)
            · have hF := thr_r hF ew11
              have hz := (Option.some.inj hF)
              subst hz
              exact crv S hM hr hlocks dX7_line_84
            · have hF := thr_q hF eb11
              have hz := (Option.some.inj hF)
              subst hz
              exact cxout hM (fun x hx => (hnt x hx).elim) hlocks
          · have hF := ifn hF c10
            refine lv_aload_n hx hb dX7_line_73 rfl (lv_at hl 0 rfl) ?_
            obtain ⟨z12, hF⟩ := gTe hF
            obtain ⟨r12, er12, hF⟩ := obn hF
            refine cctv (rest := []) S hX hM (metX7_way l F D h0 x0 r12 er12) (ci_V (C := "RugReader$HouseReader") (As := []) (rest := []) S q1059 q1061 qs13 q1062 hyX7_way (HI.cell (ci := 4) hX hM (by decide) (by omega)) hlX7_way rfl dX7_line_74) q1062 q113 (Nat.le_of_ble_eq_true rfl) (Nat.le_of_ble_eq_true rfl) hl.1 (Nat.le_of_ble_eq_true rfl) (fun w12 ew12 H locs cs ss hM => ?_) (fun b12 eb12 H locs cs ss hM => ?_)
            · have hF := thr_r hF ew12
              refine lv_goto (tgt := 84) hx hb dX7_line_77 (by decide) ?_
              have hz := (Option.some.inj hF)
              subst hz
              exact crv S hM hr hlocks dX7_line_84
            · have hF := thr_q hF eb12
              have hz := (Option.some.inj hF)
              subst hz
              exact cxout hM (fun x hx => (hnt x hx).elim) hlocks
        · have hF := ifn hF c8
          refine lv_aload_n hx hb dX7_line_57 rfl (lv_at hl 0 rfl) ?_
          obtain ⟨z13, hF⟩ := gTe hF
          obtain ⟨r13, er13, hF⟩ := obn hF
          refine cctv (rest := []) S hX hM (metX7_door l F D h0 x0 r13 er13) (ci_V (C := "RugReader$HouseReader") (As := []) (rest := []) S q1034 q1036 qs12 q1037 hyX7_door (HI.cell (ci := 4) hX hM (by decide) (by omega)) hlX7_door rfl dX7_line_58) q1037 q113 (Nat.le_of_ble_eq_true rfl) (Nat.le_of_ble_eq_true rfl) hl.1 (Nat.le_of_ble_eq_true rfl) (fun w13 ew13 H locs cs ss hM => ?_) (fun b13 eb13 H locs cs ss hM => ?_)
          · have hF := thr_r hF ew13
            refine lv_goto (tgt := 84) hx hb dX7_line_61 (by decide) ?_
            have hz := (Option.some.inj hF)
            subst hz
            exact crv S hM hr hlocks dX7_line_84
          · have hF := thr_q hF eb13
            have hz := (Option.some.inj hF)
            subst hz
            exact cxout hM (fun x hx => (hnt x hx).elim) hlocks
      · have hF := ifn hF c6
        refine lv_aload_n hx hb dX7_line_41 rfl (lv_at hl 0 rfl) ?_
        obtain ⟨z14, hF⟩ := gTe hF
        obtain ⟨r14, er14, hF⟩ := obn hF
        refine cctv (rest := []) S hX hM (metX7_wall l F D h0 x0 r14 er14) (ci_V (C := "RugReader$HouseReader") (As := []) (rest := []) S q1022 q1024 qs11 q1025 hyX7_wall (HI.cell (ci := 4) hX hM (by decide) (by omega)) hlX7_wall rfl dX7_line_42) q1025 q113 (Nat.le_of_ble_eq_true rfl) (Nat.le_of_ble_eq_true rfl) hl.1 (Nat.le_of_ble_eq_true rfl) (fun w14 ew14 H locs cs ss hM => ?_) (fun b14 eb14 H locs cs ss hM => ?_)
        · have hF := thr_r hF ew14
          refine lv_goto (tgt := 84) hx hb dX7_line_45 (by decide) ?_
          have hz := (Option.some.inj hF)
          subst hz
          exact crv S hM hr hlocks dX7_line_84
        · have hF := thr_q hF eb14
          have hz := (Option.some.inj hF)
          subst hz
          exact cxout hM (fun x hx => (hnt x hx).elim) hlocks
    · have hF := ifn hF c4
      refine lv_aload_n hx hb dX7_line_25 rfl (lv_at hl 0 rfl) ?_
      obtain ⟨z15, hF⟩ := gTe hF
      obtain ⟨r15, er15, hF⟩ := obn hF
      refine cctv (rest := []) S hX hM (metX7_person l F D h0 x0 r15 er15) (ci_V (C := "RugReader$HouseReader") (As := []) (rest := []) S q825 q827 qs6 q828 hyX7_person (HI.cell (ci := 4) hX hM (by decide) (by omega)) hlX7_person rfl dX7_line_26) q828 q113 (Nat.le_of_ble_eq_true rfl) (Nat.le_of_ble_eq_true rfl) hl.1 (Nat.le_of_ble_eq_true rfl) (fun w15 ew15 H locs cs ss hM => ?_) (fun b15 eb15 H locs cs ss hM => ?_)
      · have hF := thr_r hF ew15
        refine lv_goto (tgt := 84) hx hb dX7_line_29 (by decide) ?_
        have hz := (Option.some.inj hF)
        subst hz
        exact crv S hM hr hlocks dX7_line_84
      · have hF := thr_q hF eb15
        have hz := (Option.some.inj hF)
        subst hz
        exact cxout hM (fun x hx => (hnt x hx).elim) hlocks
  · have hF := ifn hF c2
    refine lv_aload_n hx hb dX7_line_9 rfl (lv_at hl 0 rfl) ?_
    obtain ⟨z16, hF⟩ := gTe hF
    obtain ⟨r16, er16, hF⟩ := obn hF
    refine cctv (rest := []) S hX hM (metX7_rug l F D h0 x0 r16 er16) (ci_V (C := "RugReader$HouseReader") (As := []) (rest := []) S q724 q726 qs3 q727 hyX7_rug (HI.cell (ci := 4) hX hM (by decide) (by omega)) hlX7_rug rfl dX7_line_10) q727 q113 (Nat.le_of_ble_eq_true rfl) (Nat.le_of_ble_eq_true rfl) hl.1 (Nat.le_of_ble_eq_true rfl) (fun w16 ew16 H locs cs ss hM => ?_) (fun b16 eb16 H locs cs ss hM => ?_)
    · have hF := thr_r hF ew16
      refine lv_goto (tgt := 84) hx hb dX7_line_13 (by decide) ?_
      have hz := (Option.some.inj hF)
      subst hz
      exact crv S hM hr hlocks dX7_line_84
    · have hF := thr_q hF eb16
      have hz := (Option.some.inj hF)
      subst hz
      exact cxout hM (fun x hx => (hnt x hx).elim) hlocks
def fX6_end (F : Nat) (h0 : HS) (x0 : Nat) : Option ((Nat ⊕ Unit) × HS) := ((oI h0 x0 5 7 4).bind fun v1 => (if v1 = 4 then (gT h0 x0 5 7 (((fX6_need F h0 x0 1 1).bind fun r5 => thr r5.1 (fun b5 => some (.inl b5, r5.2)) fun w5 => gT r5.2 x0 5 7 (((fX6_go F r5.2 x0).bind fun r6 => some (.inr (), r6)))))) else (gT h0 x0 5 7 (((fX6_need F h0 x0 0 1).bind fun r3 => thr r3.1 (fun b3 => some (.inl b3, r3.2)) fun w3 => gT r3.2 x0 5 7 (((fX6_go F r3.2 x0).bind fun r4 => some (.inr (), r4))))))))
theorem hyX6_end : yX6_end.cls ≠ "java/lang/invoke/MethodHandle" ∧ yX6_end.cls ≠ "java/lang/invoke/VarHandle" := by decide +kernel
theorem hlX6_end : (parseMethodDescriptor yX6_end.desc).map (fun d => d.parameters.length) = some 0 := by decide +kernel
set_option maxHeartbeats 4000000 in
set_option maxRecDepth 100000 in
theorem metX6_end (l : Launch) [NoTr l] (F : Nat) (D : va_G) (h0 : HS) (x0 : Nat) (r : (Nat ⊕ Unit) × HS) (hF : fX6_end F h0 x0 = some r) : CMet l yX6_end (ws_ yX6_end cX6_end 1 none) 10 244 D [.ref x0] h0 r.2 (xv r.1) := by
  refine CMet.ofW (by decide) ?_
  intro p e s m below meth c s₁ B S hX hM hr hlocks hnt hin
  obtain ⟨hx, hb, hml, hown, hts⟩ := id S
  have hl := lv_entry ([.ref x0]) (n := 1) (Nat.le_of_ble_eq_true rfl)
  rw [lg_entry_eq]
  generalize (lg_sl ([.ref x0]) ++ List.replicate (1 - (lg_sl ([.ref x0])).length) Slot.unset).toArray = ls at hl ⊢
  have hl : lv_has ls 1 [(0, .ref x0)] := hl
  unfold fX6_end at hF
  refine lv_aload_n hx hb dX6_end_0 rfl (lv_at hl 0 rfl) ?_
  refine lv_aload_n hx hb dX6_end_1 rfl (lv_at hl 0 rfl) ?_
  obtain ⟨v1, ev1, hF⟩ := obn hF
  refine cgi S hX hM ev1 ck_5_7_4 q466 (fun _ h => h) dX6_end_2 ?_
  refine lv_iconst (v := 4) hx hb dX6_end_5 rfl ?_
  refine lv_icmp_ne (tgt := 13) hx hb dX6_end_6 (by decide) (fun c2 => ?_) (fun c2 => ?_)
  · have hF := ifn hF c2
    refine lv_iconst (v := 0) hx hb dX6_end_13 rfl ?_
    refine lv_iconst (v := 1) hx hb dX6_end_14 rfl ?_
    obtain ⟨z3, hF⟩ := gTe hF
    obtain ⟨r3, er3, hF⟩ := obn hF
    refine cctv (rest := []) S hX hM (metX6_need l F D h0 x0 0 1 r3 er3) (by
          have ez : kT h0 x0 = 5 ∨ kT h0 x0 = 6 ∨ kT h0 x0 = 7 := by omega
          rcases ez with ez | ez | ez
          · exact ci_V (C := "RugReader$HouseReader") (As := [.int 0, .int 1]) (rest := []) S q819 q739 q2327 q740 hyX6_need (HI.cell (ci := 4) hX hM (by decide) ez) hlX6_need rfl dX6_end_15
          · exact ci_V (C := "RugReader$WalkReader") (As := [.int 0, .int 1]) (rest := []) S q819 q739 q2329 q740 hyX6_need (HI.cell (ci := 5) hX hM (by decide) ez) hlX6_need rfl dX6_end_15
          · exact ci_V (C := "RugReader$SentenceReader") (As := [.int 0, .int 1]) (rest := []) S q819 q739 q2328 q740 hyX6_need (HI.cell (ci := 6) hX hM (by decide) ez) hlX6_need rfl dX6_end_15) q740 q112 (Nat.le_of_ble_eq_true rfl) (Nat.le_of_ble_eq_true rfl) hl.1 (Nat.le_of_ble_eq_true rfl) (fun w3 ew3 H locs cs ss hM => ?_) (fun b3 eb3 H locs cs ss hM => ?_)
    · have hF := thr_r hF ew3
      refine lv_aload_n hx hb dX6_end_18 rfl (lv_at hl 0 rfl) ?_
      obtain ⟨z4, hF⟩ := gTe hF
      obtain ⟨r4, er4, hF⟩ := obn hF
      refine ccr (rest := []) (st1 := []) S hX hM (metX6_go l F D r3.2 x0 r4 er4) (by
            have ez : kT r3.2 x0 = 5 ∨ kT r3.2 x0 = 6 ∨ kT r3.2 x0 = 7 := by omega
            rcases ez with ez | ez | ez
            · exact ci_V (C := "RugReader$HouseReader") (As := []) (rest := []) S q823 q506 q2331 q507 hyX6_go (HI.cell (ci := 4) hX hM (by decide) ez) hlX6_go rfl dX6_end_19
            · exact ci_V (C := "RugReader$WalkReader") (As := []) (rest := []) S q823 q506 q2333 q507 hyX6_go (HI.cell (ci := 5) hX hM (by decide) ez) hlX6_go rfl dX6_end_19
            · exact ci_V (C := "RugReader$SentenceReader") (As := []) (rest := []) S q823 q506 q2332 q507 hyX6_go (HI.cell (ci := 6) hX hM (by decide) ez) hlX6_go rfl dX6_end_19) q507 q112 (Nat.le_of_ble_eq_true rfl) (Nat.le_of_ble_eq_true rfl) hl.1 (Nat.le_of_ble_eq_true rfl) rfl (fun H locs cs ss hM => ?_)
      have hz := (Option.some.inj hF)
      subst hz
      exact crv S hM hr hlocks dX6_end_22
    · have hF := thr_q hF eb3
      have hz := (Option.some.inj hF)
      subst hz
      exact cxout hM (fun x hx => (hnt x hx).elim) hlocks
  · have hF := ifp hF c2
    refine lv_iconst (v := 1) hx hb dX6_end_9 rfl ?_
    refine lv_goto (tgt := 14) hx hb dX6_end_10 (by decide) ?_
    refine lv_iconst (v := 1) hx hb dX6_end_14 rfl ?_
    obtain ⟨z5, hF⟩ := gTe hF
    obtain ⟨r5, er5, hF⟩ := obn hF
    refine cctv (rest := []) S hX hM (metX6_need l F D h0 x0 1 1 r5 er5) (by
          have ez : kT h0 x0 = 5 ∨ kT h0 x0 = 6 ∨ kT h0 x0 = 7 := by omega
          rcases ez with ez | ez | ez
          · exact ci_V (C := "RugReader$HouseReader") (As := [.int 1, .int 1]) (rest := []) S q819 q739 q2327 q740 hyX6_need (HI.cell (ci := 4) hX hM (by decide) ez) hlX6_need rfl dX6_end_15
          · exact ci_V (C := "RugReader$WalkReader") (As := [.int 1, .int 1]) (rest := []) S q819 q739 q2329 q740 hyX6_need (HI.cell (ci := 5) hX hM (by decide) ez) hlX6_need rfl dX6_end_15
          · exact ci_V (C := "RugReader$SentenceReader") (As := [.int 1, .int 1]) (rest := []) S q819 q739 q2328 q740 hyX6_need (HI.cell (ci := 6) hX hM (by decide) ez) hlX6_need rfl dX6_end_15) q740 q112 (Nat.le_of_ble_eq_true rfl) (Nat.le_of_ble_eq_true rfl) hl.1 (Nat.le_of_ble_eq_true rfl) (fun w5 ew5 H locs cs ss hM => ?_) (fun b5 eb5 H locs cs ss hM => ?_)
    · have hF := thr_r hF ew5
      refine lv_aload_n hx hb dX6_end_18 rfl (lv_at hl 0 rfl) ?_
      obtain ⟨z6, hF⟩ := gTe hF
      obtain ⟨r6, er6, hF⟩ := obn hF
      refine ccr (rest := []) (st1 := []) S hX hM (metX6_go l F D r5.2 x0 r6 er6) (by
            have ez : kT r5.2 x0 = 5 ∨ kT r5.2 x0 = 6 ∨ kT r5.2 x0 = 7 := by omega
            rcases ez with ez | ez | ez
            · exact ci_V (C := "RugReader$HouseReader") (As := []) (rest := []) S q823 q506 q2331 q507 hyX6_go (HI.cell (ci := 4) hX hM (by decide) ez) hlX6_go rfl dX6_end_19
            · exact ci_V (C := "RugReader$WalkReader") (As := []) (rest := []) S q823 q506 q2333 q507 hyX6_go (HI.cell (ci := 5) hX hM (by decide) ez) hlX6_go rfl dX6_end_19
            · exact ci_V (C := "RugReader$SentenceReader") (As := []) (rest := []) S q823 q506 q2332 q507 hyX6_go (HI.cell (ci := 6) hX hM (by decide) ez) hlX6_go rfl dX6_end_19) q507 q112 (Nat.le_of_ble_eq_true rfl) (Nat.le_of_ble_eq_true rfl) hl.1 (Nat.le_of_ble_eq_true rfl) rfl (fun H locs cs ss hM => ?_)
      have hz := (Option.some.inj hF)
      subst hz
      exact crv S hM hr hlocks dX6_end_22
    · have hF := thr_q hF eb5
      have hz := (Option.some.inj hF)
      subst hz
      exact cxout hM (fun x hx => (hnt x hx).elim) hlocks
def lX7_read_4 (F : Nat) : Nat → HS → Nat → Option ((HS) ⊕ ((Nat ⊕ Nat) × HS))
  | 0, _, _ => none
  | n + 1, σ, y0 => ((oI σ y0 5 5 4).bind fun v2 => (if v2 = 0 then (some (.inl σ)) else (gT σ y0 5 5 (((fX7_line F σ y0).bind fun r4 => thr r4.1 (fun b4 => some (.inr (.inl b4, r4.2))) fun w4 => gT r4.2 y0 5 5 (((fX6_end F r4.2 y0).bind fun r5 => thr r5.1 (fun b5 => some (.inr (.inl b5, r5.2))) fun w5 => ((fR r5.2 y0 5 5 9).bind fun a6 => ((oI r5.2 a6 2 2 3).bind fun v7 => ((pI r5.2 a6 2 2 3 (v7 + 1)).bind fun σ8 => lX7_read_4 F n σ8 y0))))))))))
def fX7_read (F : Nat) (h0 : HS) (x0 : Nat) : Option ((Nat ⊕ Nat) × HS) := gT h0 x0 5 5 (((fX6_go F h0 x0).bind fun r1 => (osm (lX7_read_4 F F r1 x0) id fun q9 => ((fR q9 x0 5 5 9).bind fun a10 => some (.inr a10, q9)))))
theorem hyX7_read : yX7_read.cls ≠ "java/lang/invoke/MethodHandle" ∧ yX7_read.cls ≠ "java/lang/invoke/VarHandle" := by decide +kernel
theorem hlX7_read : (parseMethodDescriptor yX7_read.desc).map (fun d => d.parameters.length) = some 0 := by decide +kernel
set_option maxHeartbeats 4000000 in
set_option maxRecDepth 100000 in
theorem wlX7_read_4 {p : Program} {l : Launch} [NoTr l] {e : Env} {s : State} {m : MethodId} {args : Array Value} {below : List Frame} {meth : Method} {c : Code} {D : va_G} {h0 : HS} (S : CallFix p m c cX7_read 1 s args lw_all RX7) (hX : CX D (kG h0) s) (hr : meth.sig.returnType = (some (.object "RugReader$House"))) (hlocks : meth.locks = false) (hnt : ∀ x ∈ c.exceptionTable.toList, False) (F : Nat) (res : (Nat ⊕ Nat) × HS) : ∀ (n : Nat) (σ : HS) (y0 : Nat) (out : (HS) ⊕ ((Nat ⊕ Nat) × HS)), lX7_read_4 F n σ y0 = some out → (∀ v, out = .inr v → v = res) → (∀ o, out = .inl o → ∀ (H : Heap) (locs : List Loc) (cs ss : Nat) (ls : Array Slot), HI D h0 o s.heap H locs cs ss → lv_has ls 1 [(0, .ref y0)] → W p l e (cR 15 358 h0) s m args below meth c H locs cs ss (cMQ below D h0 res.2 (xr res.1) args s) (F0 m 35 ls [])) → ∀ (H : Heap) (locs : List Loc) (cs ss : Nat) (ls : Array Slot), HI D h0 σ s.heap H locs cs ss → lv_has ls 1 [(0, .ref y0)] → W p l e (cR 15 358 h0) s m args below meth c H locs cs ss (cMQ below D h0 res.2 (xr res.1) args s) (F0 m 4 ls []) := by
  intro n
  induction n with
  | zero =>
    intro σ y0 out hF
    cases (show (none : Option _) = some out from hF)
  | succ n ih =>
    intro σ y0 out hF hv hk H locs cs ss ls hM hl
    rw [lX7_read_4] at hF
    obtain ⟨hx, hb, hml, hown, hts⟩ := id S
    refine lv_aload_n hx hb dX7_read_4 rfl (lv_at hl 0 rfl) ?_
    obtain ⟨v2, ev2, hF⟩ := obn hF
    refine cgi S hX hM ev2 ck_5_5_4 q460 (u_same (hts _ q461)) dX7_read_5 ?_
    refine lv_if_eq (tgt := 35) hx hb dX7_read_8 (by decide) (fun c3 => ?_) (fun c3 => ?_)
    · have hF := ifp hF c3
      cases hF
      exact hk _ rfl _ _ _ _ _ hM (lv_sub hl [0] rfl)
    · have hF := ifn hF c3
      refine lv_aload_n hx hb dX7_read_11 rfl (lv_at hl 0 rfl) ?_
      obtain ⟨z4, hF⟩ := gTe hF
      obtain ⟨r4, er4, hF⟩ := obn hF
      refine cctv (rest := []) S hX hM (metX7_line l F D σ y0 r4 er4) (ci_V (C := "RugReader$HouseReader") (As := []) (rest := []) S q705 q707 qs2 q708 hyX7_line (HI.cell (ci := 4) hX hM (by decide) (by omega)) hlX7_line rfl dX7_read_12) q708 q113 (Nat.le_of_ble_eq_true rfl) (Nat.le_of_ble_eq_true rfl) hl.1 (Nat.le_of_ble_eq_true rfl) (fun w4 ew4 H locs cs ss hM => ?_) (fun b4 eb4 H locs cs ss hM => ?_)
      · have hF := thr_r hF ew4
        refine lv_aload_n hx hb dX7_read_15 rfl (lv_at hl 0 rfl) ?_
        obtain ⟨z5, hF⟩ := gTe hF
        obtain ⟨r5, er5, hF⟩ := obn hF
        refine cctv (rest := []) S hX hM (metX6_end l F D r4.2 y0 r5 er5) (ci_U (C := "RugReader$HouseReader") (As := []) (rest := []) S q1131 q1132 rfl q1135 q1134 q1136 hyX6_end (HI.cell (ci := 4) hX hM (by decide) (by omega)) hlX6_end rfl dX7_read_16) q1136 q112 (Nat.le_of_ble_eq_true rfl) (Nat.le_of_ble_eq_true rfl) hl.1 (Nat.le_of_ble_eq_true rfl) (fun w5 ew5 H locs cs ss hM => ?_) (fun b5 eb5 H locs cs ss hM => ?_)
        · have hF := thr_r hF ew5
          refine lv_aload_n hx hb dX7_read_19 rfl (lv_at hl 0 rfl) ?_
          obtain ⟨a6, ea6, hF⟩ := obn hF
          refine cgn S hX hM ea6 ck_5_5_9 q454 (fun _ h => h) dX7_read_20 ?_
          refine lv_dup hx hb dX7_read_23 rfl ?_
          obtain ⟨v7, ev7, hF⟩ := obn hF
          refine cgiN S hX hM ev7 ck_2_2_3 (uq195 hX) dX7_read_24 ?_
          refine lv_iconst (v := 1) hx hb dX7_read_27 rfl ?_
          refine lv_iadd hx hb dX7_read_28 ?_
          obtain ⟨σ8, eσ8, hF⟩ := obn hF
          refine cpiN S hX hM eσ8 ck_2_2_3 cw_2_2_3 rfl rfl (uq195 hX) dX7_read_29 (fun H locs hM => ?_)
          refine lv_goto (tgt := 4) hx hb dX7_read_32 (by decide) ?_
          exact ih _ _ out hF hv hk _ _ _ _ _ hM (lv_sub hl [0] rfl)
        · have hF := thr_q hF eb5
          have hz := (hv _ ((Option.some.inj hF)).symm)
          subst hz
          exact cxout hM (fun x hx => (hnt x hx).elim) hlocks
      · have hF := thr_q hF eb4
        have hz := (hv _ ((Option.some.inj hF)).symm)
        subst hz
        exact cxout hM (fun x hx => (hnt x hx).elim) hlocks
set_option maxHeartbeats 4000000 in
set_option maxRecDepth 100000 in
theorem metX7_read (l : Launch) [NoTr l] (F : Nat) (D : va_G) (h0 : HS) (x0 : Nat) (r : (Nat ⊕ Nat) × HS) (hF : fX7_read F h0 x0 = some r) : CMet l yX7_read (ws_ yX7_read cX7_read 1 (some (.object "RugReader$House"))) 15 358 D [.ref x0] h0 r.2 (xr r.1) := by
  refine CMet.ofW (by decide) ?_
  intro p e s m below meth c s₁ B S hX hM hr hlocks hnt hin
  obtain ⟨hx, hb, hml, hown, hts⟩ := id S
  have hl := lv_entry ([.ref x0]) (n := 1) (Nat.le_of_ble_eq_true rfl)
  rw [lg_entry_eq]
  generalize (lg_sl ([.ref x0]) ++ List.replicate (1 - (lg_sl ([.ref x0])).length) Slot.unset).toArray = ls at hl ⊢
  have hl : lv_has ls 1 [(0, .ref x0)] := hl
  unfold fX7_read at hF
  refine lv_aload_n hx hb dX7_read_0 rfl (lv_at hl 0 rfl) ?_
  obtain ⟨z1, hF⟩ := gTe hF
  obtain ⟨r1, er1, hF⟩ := obn hF
  refine ccr (rest := []) (st1 := []) S hX hM (metX6_go l F D h0 x0 r1 er1) (ci_U (C := "RugReader$HouseReader") (As := []) (rest := []) S q502 q503 rfl q506 q505 q507 hyX6_go (HI.cell (ci := 4) hX hM (by decide) (by omega)) hlX6_go rfl dX7_read_1) q507 q112 (Nat.le_of_ble_eq_true rfl) (Nat.le_of_ble_eq_true rfl) hl.1 (Nat.le_of_ble_eq_true rfl) rfl (fun H locs cs ss hM => ?_)
  obtain ⟨oq9, hq9, h1q9, h2q9⟩ := osx hF
  refine wlX7_read_4 S hX hr hlocks hnt F _  F _ _ oq9 hq9 (fun v e => (h2q9 v e)) (fun q9 eq9 H locs cs ss ls hM hl => ?_) _ _ _ _ _ hM (lv_sub hl [0] rfl)
  have hF := h1q9 _ eq9
  refine lv_aload_n hx hb dX7_read_35 rfl (lv_at hl 0 rfl) ?_
  obtain ⟨a10, ea10, hF⟩ := obn hF
  refine cgn S hX hM ea10 ck_5_5_9 q454 (fun _ h => h) dX7_read_36 ?_
  have hz := (Option.some.inj hF)
  subst hz
  exact cra S hM hr (Or.inl ⟨_, rfl⟩) hlocks dX7_read_39
def fX1_house (F : Nat) (h0 : HS) (x0 : Nat) : Option (Int32 × HS) := gT h0 x0 1 1 (((fX1_take F h0 x0).bind fun r1 => ((pI r1.2 x0 1 1 2 0).bind fun σ2 => ((nO σ2 5 11).bind fun r3 => ((fR r3.2 x0 1 1 0).bind fun a4 => ((fX7_init F r3.2 r3.1 a4 r1.1).bind fun r5 => gT r5 r3.1 5 5 (((fX7_read F r5 r3.1).bind fun r6 => thr r6.1 (fun b6 => gT r6.2 b6 8 8 (((oI r6.2 b6 8 8 0).bind fun v16 => ((pI r6.2 x0 1 1 2 v16).bind fun σ17 => ((oI σ17 b6 8 8 1).bind fun v18 => some (((-1) - v18), σ17)))))) fun w6 => ((pR r6.2 x0 1 1 3 (some w6)).bind fun σ7 => ((fR σ7 x0 1 1 4).bind fun a8 => ((fR σ7 x0 1 1 3).bind fun a9 => gT σ7 a8 3 3 (((fX3_begin F σ7 a8 a9).bind fun r10 => ((pR r10.2 x0 1 1 5 none).bind fun σ12 => ((pI σ12 x0 1 1 7 0).bind fun σ13 => ((fR σ13 x0 1 1 3).bind fun a14 => ((oI σ13 a14 2 2 3).bind fun v15 => some (v15, σ13))))))))))))))))))
theorem hyX1_house : yX1_house.cls ≠ "java/lang/invoke/MethodHandle" ∧ yX1_house.cls ≠ "java/lang/invoke/VarHandle" := by decide +kernel
theorem hlX1_house : (parseMethodDescriptor yX1_house.desc).map (fun d => d.parameters.length) = some 0 := by decide +kernel
set_option maxHeartbeats 4000000 in
set_option maxRecDepth 100000 in
theorem metX1_house (l : Launch) [NoTr l] (F : Nat) (D : va_G) (h0 : HS) (x0 : Nat) (r : Int32 × HS) (hF : fX1_house F h0 x0 = some r) : CMet l yX1_house (wsW_ yX1_house cX1_house 3 (some .int) [(10, 58, 59, 136)]) 16 378 D [.ref x0] h0 r.2 (.inr (some (.int r.1))) := by
  refine CMet.ofWH (by decide) ?_
  intro p e s m below meth c s₁ B S hX hM hr hlocks hnt hin
  obtain ⟨hx, hb, hml, hown, hts⟩ := id S
  have hl := lv_entry ([.ref x0]) (n := 3) (Nat.le_of_ble_eq_true rfl)
  rw [lg_entry_eq]
  generalize (lg_sl ([.ref x0]) ++ List.replicate (3 - (lg_sl ([.ref x0])).length) Slot.unset).toArray = ls at hl ⊢
  have hl : lv_has ls 3 [(0, .ref x0)] := hl
  unfold fX1_house at hF
  refine lv_aload_n hx hb dX1_house_0 rfl (lv_at hl 0 rfl) ?_
  obtain ⟨z1, hF⟩ := gTe hF
  obtain ⟨r1, er1, hF⟩ := obn hF
  refine ccr (rest := []) (st1 := [.int r1.1]) S hX hM (metX1_take l F D h0 x0 r1 er1) (ci_V (C := "RugReader") (As := []) (rest := []) S q438 q440 qs1 q441 hyX1_take (HI.cell (ci := 0) hX hM (by decide) (by omega)) hlX1_take rfl dX1_house_1) q441 q103 (Nat.le_of_ble_eq_true rfl) (Nat.le_of_ble_eq_true rfl) hl.1 (Nat.le_of_ble_eq_true rfl) rfl (fun H locs cs ss hM => ?_)
  refine lv_istore_n (lv' := [(1, .int r1.1), (0, .ref x0)]) hx hb dX1_house_4 rfl hl (by decide) rfl (fun ls hl => ?_)
  refine lv_aload_n hx hb dX1_house_5 rfl (lv_at hl 1 rfl) ?_
  refine lv_iconst (v := 0) hx hb dX1_house_6 rfl ?_
  obtain ⟨σ2, eσ2, hF⟩ := obn hF
  refine cpi S hX hM eσ2 ck_1_1_2 cw_1_1_2 rfl rfl q326 (fun _ h => h) dX1_house_7 (fun H locs hM => ?_)
  refine lv_aload_n hx hb dX1_house_10 rfl (lv_at hl 1 rfl) ?_
  obtain ⟨r3, er3, hF⟩ := obn hF
  refine cno (ci := 4) S hX hM er3 (by decide) q442 q443 q113 dX1_house_11 (fun H cs ss hM => ?_)
  refine lv_dup hx hb dX1_house_14 rfl ?_
  refine lv_aload_n hx hb dX1_house_15 rfl (lv_at hl 1 rfl) ?_
  obtain ⟨a4, ea4, hF⟩ := obn hF
  refine cgn S hX hM ea4 ck_1_1_0 q324 (fun _ h => h) dX1_house_16 ?_
  refine lv_iload_n hx hb dX1_house_19 rfl (lv_at hl 0 rfl) ?_
  obtain ⟨r5, er5, hF⟩ := obn hF
  refine ccr (rest := [.ref r3.1, .ref x0]) (st1 := [.ref r3.1, .ref x0]) S hX hM (metX7_init l F D r3.2 r3.1 a4 r1.1 r5 er5) (ci_I (As := [.ref a4, .int r1.1]) (rest := [.ref r3.1, .ref x0]) S rfl q444 q445 q446 hyX7_init hlX7_init rfl dX1_house_20) q446 q113 (Nat.le_of_ble_eq_true rfl) (Nat.le_of_ble_eq_true rfl) hl.1 (Nat.le_of_ble_eq_true rfl) rfl (fun H locs cs ss hM => ?_)
  obtain ⟨z6, hF⟩ := gTe hF
  obtain ⟨r6, er6, hF⟩ := obn hF
  refine cctr (rest := [.ref x0]) S hX hM (metX7_read l F D r5 r3.1 r6 er6) (ci_V (C := "RugReader$HouseReader") (As := []) (rest := [.ref x0]) S q498 q499 q500 q501 hyX7_read (HI.cell (ci := 4) hX hM (by decide) (by omega)) hlX7_read rfl dX1_house_23) q501 q113 (Nat.le_of_ble_eq_true rfl) (Nat.le_of_ble_eq_true rfl) hl.1 (Nat.le_of_ble_eq_true rfl) (fun w6 ew6 H locs cs ss hM => ?_) (fun b6 eb6 H locs cs ss hM => ?_)
  · have hF := thr_r hF ew6
    obtain ⟨σ7, eσ7, hF⟩ := obn hF
    refine cpr (v := (some w6)) S hX hM eσ7 ck_1_1_3 cw_1_1_3 rfl q327 (fun _ h => h) dX1_house_26 (fun H locs hM => ?_)
    refine lv_aload_n hx hb dX1_house_29 rfl (lv_at hl 1 rfl) ?_
    obtain ⟨a8, ea8, hF⟩ := obn hF
    refine cgn S hX hM ea8 ck_1_1_4 q328 (fun _ h => h) dX1_house_30 ?_
    refine lv_aload_n hx hb dX1_house_33 rfl (lv_at hl 1 rfl) ?_
    obtain ⟨a9, ea9, hF⟩ := obn hF
    refine cgn S hX hM ea9 ck_1_1_3 q327 (fun _ h => h) dX1_house_34 ?_
    obtain ⟨z10, hF⟩ := gTe hF
    obtain ⟨r10, er10, hF⟩ := obn hF
    refine ccr (rest := []) (st1 := [.ref r10.1]) S hX hM (metX3_begin l F D σ7 a8 a9 r10 er10) (ci_V (C := "RugReader$Rug") (As := [.ref a9]) (rest := []) S q289 q290 q291 q292 hyX3_begin (HI.cell (ci := 2) hX hM (by decide) (by omega)) hlX3_begin rfl dX1_house_37) q292 q108 (Nat.le_of_ble_eq_true rfl) (Nat.le_of_ble_eq_true rfl) hl.1 (Nat.le_of_ble_eq_true rfl) rfl (fun H locs cs ss hM => ?_)
    refine lv_pop hx hb dX1_house_40 rfl ?_
    refine lv_aload_n hx hb dX1_house_41 rfl (lv_at hl 1 rfl) ?_
    refine lv_null hx hb dX1_house_42 ?_
    obtain ⟨σ12, eσ12, hF⟩ := obn hF
    refine cpr (v := none) S hX hM eσ12 ck_1_1_5 cw_1_1_5 rfl q329 (fun _ h => h) dX1_house_43 (fun H locs hM => ?_)
    refine lv_aload_n hx hb dX1_house_46 rfl (lv_at hl 1 rfl) ?_
    refine lv_iconst (v := 0) hx hb dX1_house_47 rfl ?_
    obtain ⟨σ13, eσ13, hF⟩ := obn hF
    refine cpi S hX hM eσ13 ck_1_1_7 cw_1_1_7 rfl rfl q331 (fun _ h => h) dX1_house_48 (fun H locs hM => ?_)
    refine lv_aload_n hx hb dX1_house_51 rfl (lv_at hl 1 rfl) ?_
    obtain ⟨a14, ea14, hF⟩ := obn hF
    refine cgn S hX hM ea14 ck_1_1_3 q327 (fun _ h => h) dX1_house_52 ?_
    obtain ⟨v15, ev15, hF⟩ := obn hF
    refine cgiN S hX hM ev15 ck_2_2_3 (uq196 hX) dX1_house_55 ?_
    have hz := (Option.some.inj hF)
    subst hz
    exact cri S hM hr hlocks dX1_house_58
  · have hF := thr_q hF eb6
    obtain ⟨zb6, hF⟩ := gTe hF
    refine cxcatch (ci := 7) (nm := "") S hX hM (by decide) (by omega) hnt (by decide) (by decide) q437 ?_
    refine lv_astore_n (lv' := [(2, .ref b6), (1, .int r1.1), (0, .ref x0)]) hx hb dX1_house_59 rfl hl (by decide) rfl (fun ls hl => ?_)
    refine lv_aload_n hx hb dX1_house_60 rfl (lv_at hl 2 rfl) ?_
    refine lv_aload_n hx hb dX1_house_61 rfl (lv_at hl 0 rfl) ?_
    obtain ⟨v16, ev16, hF⟩ := obn hF
    refine cgiN S hX hM ev16 ck_8_8_0 (uq787 hX) dX1_house_62 ?_
    obtain ⟨σ17, eσ17, hF⟩ := obn hF
    refine cpi S hX hM eσ17 ck_1_1_2 cw_1_1_2 rfl rfl q326 (fun _ h => h) dX1_house_65 (fun H locs hM => ?_)
    refine lv_iconst (v := (-1)) hx hb dX1_house_68 rfl ?_
    refine lv_aload_n hx hb dX1_house_69 rfl (lv_at hl 0 rfl) ?_
    obtain ⟨v18, ev18, hF⟩ := obn hF
    refine cgiN S hX hM ev18 ck_8_8_1 (uq789 hX) dX1_house_70 ?_
    refine lv_isub hx hb dX1_house_73 ?_
    have hz := (Option.some.inj hF)
    subst hz
    exact cri S hM hr hlocks dX1_house_74
def fX1_fault (F : Nat) (h0 : HS) (x0 : Nat) : Option (Int32) := ((oI h0 x0 1 1 2).bind fun v1 => some v1)
theorem hyX1_fault : yX1_fault.cls ≠ "java/lang/invoke/MethodHandle" ∧ yX1_fault.cls ≠ "java/lang/invoke/VarHandle" := by decide +kernel
theorem hlX1_fault : (parseMethodDescriptor yX1_fault.desc).map (fun d => d.parameters.length) = some 0 := by decide +kernel
set_option maxHeartbeats 4000000 in
set_option maxRecDepth 100000 in
theorem metX1_fault (l : Launch) [NoTr l] (F : Nat) (D : va_G) (h0 : HS) (x0 : Nat) (r : Int32) (hF : fX1_fault F h0 x0 = some r) : CMet l yX1_fault (ws_ yX1_fault cX1_fault 1 (some .int)) 0 0 D [.ref x0] h0 h0 (.inr (some (.int r))) := by
  refine CMet.ofW (by decide) ?_
  intro p e s m below meth c s₁ B S hX hM hr hlocks hnt hin
  obtain ⟨hx, hb, hml, hown, hts⟩ := id S
  have hl := lv_entry ([.ref x0]) (n := 1) (Nat.le_of_ble_eq_true rfl)
  rw [lg_entry_eq]
  generalize (lg_sl ([.ref x0]) ++ List.replicate (1 - (lg_sl ([.ref x0])).length) Slot.unset).toArray = ls at hl ⊢
  have hl : lv_has ls 1 [(0, .ref x0)] := hl
  unfold fX1_fault at hF
  refine lv_aload_n hx hb dX1_fault_0 rfl (lv_at hl 0 rfl) ?_
  obtain ⟨v1, ev1, hF⟩ := obn hF
  refine cgi S hX hM ev1 ck_1_1_2 q326 (fun _ h => h) dX1_fault_1 ?_
  have hz := (Option.some.inj hF)
  subst hz
  exact cri S hM hr hlocks dX1_fault_4
def fX1_isWay (F : Nat) (h0 : HS) (x0 : Nat) (x1 : Int32) : Option (Int32) := ((fR h0 x0 1 1 3).bind fun a1 => ((fR h0 a1 2 2 6).bind fun a2 => gT h0 a2 15 15 (((fJ2_size F h0 a2).bind fun r3 => gB (fX1_isIn x1 0 (r3 - 1)) (some (fX1_isIn x1 0 (r3 - 1)))))))
theorem hyX1_isWay : yX1_isWay.cls ≠ "java/lang/invoke/MethodHandle" ∧ yX1_isWay.cls ≠ "java/lang/invoke/VarHandle" := by decide +kernel
theorem hlX1_isWay : (parseMethodDescriptor yX1_isWay.desc).map (fun d => d.parameters.length) = some 1 := by decide +kernel
set_option maxHeartbeats 4000000 in
set_option maxRecDepth 100000 in
theorem metX1_isWay (l : Launch) [NoTr l] (F : Nat) (D : va_G) (h0 : HS) (x0 : Nat) (x1 : Int32) (r : Int32) (hF : fX1_isWay F h0 x0 x1 = some r) : CMet l yX1_isWay (ws_ yX1_isWay cX1_isWay 2 (some .boolean)) 1 22 D [.ref x0, .int x1] h0 h0 (.inr (some (.int r))) := by
  refine CMet.ofW (by decide) ?_
  intro p e s m below meth c s₁ B S hX hM hr hlocks hnt hin
  obtain ⟨hx, hb, hml, hown, hts⟩ := id S
  have hl := lv_entry ([.ref x0, .int x1]) (n := 2) (Nat.le_of_ble_eq_true rfl)
  rw [lg_entry_eq]
  generalize (lg_sl ([.ref x0, .int x1]) ++ List.replicate (2 - (lg_sl ([.ref x0, .int x1])).length) Slot.unset).toArray = ls at hl ⊢
  have hl : lv_has ls 2 [(0, .ref x0), (1, .int x1)] := hl
  unfold fX1_isWay at hF
  refine lv_iload_n hx hb dX1_isWay_0 rfl (lv_at hl 1 rfl) ?_
  refine lv_iconst (v := 0) hx hb dX1_isWay_1 rfl ?_
  refine lv_aload_n hx hb dX1_isWay_2 rfl (lv_at hl 0 rfl) ?_
  obtain ⟨a1, ea1, hF⟩ := obn hF
  refine cgn S hX hM ea1 ck_1_1_3 q327 (fun _ h => h) dX1_isWay_3 ?_
  obtain ⟨a2, ea2, hF⟩ := obn hF
  refine cgnN S hX hM ea2 ck_2_2_6 (uq210 hX) dX1_isWay_6 ?_
  obtain ⟨z3, hF⟩ := gTe hF
  obtain ⟨r3, er3, hF⟩ := obn hF
  refine ccr (rest := [.int 0, .int x1]) (st1 := [.int r3, .int 0, .int x1]) S hX hM (metJ2_size l F D h0 a2 r3 er3) (ci_V (C := "java/util/ArrayList") (As := []) (rest := [.int 0, .int x1]) S q1149 q830 q831 q832 hyJ2_size (HI.cell (ci := 14) hX hM (by decide) (by omega)) hlJ2_size rfl dX1_isWay_9) q832 q107 (Nat.le_of_ble_eq_true rfl) (Nat.le_of_ble_eq_true rfl) hl.1 (Nat.le_of_ble_eq_true rfl) rfl (fun H locs cs ss hM => ?_)
  refine lv_iconst (v := 1) hx hb dX1_isWay_12 rfl ?_
  refine lv_isub hx hb dX1_isWay_13 ?_
  refine ccr (rest := []) (st1 := [.int (fX1_isIn x1 0 (r3 - 1))]) S hX hM (metX1_isIn l D h0 x1 0 (r3 - 1) _ rfl) (ci_S (As := [.int x1, .int 0, .int (r3 - 1)]) (rest := []) S q1150 q821 q103 q822 hyX1_isIn hlX1_isIn rfl dX1_isWay_14) q822 q103 (Nat.le_of_ble_eq_true rfl) (Nat.le_of_ble_eq_true rfl) hl.1 (Nat.le_of_ble_eq_true rfl) rfl (fun H locs cs ss hM => ?_)
  obtain ⟨z5, hF⟩ := gBe hF
  have hz := (Option.some.inj hF)
  subst hz
  exact crz S hM hr hlocks (gBn z5) dX1_isWay_17
def fX1_way (F : Nat) (h0 : HS) (x0 : Nat) (x1 : Int32) (x2 : Int32) : Option (Int32) := gT h0 x0 1 1 (((fX1_isWay F h0 x0 x1).bind fun r1 => (if r1 = 0 then (some (-1)) else ((fR h0 x0 1 1 3).bind fun a3 => ((fR h0 a3 2 2 6).bind fun a4 => gT h0 a4 15 15 (((fJ2_get F h0 a4 x1).bind fun r5 => gT h0 r5 10 10 (((oI h0 r5 10 10 3).bind fun v7 => (if (fX1_isIn x2 0 v7) = 0 then (some (-1)) else ((fR h0 x0 1 1 3).bind fun a10 => ((fR h0 a10 2 2 6).bind fun a11 => gT h0 a11 15 15 (((fJ2_get F h0 a11 x1).bind fun r12 => gT h0 r12 10 10 (((fR h0 r12 10 10 1).bind fun a14 => ((aI h0 a14 31 x2).bind fun v15 => some v15)))))))))))))))))
theorem hyX1_way : yX1_way.cls ≠ "java/lang/invoke/MethodHandle" ∧ yX1_way.cls ≠ "java/lang/invoke/VarHandle" := by decide +kernel
theorem hlX1_way : (parseMethodDescriptor yX1_way.desc).map (fun d => d.parameters.length) = some 2 := by decide +kernel
set_option maxHeartbeats 4000000 in
set_option maxRecDepth 100000 in
theorem metX1_way (l : Launch) [NoTr l] (F : Nat) (D : va_G) (h0 : HS) (x0 : Nat) (x1 : Int32) (x2 : Int32) (r : Int32) (hF : fX1_way F h0 x0 x1 x2 = some r) : CMet l yX1_way (ws_ yX1_way cX1_way 3 (some .int)) 3 64 D [.ref x0, .int x1, .int x2] h0 h0 (.inr (some (.int r))) := by
  refine CMet.ofW (by decide) ?_
  intro p e s m below meth c s₁ B S hX hM hr hlocks hnt hin
  obtain ⟨hx, hb, hml, hown, hts⟩ := id S
  have hl := lv_entry ([.ref x0, .int x1, .int x2]) (n := 3) (Nat.le_of_ble_eq_true rfl)
  rw [lg_entry_eq]
  generalize (lg_sl ([.ref x0, .int x1, .int x2]) ++ List.replicate (3 - (lg_sl ([.ref x0, .int x1, .int x2])).length) Slot.unset).toArray = ls at hl ⊢
  have hl : lv_has ls 3 [(0, .ref x0), (1, .int x1), (2, .int x2)] := hl
  unfold fX1_way at hF
  refine lv_aload_n hx hb dX1_way_0 rfl (lv_at hl 0 rfl) ?_
  refine lv_iload_n hx hb dX1_way_1 rfl (lv_at hl 1 rfl) ?_
  obtain ⟨z1, hF⟩ := gTe hF
  obtain ⟨r1, er1, hF⟩ := obn hF
  refine ccr (rest := []) (st1 := [.int r1]) S hX hM (metX1_isWay l F D h0 x0 x1 r1 er1) (ci_V (C := "RugReader") (As := [.int x1]) (rest := []) S q1145 q1147 qs15 q1148 hyX1_isWay (HI.cell (ci := 0) hX hM (by decide) (by omega)) hlX1_isWay rfl dX1_way_2) q1148 q103 (Nat.le_of_ble_eq_true rfl) (Nat.le_of_ble_eq_true rfl) hl.1 (Nat.le_of_ble_eq_true rfl) rfl (fun H locs cs ss hM => ?_)
  refine lv_if_eq (tgt := 55) hx hb dX1_way_5 (by decide) (fun c2 => ?_) (fun c2 => ?_)
  · have hF := ifp hF c2
    refine lv_iconst (v := (-1)) hx hb dX1_way_55 rfl ?_
    have hz := (Option.some.inj hF)
    subst hz
    exact cri S hM hr hlocks dX1_way_56
  · have hF := ifn hF c2
    refine lv_iload_n hx hb dX1_way_8 rfl (lv_at hl 2 rfl) ?_
    refine lv_iconst (v := 0) hx hb dX1_way_9 rfl ?_
    refine lv_aload_n hx hb dX1_way_10 rfl (lv_at hl 0 rfl) ?_
    obtain ⟨a3, ea3, hF⟩ := obn hF
    refine cgn S hX hM ea3 ck_1_1_3 q327 (fun _ h => h) dX1_way_11 ?_
    obtain ⟨a4, ea4, hF⟩ := obn hF
    refine cgnN S hX hM ea4 ck_2_2_6 (uq210 hX) dX1_way_14 ?_
    refine lv_iload_n hx hb dX1_way_17 rfl (lv_at hl 1 rfl) ?_
    obtain ⟨z5, hF⟩ := gTe hF
    obtain ⟨r5, er5, hF⟩ := obn hF
    refine ccr (rest := [.int 0, .int x2]) (st1 := [.ref r5, .int 0, .int x2]) S hX hM (metJ2_get l F D h0 a4 x1 r5 er5) (ci_V (C := "java/util/ArrayList") (As := [.int x1]) (rest := [.int 0, .int x2]) S q1151 q925 q926 q927 hyJ2_get (HI.cell (ci := 14) hX hM (by decide) (by omega)) hlJ2_get rfl dX1_way_18) q927 q107 (Nat.le_of_ble_eq_true rfl) (Nat.le_of_ble_eq_true rfl) hl.1 (Nat.le_of_ble_eq_true rfl) rfl (fun H locs cs ss hM => ?_)
    obtain ⟨z6, hF⟩ := gTe hF
    refine ccs (ci := 9) S hX hM (by decide) (by omega) q1152 dX1_way_21 ?_
    obtain ⟨v7, ev7, hF⟩ := obn hF
    refine cgiN S hX hM ev7 ck_10_10_3 (uq1077 hX) dX1_way_24 ?_
    refine ccr (rest := []) (st1 := [.int (fX1_isIn x2 0 v7)]) S hX hM (metX1_isIn l D h0 x2 0 v7 _ rfl) (ci_S (As := [.int x2, .int 0, .int v7]) (rest := []) S q1150 q821 q103 q822 hyX1_isIn hlX1_isIn rfl dX1_way_27) q822 q103 (Nat.le_of_ble_eq_true rfl) (Nat.le_of_ble_eq_true rfl) hl.1 (Nat.le_of_ble_eq_true rfl) rfl (fun H locs cs ss hM => ?_)
    refine lv_if_eq (tgt := 55) hx hb dX1_way_30 (by decide) (fun c9 => ?_) (fun c9 => ?_)
    · have hF := ifp hF c9
      refine lv_iconst (v := (-1)) hx hb dX1_way_55 rfl ?_
      have hz := (Option.some.inj hF)
      subst hz
      exact cri S hM hr hlocks dX1_way_56
    · have hF := ifn hF c9
      refine lv_aload_n hx hb dX1_way_33 rfl (lv_at hl 0 rfl) ?_
      obtain ⟨a10, ea10, hF⟩ := obn hF
      refine cgn S hX hM ea10 ck_1_1_3 q327 (fun _ h => h) dX1_way_34 ?_
      obtain ⟨a11, ea11, hF⟩ := obn hF
      refine cgnN S hX hM ea11 ck_2_2_6 (uq210 hX) dX1_way_37 ?_
      refine lv_iload_n hx hb dX1_way_40 rfl (lv_at hl 1 rfl) ?_
      obtain ⟨z12, hF⟩ := gTe hF
      obtain ⟨r12, er12, hF⟩ := obn hF
      refine ccr (rest := []) (st1 := [.ref r12]) S hX hM (metJ2_get l F D h0 a11 x1 r12 er12) (ci_V (C := "java/util/ArrayList") (As := [.int x1]) (rest := []) S q1151 q925 q926 q927 hyJ2_get (HI.cell (ci := 14) hX hM (by decide) (by omega)) hlJ2_get rfl dX1_way_41) q927 q107 (Nat.le_of_ble_eq_true rfl) (Nat.le_of_ble_eq_true rfl) hl.1 (Nat.le_of_ble_eq_true rfl) rfl (fun H locs cs ss hM => ?_)
      obtain ⟨z13, hF⟩ := gTe hF
      refine ccs (ci := 9) S hX hM (by decide) (by omega) q1152 dX1_way_44 ?_
      obtain ⟨a14, ea14, hF⟩ := obn hF
      refine cgnN S hX hM ea14 ck_10_10_1 (uq1071 hX) dX1_way_47 ?_
      refine lv_iload_n hx hb dX1_way_50 rfl (lv_at hl 2 rfl) ?_
      obtain ⟨v15, ev15, hF⟩ := obn hF
      refine cai S hX hM ev15 dX1_way_51 ?_
      refine lv_goto (tgt := 56) hx hb dX1_way_52 (by decide) ?_
      have hz := (Option.some.inj hF)
      subst hz
      exact cri S hM hr hlocks dX1_way_56
def fX1_isPerson (F : Nat) (h0 : HS) (x0 : Nat) (x1 : Int32) : Option (Int32) := ((fR h0 x0 1 1 3).bind fun a1 => ((fR h0 a1 2 2 5).bind fun a2 => gT h0 a2 15 15 (((fJ2_size F h0 a2).bind fun r3 => gB (fX1_isIn x1 0 (r3 - 1)) (some (fX1_isIn x1 0 (r3 - 1)))))))
theorem hyX1_isPerson : yX1_isPerson.cls ≠ "java/lang/invoke/MethodHandle" ∧ yX1_isPerson.cls ≠ "java/lang/invoke/VarHandle" := by decide +kernel
theorem hlX1_isPerson : (parseMethodDescriptor yX1_isPerson.desc).map (fun d => d.parameters.length) = some 1 := by decide +kernel
set_option maxHeartbeats 4000000 in
set_option maxRecDepth 100000 in
theorem metX1_isPerson (l : Launch) [NoTr l] (F : Nat) (D : va_G) (h0 : HS) (x0 : Nat) (x1 : Int32) (r : Int32) (hF : fX1_isPerson F h0 x0 x1 = some r) : CMet l yX1_isPerson (ws_ yX1_isPerson cX1_isPerson 2 (some .boolean)) 1 22 D [.ref x0, .int x1] h0 h0 (.inr (some (.int r))) := by
  refine CMet.ofW (by decide) ?_
  intro p e s m below meth c s₁ B S hX hM hr hlocks hnt hin
  obtain ⟨hx, hb, hml, hown, hts⟩ := id S
  have hl := lv_entry ([.ref x0, .int x1]) (n := 2) (Nat.le_of_ble_eq_true rfl)
  rw [lg_entry_eq]
  generalize (lg_sl ([.ref x0, .int x1]) ++ List.replicate (2 - (lg_sl ([.ref x0, .int x1])).length) Slot.unset).toArray = ls at hl ⊢
  have hl : lv_has ls 2 [(0, .ref x0), (1, .int x1)] := hl
  unfold fX1_isPerson at hF
  refine lv_iload_n hx hb dX1_isPerson_0 rfl (lv_at hl 1 rfl) ?_
  refine lv_iconst (v := 0) hx hb dX1_isPerson_1 rfl ?_
  refine lv_aload_n hx hb dX1_isPerson_2 rfl (lv_at hl 0 rfl) ?_
  obtain ⟨a1, ea1, hF⟩ := obn hF
  refine cgn S hX hM ea1 ck_1_1_3 q327 (fun _ h => h) dX1_isPerson_3 ?_
  obtain ⟨a2, ea2, hF⟩ := obn hF
  refine cgnN S hX hM ea2 ck_2_2_5 (uq204 hX) dX1_isPerson_6 ?_
  obtain ⟨z3, hF⟩ := gTe hF
  obtain ⟨r3, er3, hF⟩ := obn hF
  refine ccr (rest := [.int 0, .int x1]) (st1 := [.int r3, .int 0, .int x1]) S hX hM (metJ2_size l F D h0 a2 r3 er3) (ci_V (C := "java/util/ArrayList") (As := []) (rest := [.int 0, .int x1]) S q1149 q830 q831 q832 hyJ2_size (HI.cell (ci := 14) hX hM (by decide) (by omega)) hlJ2_size rfl dX1_isPerson_9) q832 q107 (Nat.le_of_ble_eq_true rfl) (Nat.le_of_ble_eq_true rfl) hl.1 (Nat.le_of_ble_eq_true rfl) rfl (fun H locs cs ss hM => ?_)
  refine lv_iconst (v := 1) hx hb dX1_isPerson_12 rfl ?_
  refine lv_isub hx hb dX1_isPerson_13 ?_
  refine ccr (rest := []) (st1 := [.int (fX1_isIn x1 0 (r3 - 1))]) S hX hM (metX1_isIn l D h0 x1 0 (r3 - 1) _ rfl) (ci_S (As := [.int x1, .int 0, .int (r3 - 1)]) (rest := []) S q1150 q821 q103 q822 hyX1_isIn hlX1_isIn rfl dX1_isPerson_14) q822 q103 (Nat.le_of_ble_eq_true rfl) (Nat.le_of_ble_eq_true rfl) hl.1 (Nat.le_of_ble_eq_true rfl) rfl (fun H locs cs ss hM => ?_)
  obtain ⟨z5, hF⟩ := gBe hF
  have hz := (Option.some.inj hF)
  subst hz
  exact crz S hM hr hlocks (gBn z5) dX1_isPerson_17
def fX3_copy (F : Nat) (h0 : HS) (x0 : Nat) (x1 : Nat) : Option (HS) := ((aL h0 x1 31 31).bind fun v1 => ((xC h0 x0 x1 31 0 0 v1).bind fun σ2 => some σ2))
theorem hyX3_copy : yX3_copy.cls ≠ "java/lang/invoke/MethodHandle" ∧ yX3_copy.cls ≠ "java/lang/invoke/VarHandle" := by decide +kernel
theorem hlX3_copy : (parseMethodDescriptor yX3_copy.desc).map (fun d => d.parameters.length) = some 2 := by decide +kernel
set_option maxHeartbeats 4000000 in
set_option maxRecDepth 100000 in
theorem metX3_copy (l : Launch) [NoTr l] (F : Nat) (D : va_G) (h0 : HS) (x0 : Nat) (x1 : Nat) (r : HS) (hF : fX3_copy F h0 x0 x1 = some r) : CMet l yX3_copy (ws_ yX3_copy cX3_copy 2 none) 1 60 D [.ref x0, .ref x1] h0 r (.inr none) := by
  refine CMet.ofW (by decide) ?_
  intro p e s m below meth c s₁ B S hX hM hr hlocks hnt hin
  obtain ⟨hx, hb, hml, hown, hts⟩ := id S
  have hl := lv_entry ([.ref x0, .ref x1]) (n := 2) (Nat.le_of_ble_eq_true rfl)
  rw [lg_entry_eq]
  generalize (lg_sl ([.ref x0, .ref x1]) ++ List.replicate (2 - (lg_sl ([.ref x0, .ref x1])).length) Slot.unset).toArray = ls at hl ⊢
  have hl : lv_has ls 2 [(0, .ref x0), (1, .ref x1)] := hl
  unfold fX3_copy at hF
  refine lv_aload_n hx hb dX3_copy_0 rfl (lv_at hl 0 rfl) ?_
  refine lv_iconst (v := 0) hx hb dX3_copy_1 rfl ?_
  refine lv_aload_n hx hb dX3_copy_2 rfl (lv_at hl 1 rfl) ?_
  refine lv_iconst (v := 0) hx hb dX3_copy_3 rfl ?_
  refine lv_aload_n hx hb dX3_copy_4 rfl (lv_at hl 1 rfl) ?_
  obtain ⟨v1, ev1, hF⟩ := obn hF
  refine cal S hX hM ev1 (by decide) (by decide) dX3_copy_5 ?_
  obtain ⟨σ2, eσ2, hF⟩ := obn hF
  refine ccopyi S hX hM eσ2 q1172 q590 q589 q120 (Nat.le_of_ble_eq_true rfl) (Nat.le_of_ble_eq_true rfl) hl.1 dX3_copy_6 (fun H locs hM => ?_)
  have hz := (Option.some.inj hF)
  subst hz
  exact crv S hM hr hlocks dX3_copy_9
def lX3_as_27 (F : Nat) : Nat → HS → Nat → Nat → Int32 → Int32 → Option (HS)
  | 0, _, _, _, _, _ => none
  | n + 1, σ, y0, y1, y2, y3 => (if 6 ≤ y3 then (some σ) else ((fR σ y1 3 3 2).bind fun a7 => ((fA σ a7 35 y2).bind fun a8 => ((fA σ a8 34 y3).bind fun a9 => ((fR σ y0 3 3 2).bind fun a10 => ((fA σ a10 35 y2).bind fun a11 => ((fA σ a11 34 y3).bind fun a12 => ((fX3_copy F σ a9 a12).bind fun r13 => ((fR r13 y1 3 3 3).bind fun a14 => ((fA r13 a14 35 y2).bind fun a15 => ((fA r13 a15 34 y3).bind fun a16 => ((fR r13 y0 3 3 3).bind fun a17 => ((fA r13 a17 35 y2).bind fun a18 => ((fA r13 a18 34 y3).bind fun a19 => ((fX3_copy F r13 a16 a19).bind fun r20 => lX3_as_27 F n r20 y0 y1 y2 (y3 + 1))))))))))))))))
def lX3_as_18 (F : Nat) : Nat → HS → Nat → Nat → Int32 → Option (HS)
  | 0, _, _, _, _ => none
  | n + 1, σ, y0, y1, y2 => (if 144 ≤ y2 then (some σ) else ((lX3_as_27 F F σ y0 y1 y2 0).bind fun q21 => lX3_as_18 F n q21 y0 y1 (y2 + 1)))
def fX3_as (F : Nat) (h0 : HS) (x0 : Nat) (x1 : Nat) : Option (Nat × HS) := ((oR h0 x1 3 3 0).bind fun o1 => ((pR h0 x0 3 3 0 o1).bind fun σ2 => ((oI σ2 x1 3 3 1).bind fun v3 => ((pI σ2 x0 3 3 1 v3).bind fun σ4 => ((lX3_as_18 F F σ4 x0 x1 0).bind fun q22 => ((fR q22 x1 3 3 4).bind fun a23 => ((fR q22 x0 3 3 4).bind fun a24 => ((fX3_copy F q22 a23 a24).bind fun r25 => ((fR r25 x1 3 3 5).bind fun a26 => ((fR r25 x0 3 3 5).bind fun a27 => ((fX3_copy F r25 a26 a27).bind fun r28 => ((fR r28 x1 3 3 6).bind fun a29 => ((fR r28 x0 3 3 6).bind fun a30 => ((fX3_copy F r28 a29 a30).bind fun r31 => ((fR r31 x1 3 3 7).bind fun a32 => ((fR r31 x0 3 3 7).bind fun a33 => ((fX3_copy F r31 a32 a33).bind fun r34 => ((fR r34 x1 3 3 8).bind fun a35 => ((fR r34 x0 3 3 8).bind fun a36 => ((fX3_copy F r34 a35 a36).bind fun r37 => some (x0, r37)))))))))))))))))))))
theorem hyX3_as : yX3_as.cls ≠ "java/lang/invoke/MethodHandle" ∧ yX3_as.cls ≠ "java/lang/invoke/VarHandle" := by decide +kernel
theorem hlX3_as : (parseMethodDescriptor yX3_as.desc).map (fun d => d.parameters.length) = some 1 := by decide +kernel
set_option maxHeartbeats 4000000 in
set_option maxRecDepth 100000 in
theorem wlX3_as_27 {p : Program} {l : Launch} [NoTr l] {e : Env} {s : State} {m : MethodId} {args : Array Value} {below : List Frame} {meth : Method} {c : Code} {D : va_G} {h0 : HS} (S : CallFix p m c cX3_as 4 s args lw_all RX3) (hX : CX D (kG h0) s) (F : Nat) {Q : State → Prop} : ∀ (n : Nat) (σ : HS) (y0 : Nat) (y1 : Nat) (y2 : Int32) (y3 : Int32) (out : HS), lX3_as_27 F n σ y0 y1 y2 y3 = some out → (∀ (H : Heap) (locs : List Loc) (cs ss : Nat) (ls : Array Slot), HI D h0 out s.heap H locs cs ss → lv_has ls 4 [(0, .ref y0), (1, .ref y1), (2, .int y2)] → W p l e (cR 2 81 h0) s m args below meth c H locs cs ss Q (F0 m 77 ls [])) → ∀ (H : Heap) (locs : List Loc) (cs ss : Nat) (ls : Array Slot), HI D h0 σ s.heap H locs cs ss → lv_has ls 4 [(0, .ref y0), (1, .ref y1), (2, .int y2), (3, .int y3)] → W p l e (cR 2 81 h0) s m args below meth c H locs cs ss Q (F0 m 27 ls []) := by
  intro n
  induction n with
  | zero =>
    intro σ y0 y1 y2 y3 out hF
    cases (show (none : Option _) = some out from hF)
  | succ n ih =>
    intro σ y0 y1 y2 y3 out hF hk H locs cs ss ls hM hl
    rw [lX3_as_27] at hF
    obtain ⟨hx, hb, hml, hown, hts⟩ := id S
    refine lv_iload_n hx hb dX3_as_27 rfl (lv_at hl 3 rfl) ?_
    refine lv_bipush (v := 6) hx hb dX3_as_28 rfl ?_
    refine lv_icmp_ge (tgt := 77) hx hb dX3_as_30 (by decide) (fun c6 => ?_) (fun c6 => ?_)
    · have hF := ifp hF c6
      cases hF
      exact hk _ _ _ _ _ hM (lv_sub hl [0, 1, 2] rfl)
    · have hF := ifn hF c6
      refine lv_aload_n hx hb dX3_as_33 rfl (lv_at hl 1 rfl) ?_
      obtain ⟨a7, ea7, hF⟩ := obn hF
      refine cgn S hX hM ea7 ck_3_3_2 q257 (fun _ h => h) dX3_as_34 ?_
      refine lv_iload_n hx hb dX3_as_37 rfl (lv_at hl 2 rfl) ?_
      obtain ⟨a8, ea8, hF⟩ := obn hF
      refine can35 S hX hM ea8 dX3_as_38 ?_
      refine lv_iload_n hx hb dX3_as_39 rfl (lv_at hl 3 rfl) ?_
      obtain ⟨a9, ea9, hF⟩ := obn hF
      refine can34 S hX hM ea9 dX3_as_40 ?_
      refine lv_aload_n hx hb dX3_as_41 rfl (lv_at hl 0 rfl) ?_
      obtain ⟨a10, ea10, hF⟩ := obn hF
      refine cgn S hX hM ea10 ck_3_3_2 q257 (fun _ h => h) dX3_as_42 ?_
      refine lv_iload_n hx hb dX3_as_45 rfl (lv_at hl 2 rfl) ?_
      obtain ⟨a11, ea11, hF⟩ := obn hF
      refine can35 S hX hM ea11 dX3_as_46 ?_
      refine lv_iload_n hx hb dX3_as_47 rfl (lv_at hl 3 rfl) ?_
      obtain ⟨a12, ea12, hF⟩ := obn hF
      refine can34 S hX hM ea12 dX3_as_48 ?_
      obtain ⟨r13, er13, hF⟩ := obn hF
      refine ccr (rest := []) (st1 := []) S hX hM (metX3_copy l F D σ a9 a12 r13 er13) (ci_S (As := [.ref a9, .ref a12]) (rest := []) S q1169 q1170 q108 q1171 hyX3_copy hlX3_copy rfl dX3_as_49) q1171 q108 (Nat.le_of_ble_eq_true rfl) (Nat.le_of_ble_eq_true rfl) hl.1 (Nat.le_of_ble_eq_true rfl) rfl (fun H locs cs ss hM => ?_)
      refine lv_aload_n hx hb dX3_as_52 rfl (lv_at hl 1 rfl) ?_
      obtain ⟨a14, ea14, hF⟩ := obn hF
      refine cgn S hX hM ea14 ck_3_3_3 q258 (fun _ h => h) dX3_as_53 ?_
      refine lv_iload_n hx hb dX3_as_56 rfl (lv_at hl 2 rfl) ?_
      obtain ⟨a15, ea15, hF⟩ := obn hF
      refine can35 S hX hM ea15 dX3_as_57 ?_
      refine lv_iload_n hx hb dX3_as_58 rfl (lv_at hl 3 rfl) ?_
      obtain ⟨a16, ea16, hF⟩ := obn hF
      refine can34 S hX hM ea16 dX3_as_59 ?_
      refine lv_aload_n hx hb dX3_as_60 rfl (lv_at hl 0 rfl) ?_
      obtain ⟨a17, ea17, hF⟩ := obn hF
      refine cgn S hX hM ea17 ck_3_3_3 q258 (fun _ h => h) dX3_as_61 ?_
      refine lv_iload_n hx hb dX3_as_64 rfl (lv_at hl 2 rfl) ?_
      obtain ⟨a18, ea18, hF⟩ := obn hF
      refine can35 S hX hM ea18 dX3_as_65 ?_
      refine lv_iload_n hx hb dX3_as_66 rfl (lv_at hl 3 rfl) ?_
      obtain ⟨a19, ea19, hF⟩ := obn hF
      refine can34 S hX hM ea19 dX3_as_67 ?_
      obtain ⟨r20, er20, hF⟩ := obn hF
      refine ccr (rest := []) (st1 := []) S hX hM (metX3_copy l F D r13 a16 a19 r20 er20) (ci_S (As := [.ref a16, .ref a19]) (rest := []) S q1169 q1170 q108 q1171 hyX3_copy hlX3_copy rfl dX3_as_68) q1171 q108 (Nat.le_of_ble_eq_true rfl) (Nat.le_of_ble_eq_true rfl) hl.1 (Nat.le_of_ble_eq_true rfl) rfl (fun H locs cs ss hM => ?_)
      refine lv_iinc (v := y3 + 1) (lv' := [(3, .int (y3 + 1)), (0, .ref y0), (1, .ref y1), (2, .int y2)]) hx hb dX3_as_71 hl (k := 3) rfl rfl (by decide) rfl (fun ls hl => ?_)
      refine lv_goto (tgt := 27) hx hb dX3_as_74 (by decide) ?_
      exact ih _ _ _ _ _ out hF hk _ _ _ _ _ hM (lv_sub hl [1, 2, 3, 0] rfl)
set_option maxHeartbeats 4000000 in
set_option maxRecDepth 100000 in
theorem wlX3_as_18 {p : Program} {l : Launch} [NoTr l] {e : Env} {s : State} {m : MethodId} {args : Array Value} {below : List Frame} {meth : Method} {c : Code} {D : va_G} {h0 : HS} (S : CallFix p m c cX3_as 4 s args lw_all RX3) (hX : CX D (kG h0) s) (F : Nat) {Q : State → Prop} : ∀ (n : Nat) (σ : HS) (y0 : Nat) (y1 : Nat) (y2 : Int32) (out : HS), lX3_as_18 F n σ y0 y1 y2 = some out → (∀ (H : Heap) (locs : List Loc) (cs ss : Nat) (ls : Array Slot), HI D h0 out s.heap H locs cs ss → lv_has ls 4 [(0, .ref y0), (1, .ref y1)] → W p l e (cR 2 81 h0) s m args below meth c H locs cs ss Q (F0 m 83 ls [])) → ∀ (H : Heap) (locs : List Loc) (cs ss : Nat) (ls : Array Slot), HI D h0 σ s.heap H locs cs ss → lv_has ls 4 [(0, .ref y0), (1, .ref y1), (2, .int y2)] → W p l e (cR 2 81 h0) s m args below meth c H locs cs ss Q (F0 m 18 ls []) := by
  intro n
  induction n with
  | zero =>
    intro σ y0 y1 y2 out hF
    cases (show (none : Option _) = some out from hF)
  | succ n ih =>
    intro σ y0 y1 y2 out hF hk H locs cs ss ls hM hl
    rw [lX3_as_18] at hF
    obtain ⟨hx, hb, hml, hown, hts⟩ := id S
    refine lv_iload_n hx hb dX3_as_18 rfl (lv_at hl 2 rfl) ?_
    refine lv_sipush (v := 144) hx hb dX3_as_19 rfl ?_
    refine lv_icmp_ge (tgt := 83) hx hb dX3_as_22 (by decide) (fun c5 => ?_) (fun c5 => ?_)
    · have hF := ifp hF c5
      cases hF
      exact hk _ _ _ _ _ hM (lv_sub hl [0, 1] rfl)
    · have hF := ifn hF c5
      refine lv_iconst (v := 0) hx hb dX3_as_25 rfl ?_
      refine lv_istore_n (lv' := [(3, .int 0), (0, .ref y0), (1, .ref y1), (2, .int y2)]) hx hb dX3_as_26 rfl hl (by decide) rfl (fun ls hl => ?_)
      obtain ⟨q21, hq21, hF⟩ := obn hF
      refine wlX3_as_27 S hX F  F _ _ _ _ _ q21 hq21 (fun H locs cs ss ls hM hl => ?_) _ _ _ _ _ hM (lv_sub hl [1, 2, 3, 0] rfl)
      refine lv_iinc (v := y2 + 1) (lv' := [(2, .int (y2 + 1)), (0, .ref y0), (1, .ref y1)]) hx hb dX3_as_77 hl (k := 2) rfl rfl (by decide) rfl (fun ls hl => ?_)
      refine lv_goto (tgt := 18) hx hb dX3_as_80 (by decide) ?_
      exact ih _ _ _ _ out hF hk _ _ _ _ _ hM (lv_sub hl [1, 2, 0] rfl)
set_option maxHeartbeats 4000000 in
set_option maxRecDepth 100000 in
theorem metX3_as (l : Launch) [NoTr l] (F : Nat) (D : va_G) (h0 : HS) (x0 : Nat) (x1 : Nat) (r : Nat × HS) (hF : fX3_as F h0 x0 x1 = some r) : CMet l yX3_as (ws_ yX3_as cX3_as 4 (some (.object "RugReader$Rug"))) 2 81 D [.ref x0, .ref x1] h0 r.2 (.inr (some (.ref r.1))) := by
  refine CMet.ofW (by decide) ?_
  intro p e s m below meth c s₁ B S hX hM hr hlocks hnt hin
  obtain ⟨hx, hb, hml, hown, hts⟩ := id S
  have hl := lv_entry ([.ref x0, .ref x1]) (n := 4) (Nat.le_of_ble_eq_true rfl)
  rw [lg_entry_eq]
  generalize (lg_sl ([.ref x0, .ref x1]) ++ List.replicate (4 - (lg_sl ([.ref x0, .ref x1])).length) Slot.unset).toArray = ls at hl ⊢
  have hl : lv_has ls 4 [(0, .ref x0), (1, .ref x1)] := hl
  unfold fX3_as at hF
  refine lv_aload_n hx hb dX3_as_0 rfl (lv_at hl 0 rfl) ?_
  refine lv_aload_n hx hb dX3_as_1 rfl (lv_at hl 1 rfl) ?_
  obtain ⟨o1, eo1, hF⟩ := obn hF
  refine cgr S hX hM eo1 ck_3_3_0 q253 (fun _ h => h) dX3_as_2 ?_
  obtain ⟨σ2, eσ2, hF⟩ := obn hF
  refine cpr (v := o1) S hX hM eσ2 ck_3_3_0 cw_3_3_0 rfl q253 (fun _ h => h) dX3_as_5 (fun H locs hM => ?_)
  refine lv_aload_n hx hb dX3_as_8 rfl (lv_at hl 0 rfl) ?_
  refine lv_aload_n hx hb dX3_as_9 rfl (lv_at hl 1 rfl) ?_
  obtain ⟨v3, ev3, hF⟩ := obn hF
  refine cgi S hX hM ev3 ck_3_3_1 q255 (fun _ h => h) dX3_as_10 ?_
  obtain ⟨σ4, eσ4, hF⟩ := obn hF
  refine cpi S hX hM eσ4 ck_3_3_1 cw_3_3_1 rfl rfl q255 (fun _ h => h) dX3_as_13 (fun H locs hM => ?_)
  refine lv_iconst (v := 0) hx hb dX3_as_16 rfl ?_
  refine lv_istore_n (lv' := [(2, .int 0), (0, .ref x0), (1, .ref x1)]) hx hb dX3_as_17 rfl hl (by decide) rfl (fun ls hl => ?_)
  obtain ⟨q22, hq22, hF⟩ := obn hF
  refine wlX3_as_18 S hX F  F _ _ _ _ q22 hq22 (fun H locs cs ss ls hM hl => ?_) _ _ _ _ _ hM (lv_sub hl [1, 2, 0] rfl)
  refine lv_aload_n hx hb dX3_as_83 rfl (lv_at hl 1 rfl) ?_
  obtain ⟨a23, ea23, hF⟩ := obn hF
  refine cgn S hX hM ea23 ck_3_3_4 q259 (fun _ h => h) dX3_as_84 ?_
  refine lv_aload_n hx hb dX3_as_87 rfl (lv_at hl 0 rfl) ?_
  obtain ⟨a24, ea24, hF⟩ := obn hF
  refine cgn S hX hM ea24 ck_3_3_4 q259 (fun _ h => h) dX3_as_88 ?_
  obtain ⟨r25, er25, hF⟩ := obn hF
  refine ccr (rest := []) (st1 := []) S hX hM (metX3_copy l F D q22 a23 a24 r25 er25) (ci_S (As := [.ref a23, .ref a24]) (rest := []) S q1169 q1170 q108 q1171 hyX3_copy hlX3_copy rfl dX3_as_91) q1171 q108 (Nat.le_of_ble_eq_true rfl) (Nat.le_of_ble_eq_true rfl) hl.1 (Nat.le_of_ble_eq_true rfl) rfl (fun H locs cs ss hM => ?_)
  refine lv_aload_n hx hb dX3_as_94 rfl (lv_at hl 1 rfl) ?_
  obtain ⟨a26, ea26, hF⟩ := obn hF
  refine cgn S hX hM ea26 ck_3_3_5 q261 (fun _ h => h) dX3_as_95 ?_
  refine lv_aload_n hx hb dX3_as_98 rfl (lv_at hl 0 rfl) ?_
  obtain ⟨a27, ea27, hF⟩ := obn hF
  refine cgn S hX hM ea27 ck_3_3_5 q261 (fun _ h => h) dX3_as_99 ?_
  obtain ⟨r28, er28, hF⟩ := obn hF
  refine ccr (rest := []) (st1 := []) S hX hM (metX3_copy l F D r25 a26 a27 r28 er28) (ci_S (As := [.ref a26, .ref a27]) (rest := []) S q1169 q1170 q108 q1171 hyX3_copy hlX3_copy rfl dX3_as_102) q1171 q108 (Nat.le_of_ble_eq_true rfl) (Nat.le_of_ble_eq_true rfl) hl.1 (Nat.le_of_ble_eq_true rfl) rfl (fun H locs cs ss hM => ?_)
  refine lv_aload_n hx hb dX3_as_105 rfl (lv_at hl 1 rfl) ?_
  obtain ⟨a29, ea29, hF⟩ := obn hF
  refine cgn S hX hM ea29 ck_3_3_6 q263 (fun _ h => h) dX3_as_106 ?_
  refine lv_aload_n hx hb dX3_as_109 rfl (lv_at hl 0 rfl) ?_
  obtain ⟨a30, ea30, hF⟩ := obn hF
  refine cgn S hX hM ea30 ck_3_3_6 q263 (fun _ h => h) dX3_as_110 ?_
  obtain ⟨r31, er31, hF⟩ := obn hF
  refine ccr (rest := []) (st1 := []) S hX hM (metX3_copy l F D r28 a29 a30 r31 er31) (ci_S (As := [.ref a29, .ref a30]) (rest := []) S q1169 q1170 q108 q1171 hyX3_copy hlX3_copy rfl dX3_as_113) q1171 q108 (Nat.le_of_ble_eq_true rfl) (Nat.le_of_ble_eq_true rfl) hl.1 (Nat.le_of_ble_eq_true rfl) rfl (fun H locs cs ss hM => ?_)
  refine lv_aload_n hx hb dX3_as_116 rfl (lv_at hl 1 rfl) ?_
  obtain ⟨a32, ea32, hF⟩ := obn hF
  refine cgn S hX hM ea32 ck_3_3_7 q265 (fun _ h => h) dX3_as_117 ?_
  refine lv_aload_n hx hb dX3_as_120 rfl (lv_at hl 0 rfl) ?_
  obtain ⟨a33, ea33, hF⟩ := obn hF
  refine cgn S hX hM ea33 ck_3_3_7 q265 (fun _ h => h) dX3_as_121 ?_
  obtain ⟨r34, er34, hF⟩ := obn hF
  refine ccr (rest := []) (st1 := []) S hX hM (metX3_copy l F D r31 a32 a33 r34 er34) (ci_S (As := [.ref a32, .ref a33]) (rest := []) S q1169 q1170 q108 q1171 hyX3_copy hlX3_copy rfl dX3_as_124) q1171 q108 (Nat.le_of_ble_eq_true rfl) (Nat.le_of_ble_eq_true rfl) hl.1 (Nat.le_of_ble_eq_true rfl) rfl (fun H locs cs ss hM => ?_)
  refine lv_aload_n hx hb dX3_as_127 rfl (lv_at hl 1 rfl) ?_
  obtain ⟨a35, ea35, hF⟩ := obn hF
  refine cgn S hX hM ea35 ck_3_3_8 q267 (fun _ h => h) dX3_as_128 ?_
  refine lv_aload_n hx hb dX3_as_131 rfl (lv_at hl 0 rfl) ?_
  obtain ⟨a36, ea36, hF⟩ := obn hF
  refine cgn S hX hM ea36 ck_3_3_8 q267 (fun _ h => h) dX3_as_132 ?_
  obtain ⟨r37, er37, hF⟩ := obn hF
  refine ccr (rest := []) (st1 := []) S hX hM (metX3_copy l F D r34 a35 a36 r37 er37) (ci_S (As := [.ref a35, .ref a36]) (rest := []) S q1169 q1170 q108 q1171 hyX3_copy hlX3_copy rfl dX3_as_135) q1171 q108 (Nat.le_of_ble_eq_true rfl) (Nat.le_of_ble_eq_true rfl) hl.1 (Nat.le_of_ble_eq_true rfl) rfl (fun H locs cs ss hM => ?_)
  refine lv_aload_n hx hb dX3_as_138 rfl (lv_at hl 0 rfl) ?_
  have hz := (Option.some.inj hF)
  subst hz
  exact cra S hM hr (Or.inl ⟨_, rfl⟩) hlocks dX3_as_139
def lX1_snap_18 (F : Nat) : Nat → HS → Nat → Nat → Int32 → Option (HS)
  | 0, _, _, _, _ => none
  | n + 1, σ, y0, y1, y2 => (if 6 ≤ y2 then (some σ) else ((fR σ y0 1 1 6).bind fun a13 => ((fR σ y0 1 1 6).bind fun a14 => ((fA σ a14 36 y2).bind fun a15 => ((wR σ a13 36 (y2 - 1) (some a15)).bind fun σ16 => lX1_snap_18 F n σ16 y0 y1 (y2 + 1))))))
def fX1_snap (F : Nat) (h0 : HS) (x0 : Nat) : Option (HS) := ((oI h0 x0 1 1 7).bind fun v1 => (if v1 = 6 then ((fR h0 x0 1 1 6).bind fun a10 => ((fA h0 a10 36 0).bind fun a11 => ((lX1_snap_18 F F h0 x0 a11 1).bind fun q17 => ((fR q17 x0 1 1 6).bind fun a18 => ((wR q17 a18 36 5 (some a11)).bind fun σ19 => ((oI σ19 x0 1 1 7).bind fun v20 => ((pI σ19 x0 1 1 7 (v20 - 1)).bind fun σ21 => ((fR σ21 x0 1 1 6).bind fun a22 => ((oI σ21 x0 1 1 7).bind fun v23 => ((fA σ21 a22 36 v23).bind fun a24 => ((fR σ21 x0 1 1 4).bind fun a25 => gT σ21 a24 3 3 (((fX3_as F σ21 a24 a25).bind fun r26 => ((oI r26.2 x0 1 1 7).bind fun v27 => ((pI r26.2 x0 1 1 7 (v27 + 1)).bind fun σ28 => some σ28))))))))))))))) else ((fR h0 x0 1 1 6).bind fun a3 => ((oI h0 x0 1 1 7).bind fun v4 => ((fA h0 a3 36 v4).bind fun a5 => ((fR h0 x0 1 1 4).bind fun a6 => gT h0 a5 3 3 (((fX3_as F h0 a5 a6).bind fun r7 => ((oI r7.2 x0 1 1 7).bind fun v8 => ((pI r7.2 x0 1 1 7 (v8 + 1)).bind fun σ9 => some σ9))))))))))
theorem hyX1_snap : yX1_snap.cls ≠ "java/lang/invoke/MethodHandle" ∧ yX1_snap.cls ≠ "java/lang/invoke/VarHandle" := by decide +kernel
theorem hlX1_snap : (parseMethodDescriptor yX1_snap.desc).map (fun d => d.parameters.length) = some 0 := by decide +kernel
set_option maxHeartbeats 4000000 in
set_option maxRecDepth 100000 in
theorem wlX1_snap_18 {p : Program} {l : Launch} [NoTr l] {e : Env} {s : State} {m : MethodId} {args : Array Value} {below : List Frame} {meth : Method} {c : Code} {D : va_G} {h0 : HS} (S : CallFix p m c cX1_snap 3 s args lw_all RX1) (hX : CX D (kG h0) s) (F : Nat) {Q : State → Prop} : ∀ (n : Nat) (σ : HS) (y0 : Nat) (y1 : Nat) (y2 : Int32) (out : HS), lX1_snap_18 F n σ y0 y1 y2 = some out → (∀ (H : Heap) (locs : List Loc) (cs ss : Nat) (ls : Array Slot), HI D h0 out s.heap H locs cs ss → lv_has ls 3 [(0, .ref y0), (1, .ref y1)] → W p l e (cR 3 104 h0) s m args below meth c H locs cs ss Q (F0 m 44 ls [])) → ∀ (H : Heap) (locs : List Loc) (cs ss : Nat) (ls : Array Slot), HI D h0 σ s.heap H locs cs ss → lv_has ls 3 [(0, .ref y0), (1, .ref y1), (2, .int y2)] → W p l e (cR 3 104 h0) s m args below meth c H locs cs ss Q (F0 m 18 ls []) := by
  intro n
  induction n with
  | zero =>
    intro σ y0 y1 y2 out hF
    cases (show (none : Option _) = some out from hF)
  | succ n ih =>
    intro σ y0 y1 y2 out hF hk H locs cs ss ls hM hl
    rw [lX1_snap_18] at hF
    obtain ⟨hx, hb, hml, hown, hts⟩ := id S
    refine lv_iload_n hx hb dX1_snap_18 rfl (lv_at hl 2 rfl) ?_
    refine lv_bipush (v := 6) hx hb dX1_snap_19 rfl ?_
    refine lv_icmp_ge (tgt := 44) hx hb dX1_snap_21 (by decide) (fun c12 => ?_) (fun c12 => ?_)
    · have hF := ifp hF c12
      cases hF
      exact hk _ _ _ _ _ hM (lv_sub hl [0, 1] rfl)
    · have hF := ifn hF c12
      refine lv_aload_n hx hb dX1_snap_24 rfl (lv_at hl 0 rfl) ?_
      obtain ⟨a13, ea13, hF⟩ := obn hF
      refine cgn S hX hM ea13 ck_1_1_6 q330 (fun _ h => h) dX1_snap_25 ?_
      refine lv_iload_n hx hb dX1_snap_28 rfl (lv_at hl 2 rfl) ?_
      refine lv_iconst (v := 1) hx hb dX1_snap_29 rfl ?_
      refine lv_isub hx hb dX1_snap_30 ?_
      refine lv_aload_n hx hb dX1_snap_31 rfl (lv_at hl 0 rfl) ?_
      obtain ⟨a14, ea14, hF⟩ := obn hF
      refine cgn S hX hM ea14 ck_1_1_6 q330 (fun _ h => h) dX1_snap_32 ?_
      refine lv_iload_n hx hb dX1_snap_35 rfl (lv_at hl 2 rfl) ?_
      obtain ⟨a15, ea15, hF⟩ := obn hF
      refine can36 S hX hM ea15 dX1_snap_36 ?_
      obtain ⟨σ16, eσ16, hF⟩ := obn hF
      refine cwr36 S hX hM eσ16 dX1_snap_37 (fun H locs hM => ?_)
      refine lv_iinc (v := y2 + 1) (lv' := [(2, .int (y2 + 1)), (0, .ref y0), (1, .ref y1)]) hx hb dX1_snap_38 hl (k := 2) rfl rfl (by decide) rfl (fun ls hl => ?_)
      refine lv_goto (tgt := 18) hx hb dX1_snap_41 (by decide) ?_
      exact ih _ _ _ _ out hF hk _ _ _ _ _ hM (lv_sub hl [1, 2, 0] rfl)
set_option maxHeartbeats 4000000 in
set_option maxRecDepth 100000 in
theorem metX1_snap (l : Launch) [NoTr l] (F : Nat) (D : va_G) (h0 : HS) (x0 : Nat) (r : HS) (hF : fX1_snap F h0 x0 = some r) : CMet l yX1_snap (ws_ yX1_snap cX1_snap 3 none) 3 104 D [.ref x0] h0 r (.inr none) := by
  refine CMet.ofW (by decide) ?_
  intro p e s m below meth c s₁ B S hX hM hr hlocks hnt hin
  obtain ⟨hx, hb, hml, hown, hts⟩ := id S
  have hl := lv_entry ([.ref x0]) (n := 3) (Nat.le_of_ble_eq_true rfl)
  rw [lg_entry_eq]
  generalize (lg_sl ([.ref x0]) ++ List.replicate (3 - (lg_sl ([.ref x0])).length) Slot.unset).toArray = ls at hl ⊢
  have hl : lv_has ls 3 [(0, .ref x0)] := hl
  unfold fX1_snap at hF
  refine lv_aload_n hx hb dX1_snap_0 rfl (lv_at hl 0 rfl) ?_
  obtain ⟨v1, ev1, hF⟩ := obn hF
  refine cgi S hX hM ev1 ck_1_1_7 q331 (fun _ h => h) dX1_snap_1 ?_
  refine lv_bipush (v := 6) hx hb dX1_snap_4 rfl ?_
  refine lv_icmp_ne (tgt := 61) hx hb dX1_snap_6 (by decide) (fun c2 => ?_) (fun c2 => ?_)
  · have hF := ifn hF c2
    refine lv_aload_n hx hb dX1_snap_61 rfl (lv_at hl 0 rfl) ?_
    obtain ⟨a3, ea3, hF⟩ := obn hF
    refine cgn S hX hM ea3 ck_1_1_6 q330 (fun _ h => h) dX1_snap_62 ?_
    refine lv_aload_n hx hb dX1_snap_65 rfl (lv_at hl 0 rfl) ?_
    obtain ⟨v4, ev4, hF⟩ := obn hF
    refine cgi S hX hM ev4 ck_1_1_7 q331 (fun _ h => h) dX1_snap_66 ?_
    obtain ⟨a5, ea5, hF⟩ := obn hF
    refine can36 S hX hM ea5 dX1_snap_69 ?_
    refine lv_aload_n hx hb dX1_snap_70 rfl (lv_at hl 0 rfl) ?_
    obtain ⟨a6, ea6, hF⟩ := obn hF
    refine cgn S hX hM ea6 ck_1_1_4 q328 (fun _ h => h) dX1_snap_71 ?_
    obtain ⟨z7, hF⟩ := gTe hF
    obtain ⟨r7, er7, hF⟩ := obn hF
    refine ccr (rest := []) (st1 := [.ref r7.1]) S hX hM (metX3_as l F D h0 a5 a6 r7 er7) (ci_V (C := "RugReader$Rug") (As := [.ref a6]) (rest := []) S q1165 q1166 q1167 q1168 hyX3_as (HI.cell (ci := 2) hX hM (by decide) (by omega)) hlX3_as rfl dX1_snap_74) q1168 q108 (Nat.le_of_ble_eq_true rfl) (Nat.le_of_ble_eq_true rfl) hl.1 (Nat.le_of_ble_eq_true rfl) rfl (fun H locs cs ss hM => ?_)
    refine lv_pop hx hb dX1_snap_77 rfl ?_
    refine lv_aload_n hx hb dX1_snap_78 rfl (lv_at hl 0 rfl) ?_
    refine lv_dup hx hb dX1_snap_79 rfl ?_
    obtain ⟨v8, ev8, hF⟩ := obn hF
    refine cgi S hX hM ev8 ck_1_1_7 q331 (fun _ h => h) dX1_snap_80 ?_
    refine lv_iconst (v := 1) hx hb dX1_snap_83 rfl ?_
    refine lv_iadd hx hb dX1_snap_84 ?_
    obtain ⟨σ9, eσ9, hF⟩ := obn hF
    refine cpi S hX hM eσ9 ck_1_1_7 cw_1_1_7 rfl rfl q331 (fun _ h => h) dX1_snap_85 (fun H locs hM => ?_)
    have hz := (Option.some.inj hF)
    subst hz
    exact crv S hM hr hlocks dX1_snap_88
  · have hF := ifp hF c2
    refine lv_aload_n hx hb dX1_snap_9 rfl (lv_at hl 0 rfl) ?_
    obtain ⟨a10, ea10, hF⟩ := obn hF
    refine cgn S hX hM ea10 ck_1_1_6 q330 (fun _ h => h) dX1_snap_10 ?_
    refine lv_iconst (v := 0) hx hb dX1_snap_13 rfl ?_
    obtain ⟨a11, ea11, hF⟩ := obn hF
    refine can36 S hX hM ea11 dX1_snap_14 ?_
    refine lv_astore_n (lv' := [(1, .ref a11), (0, .ref x0)]) hx hb dX1_snap_15 rfl hl (by decide) rfl (fun ls hl => ?_)
    refine lv_iconst (v := 1) hx hb dX1_snap_16 rfl ?_
    refine lv_istore_n (lv' := [(2, .int 1), (1, .ref a11), (0, .ref x0)]) hx hb dX1_snap_17 rfl hl (by decide) rfl (fun ls hl => ?_)
    obtain ⟨q17, hq17, hF⟩ := obn hF
    refine wlX1_snap_18 S hX F  F _ _ _ _ q17 hq17 (fun H locs cs ss ls hM hl => ?_) _ _ _ _ _ hM (lv_sub hl [2, 1, 0] rfl)
    refine lv_aload_n hx hb dX1_snap_44 rfl (lv_at hl 0 rfl) ?_
    obtain ⟨a18, ea18, hF⟩ := obn hF
    refine cgn S hX hM ea18 ck_1_1_6 q330 (fun _ h => h) dX1_snap_45 ?_
    refine lv_iconst (v := 5) hx hb dX1_snap_48 rfl ?_
    refine lv_aload_n hx hb dX1_snap_49 rfl (lv_at hl 1 rfl) ?_
    obtain ⟨σ19, eσ19, hF⟩ := obn hF
    refine cwr36 S hX hM eσ19 dX1_snap_50 (fun H locs hM => ?_)
    refine lv_aload_n hx hb dX1_snap_51 rfl (lv_at hl 0 rfl) ?_
    refine lv_dup hx hb dX1_snap_52 rfl ?_
    obtain ⟨v20, ev20, hF⟩ := obn hF
    refine cgi S hX hM ev20 ck_1_1_7 q331 (fun _ h => h) dX1_snap_53 ?_
    refine lv_iconst (v := 1) hx hb dX1_snap_56 rfl ?_
    refine lv_isub hx hb dX1_snap_57 ?_
    obtain ⟨σ21, eσ21, hF⟩ := obn hF
    refine cpi S hX hM eσ21 ck_1_1_7 cw_1_1_7 rfl rfl q331 (fun _ h => h) dX1_snap_58 (fun H locs hM => ?_)
    refine lv_aload_n hx hb dX1_snap_61 rfl (lv_at hl 0 rfl) ?_
    obtain ⟨a22, ea22, hF⟩ := obn hF
    refine cgn S hX hM ea22 ck_1_1_6 q330 (fun _ h => h) dX1_snap_62 ?_
    refine lv_aload_n hx hb dX1_snap_65 rfl (lv_at hl 0 rfl) ?_
    obtain ⟨v23, ev23, hF⟩ := obn hF
    refine cgi S hX hM ev23 ck_1_1_7 q331 (fun _ h => h) dX1_snap_66 ?_
    obtain ⟨a24, ea24, hF⟩ := obn hF
    refine can36 S hX hM ea24 dX1_snap_69 ?_
    refine lv_aload_n hx hb dX1_snap_70 rfl (lv_at hl 0 rfl) ?_
    obtain ⟨a25, ea25, hF⟩ := obn hF
    refine cgn S hX hM ea25 ck_1_1_4 q328 (fun _ h => h) dX1_snap_71 ?_
    obtain ⟨z26, hF⟩ := gTe hF
    obtain ⟨r26, er26, hF⟩ := obn hF
    refine ccr (rest := []) (st1 := [.ref r26.1]) S hX hM (metX3_as l F D σ21 a24 a25 r26 er26) (ci_V (C := "RugReader$Rug") (As := [.ref a25]) (rest := []) S q1165 q1166 q1167 q1168 hyX3_as (HI.cell (ci := 2) hX hM (by decide) (by omega)) hlX3_as rfl dX1_snap_74) q1168 q108 (Nat.le_of_ble_eq_true rfl) (Nat.le_of_ble_eq_true rfl) hl.1 (Nat.le_of_ble_eq_true rfl) rfl (fun H locs cs ss hM => ?_)
    refine lv_pop hx hb dX1_snap_77 rfl ?_
    refine lv_aload_n hx hb dX1_snap_78 rfl (lv_at hl 0 rfl) ?_
    refine lv_dup hx hb dX1_snap_79 rfl ?_
    obtain ⟨v27, ev27, hF⟩ := obn hF
    refine cgi S hX hM ev27 ck_1_1_7 q331 (fun _ h => h) dX1_snap_80 ?_
    refine lv_iconst (v := 1) hx hb dX1_snap_83 rfl ?_
    refine lv_iadd hx hb dX1_snap_84 ?_
    obtain ⟨σ28, eσ28, hF⟩ := obn hF
    refine cpi S hX hM eσ28 ck_1_1_7 cw_1_1_7 rfl rfl q331 (fun _ h => h) dX1_snap_85 (fun H locs hM => ?_)
    have hz := (Option.some.inj hF)
    subst hz
    exact crv S hM hr hlocks dX1_snap_88
def fX3_tread (F : Nat) (h0 : HS) (x0 : Nat) (x1 : Int32) (x2 : Int32) (x3 : Int32) (x4 : Int32) : Option (HS) := ((fR h0 x0 3 3 2).bind fun a1 => ((fA h0 a1 35 x2).bind fun a2 => ((fA h0 a2 34 x1).bind fun a3 => ((aI h0 a3 31 0).bind fun v4 => ((wI h0 a3 31 0 (v4 + 1)).bind fun σ5 => ((fR σ5 x0 3 3 3).bind fun a6 => ((fA σ5 a6 35 x2).bind fun a7 => ((fA σ5 a7 34 x1).bind fun a8 => ((aI σ5 a8 31 0).bind fun v9 => ((wI σ5 a8 31 0 (v9 + 1)).bind fun σ10 => ((fR σ10 x0 3 3 4).bind fun a11 => ((wI σ10 a11 31 x2 x1).bind fun σ12 => ((fR σ12 x0 3 3 5).bind fun a13 => ((wI σ12 a13 31 x2 x3).bind fun σ14 => ((fR σ14 x0 3 3 6).bind fun a15 => ((wI σ14 a15 31 x2 x4).bind fun σ16 => ((fR σ16 x0 3 3 7).bind fun a17 => ((wI σ16 a17 31 x2 0).bind fun σ18 => some σ18))))))))))))))))))
theorem hyX3_tread : yX3_tread.cls ≠ "java/lang/invoke/MethodHandle" ∧ yX3_tread.cls ≠ "java/lang/invoke/VarHandle" := by decide +kernel
theorem hlX3_tread : (parseMethodDescriptor yX3_tread.desc).map (fun d => d.parameters.length) = some 4 := by decide +kernel
set_option maxHeartbeats 4000000 in
set_option maxRecDepth 100000 in
theorem metX3_tread (l : Launch) [NoTr l] (F : Nat) (D : va_G) (h0 : HS) (x0 : Nat) (x1 : Int32) (x2 : Int32) (x3 : Int32) (x4 : Int32) (r : HS) (hF : fX3_tread F h0 x0 x1 x2 x3 x4 = some r) : CMet l yX3_tread (ws_ yX3_tread cX3_tread 5 none) 0 0 D [.ref x0, .int x1, .int x2, .int x3, .int x4] h0 r (.inr none) := by
  refine CMet.ofW (by decide) ?_
  intro p e s m below meth c s₁ B S hX hM hr hlocks hnt hin
  obtain ⟨hx, hb, hml, hown, hts⟩ := id S
  have hl := lv_entry ([.ref x0, .int x1, .int x2, .int x3, .int x4]) (n := 5) (Nat.le_of_ble_eq_true rfl)
  rw [lg_entry_eq]
  generalize (lg_sl ([.ref x0, .int x1, .int x2, .int x3, .int x4]) ++ List.replicate (5 - (lg_sl ([.ref x0, .int x1, .int x2, .int x3, .int x4])).length) Slot.unset).toArray = ls at hl ⊢
  have hl : lv_has ls 5 [(0, .ref x0), (1, .int x1), (2, .int x2), (3, .int x3), (4, .int x4)] := hl
  unfold fX3_tread at hF
  refine lv_aload_n hx hb dX3_tread_0 rfl (lv_at hl 0 rfl) ?_
  obtain ⟨a1, ea1, hF⟩ := obn hF
  refine cgn S hX hM ea1 ck_3_3_2 q257 (fun _ h => h) dX3_tread_1 ?_
  refine lv_iload_n hx hb dX3_tread_4 rfl (lv_at hl 2 rfl) ?_
  obtain ⟨a2, ea2, hF⟩ := obn hF
  refine can35 S hX hM ea2 dX3_tread_5 ?_
  refine lv_iload_n hx hb dX3_tread_6 rfl (lv_at hl 1 rfl) ?_
  obtain ⟨a3, ea3, hF⟩ := obn hF
  refine can34 S hX hM ea3 dX3_tread_7 ?_
  refine lv_iconst (v := 0) hx hb dX3_tread_8 rfl ?_
  refine lv_dup2_11 hx hb dX3_tread_9 rfl rfl ?_
  obtain ⟨v4, ev4, hF⟩ := obn hF
  refine cai S hX hM ev4 dX3_tread_10 ?_
  refine lv_iconst (v := 1) hx hb dX3_tread_11 rfl ?_
  refine lv_iadd hx hb dX3_tread_12 ?_
  obtain ⟨σ5, eσ5, hF⟩ := obn hF
  refine cwi S hX hM eσ5 dX3_tread_13 (fun H locs hM => ?_)
  refine lv_aload_n hx hb dX3_tread_14 rfl (lv_at hl 0 rfl) ?_
  obtain ⟨a6, ea6, hF⟩ := obn hF
  refine cgn S hX hM ea6 ck_3_3_3 q258 (fun _ h => h) dX3_tread_15 ?_
  refine lv_iload_n hx hb dX3_tread_18 rfl (lv_at hl 2 rfl) ?_
  obtain ⟨a7, ea7, hF⟩ := obn hF
  refine can35 S hX hM ea7 dX3_tread_19 ?_
  refine lv_iload_n hx hb dX3_tread_20 rfl (lv_at hl 1 rfl) ?_
  obtain ⟨a8, ea8, hF⟩ := obn hF
  refine can34 S hX hM ea8 dX3_tread_21 ?_
  refine lv_iconst (v := 0) hx hb dX3_tread_22 rfl ?_
  refine lv_dup2_11 hx hb dX3_tread_23 rfl rfl ?_
  obtain ⟨v9, ev9, hF⟩ := obn hF
  refine cai S hX hM ev9 dX3_tread_24 ?_
  refine lv_iconst (v := 1) hx hb dX3_tread_25 rfl ?_
  refine lv_iadd hx hb dX3_tread_26 ?_
  obtain ⟨σ10, eσ10, hF⟩ := obn hF
  refine cwi S hX hM eσ10 dX3_tread_27 (fun H locs hM => ?_)
  refine lv_aload_n hx hb dX3_tread_28 rfl (lv_at hl 0 rfl) ?_
  obtain ⟨a11, ea11, hF⟩ := obn hF
  refine cgn S hX hM ea11 ck_3_3_4 q259 (fun _ h => h) dX3_tread_29 ?_
  refine lv_iload_n hx hb dX3_tread_32 rfl (lv_at hl 2 rfl) ?_
  refine lv_iload_n hx hb dX3_tread_33 rfl (lv_at hl 1 rfl) ?_
  obtain ⟨σ12, eσ12, hF⟩ := obn hF
  refine cwi S hX hM eσ12 dX3_tread_34 (fun H locs hM => ?_)
  refine lv_aload_n hx hb dX3_tread_35 rfl (lv_at hl 0 rfl) ?_
  obtain ⟨a13, ea13, hF⟩ := obn hF
  refine cgn S hX hM ea13 ck_3_3_5 q261 (fun _ h => h) dX3_tread_36 ?_
  refine lv_iload_n hx hb dX3_tread_39 rfl (lv_at hl 2 rfl) ?_
  refine lv_iload_n hx hb dX3_tread_40 rfl (lv_at hl 3 rfl) ?_
  obtain ⟨σ14, eσ14, hF⟩ := obn hF
  refine cwi S hX hM eσ14 dX3_tread_41 (fun H locs hM => ?_)
  refine lv_aload_n hx hb dX3_tread_42 rfl (lv_at hl 0 rfl) ?_
  obtain ⟨a15, ea15, hF⟩ := obn hF
  refine cgn S hX hM ea15 ck_3_3_6 q263 (fun _ h => h) dX3_tread_43 ?_
  refine lv_iload_n hx hb dX3_tread_46 rfl (lv_at hl 2 rfl) ?_
  refine lv_iload hx hb dX3_tread_47 (lv_at hl 4 rfl) ?_
  obtain ⟨σ16, eσ16, hF⟩ := obn hF
  refine cwi S hX hM eσ16 dX3_tread_49 (fun H locs hM => ?_)
  refine lv_aload_n hx hb dX3_tread_50 rfl (lv_at hl 0 rfl) ?_
  obtain ⟨a17, ea17, hF⟩ := obn hF
  refine cgn S hX hM ea17 ck_3_3_7 q265 (fun _ h => h) dX3_tread_51 ?_
  refine lv_iload_n hx hb dX3_tread_54 rfl (lv_at hl 2 rfl) ?_
  refine lv_iconst (v := 0) hx hb dX3_tread_55 rfl ?_
  obtain ⟨σ18, eσ18, hF⟩ := obn hF
  refine cwi S hX hM eσ18 dX3_tread_56 (fun H locs hM => ?_)
  have hz := (Option.some.inj hF)
  subst hz
  exact crv S hM hr hlocks dX3_tread_57
def lX3_goes_19 (F : Nat) : Nat → HS → Nat → Int32 → Int32 → Nat → Int32 → Option (HS)
  | 0, _, _, _, _, _, _ => none
  | n + 1, σ, y0, y1, y3, y4, y5 => ((oI σ y4 10 10 3).bind fun v5 => (if v5 < y5 then (some σ) else ((fR σ y4 10 10 1).bind fun a7 => ((aI σ a7 31 y5).bind fun v8 => ((fR σ y0 3 3 0).bind fun a9 => ((fR σ a9 2 2 5).bind fun a10 => gT σ a10 15 15 (((fJ2_get F σ a10 y3).bind fun r11 => gT σ r11 9 9 (((oI σ r11 9 9 2).bind fun v13 => ((fR σ y4 10 10 2).bind fun a14 => ((aI σ a14 31 y5).bind fun v15 => gT σ y0 3 3 (((fX3_tread F σ y0 y1 v8 v13 v15).bind fun r16 => lX3_goes_19 F n r16 y0 y1 y3 y4 (y5 + 1)))))))))))))))
def fX3_goes (F : Nat) (h0 : HS) (x0 : Nat) (x1 : Int32) (x2 : Int32) (x3 : Int32) : Option (Int32 × HS) := ((fR h0 x0 3 3 0).bind fun a1 => ((fR h0 a1 2 2 6).bind fun a2 => gT h0 a2 15 15 (((fJ2_get F h0 a2 x2).bind fun r3 => gT h0 r3 10 10 (((lX3_goes_19 F F h0 x0 x1 x3 r3 0).bind fun q17 => ((fR q17 x0 3 3 8).bind fun a18 => ((aI q17 a18 31 x1).bind fun v19 => ((wI q17 a18 31 x1 (v19 + 1)).bind fun σ20 => ((oI σ20 r3 10 10 3).bind fun v21 => some ((v21 + 1), σ20)))))))))))
theorem hyX3_goes : yX3_goes.cls ≠ "java/lang/invoke/MethodHandle" ∧ yX3_goes.cls ≠ "java/lang/invoke/VarHandle" := by decide +kernel
theorem hlX3_goes : (parseMethodDescriptor yX3_goes.desc).map (fun d => d.parameters.length) = some 3 := by decide +kernel
set_option maxHeartbeats 4000000 in
set_option maxRecDepth 100000 in
theorem wlX3_goes_19 {p : Program} {l : Launch} [NoTr l] {e : Env} {s : State} {m : MethodId} {args : Array Value} {below : List Frame} {meth : Method} {c : Code} {D : va_G} {h0 : HS} (S : CallFix p m c cX3_goes 6 s args lw_all RX3) (hX : CX D (kG h0) s) (F : Nat) {Q : State → Prop} : ∀ (n : Nat) (σ : HS) (y0 : Nat) (y1 : Int32) (y3 : Int32) (y4 : Nat) (y5 : Int32) (out : HS), lX3_goes_19 F n σ y0 y1 y3 y4 y5 = some out → (∀ (H : Heap) (locs : List Loc) (cs ss : Nat) (ls : Array Slot), HI D h0 out s.heap H locs cs ss → lv_has ls 6 [(0, .ref y0), (1, .int y1), (4, .ref y4)] → W p l e (cR 3 64 h0) s m args below meth c H locs cs ss Q (F0 m 73 ls [])) → ∀ (H : Heap) (locs : List Loc) (cs ss : Nat) (ls : Array Slot), HI D h0 σ s.heap H locs cs ss → lv_has ls 6 [(0, .ref y0), (1, .int y1), (3, .int y3), (4, .ref y4), (5, .int y5)] → W p l e (cR 3 64 h0) s m args below meth c H locs cs ss Q (F0 m 19 ls []) := by
  intro n
  induction n with
  | zero =>
    intro σ y0 y1 y3 y4 y5 out hF
    cases (show (none : Option _) = some out from hF)
  | succ n ih =>
    intro σ y0 y1 y3 y4 y5 out hF hk H locs cs ss ls hM hl
    rw [lX3_goes_19] at hF
    obtain ⟨hx, hb, hml, hown, hts⟩ := id S
    refine lv_iload hx hb dX3_goes_19 (lv_at hl 4 rfl) ?_
    refine lv_aload hx hb dX3_goes_21 (lv_at hl 3 rfl) ?_
    obtain ⟨v5, ev5, hF⟩ := obn hF
    refine cgiN S hX hM ev5 ck_10_10_3 (uq1075 hX) dX3_goes_23 ?_
    refine lv_icmp_gt (tgt := 73) hx hb dX3_goes_26 (by decide) (fun c6 => ?_) (fun c6 => ?_)
    · have hF := ifp hF c6
      cases hF
      exact hk _ _ _ _ _ hM (lv_sub hl [0, 1, 3] rfl)
    · have hF := ifn hF c6
      refine lv_aload_n hx hb dX3_goes_29 rfl (lv_at hl 0 rfl) ?_
      refine lv_iload_n hx hb dX3_goes_30 rfl (lv_at hl 1 rfl) ?_
      refine lv_aload hx hb dX3_goes_31 (lv_at hl 3 rfl) ?_
      obtain ⟨a7, ea7, hF⟩ := obn hF
      refine cgnN S hX hM ea7 ck_10_10_1 (uq1070 hX) dX3_goes_33 ?_
      refine lv_iload hx hb dX3_goes_36 (lv_at hl 4 rfl) ?_
      obtain ⟨v8, ev8, hF⟩ := obn hF
      refine cai S hX hM ev8 dX3_goes_38 ?_
      refine lv_aload_n hx hb dX3_goes_39 rfl (lv_at hl 0 rfl) ?_
      obtain ⟨a9, ea9, hF⟩ := obn hF
      refine cgn S hX hM ea9 ck_3_3_0 q253 (fun _ h => h) dX3_goes_40 ?_
      obtain ⟨a10, ea10, hF⟩ := obn hF
      refine cgnN S hX hM ea10 ck_2_2_5 (uq203 hX) dX3_goes_43 ?_
      refine lv_iload_n hx hb dX3_goes_46 rfl (lv_at hl 2 rfl) ?_
      obtain ⟨z11, hF⟩ := gTe hF
      obtain ⟨r11, er11, hF⟩ := obn hF
      refine ccr (rest := [.int v8, .int y1, .ref y0]) (st1 := [.ref r11, .int v8, .int y1, .ref y0]) S hX hM (metJ2_get l F D σ a10 y3 r11 er11) (ci_V (C := "java/util/ArrayList") (As := [.int y3]) (rest := [.int v8, .int y1, .ref y0]) S q1177 q925 q926 q927 hyJ2_get (HI.cell (ci := 14) hX hM (by decide) (by omega)) hlJ2_get rfl dX3_goes_47) q927 q107 (Nat.le_of_ble_eq_true rfl) (Nat.le_of_ble_eq_true rfl) hl.1 (Nat.le_of_ble_eq_true rfl) rfl (fun H locs cs ss hM => ?_)
      obtain ⟨z12, hF⟩ := gTe hF
      refine ccs (ci := 8) S hX hM (by decide) (by omega) q1179 dX3_goes_50 ?_
      obtain ⟨v13, ev13, hF⟩ := obn hF
      refine cgiN S hX hM ev13 ck_9_9_2 (uq952 hX) dX3_goes_53 ?_
      refine lv_aload hx hb dX3_goes_56 (lv_at hl 3 rfl) ?_
      obtain ⟨a14, ea14, hF⟩ := obn hF
      refine cgnN S hX hM ea14 ck_10_10_2 (uq1073 hX) dX3_goes_58 ?_
      refine lv_iload hx hb dX3_goes_61 (lv_at hl 4 rfl) ?_
      obtain ⟨v15, ev15, hF⟩ := obn hF
      refine cai S hX hM ev15 dX3_goes_63 ?_
      obtain ⟨z16, hF⟩ := gTe hF
      obtain ⟨r16, er16, hF⟩ := obn hF
      refine ccr (rest := []) (st1 := []) S hX hM (metX3_tread l F D σ y0 y1 v8 v13 v15 r16 er16) (ci_V (C := "RugReader$Rug") (As := [.int y1, .int v8, .int v13, .int v15]) (rest := []) S q1180 q1181 q1182 q1183 hyX3_tread (HI.cell (ci := 2) hX hM (by decide) (by omega)) hlX3_tread rfl dX3_goes_64) q1183 q108 (Nat.le_of_ble_eq_true rfl) (Nat.le_of_ble_eq_true rfl) hl.1 (Nat.le_of_ble_eq_true rfl) rfl (fun H locs cs ss hM => ?_)
      refine lv_iinc (v := y5 + 1) (lv' := [(5, .int (y5 + 1)), (0, .ref y0), (1, .int y1), (3, .int y3), (4, .ref y4)]) hx hb dX3_goes_67 hl (k := 4) rfl rfl (by decide) rfl (fun ls hl => ?_)
      refine lv_goto (tgt := 19) hx hb dX3_goes_70 (by decide) ?_
      exact ih _ _ _ _ _ _ out hF hk _ _ _ _ _ hM (lv_sub hl [1, 2, 3, 4, 0] rfl)
set_option maxHeartbeats 4000000 in
set_option maxRecDepth 100000 in
theorem metX3_goes (l : Launch) [NoTr l] (F : Nat) (D : va_G) (h0 : HS) (x0 : Nat) (x1 : Int32) (x2 : Int32) (x3 : Int32) (r : Int32 × HS) (hF : fX3_goes F h0 x0 x1 x2 x3 = some r) : CMet l yX3_goes (ws_ yX3_goes cX3_goes 6 (some .int)) 3 64 D [.ref x0, .int x1, .int x2, .int x3] h0 r.2 (.inr (some (.int r.1))) := by
  refine CMet.ofW (by decide) ?_
  intro p e s m below meth c s₁ B S hX hM hr hlocks hnt hin
  obtain ⟨hx, hb, hml, hown, hts⟩ := id S
  have hl := lv_entry ([.ref x0, .int x1, .int x2, .int x3]) (n := 6) (Nat.le_of_ble_eq_true rfl)
  rw [lg_entry_eq]
  generalize (lg_sl ([.ref x0, .int x1, .int x2, .int x3]) ++ List.replicate (6 - (lg_sl ([.ref x0, .int x1, .int x2, .int x3])).length) Slot.unset).toArray = ls at hl ⊢
  have hl : lv_has ls 6 [(0, .ref x0), (1, .int x1), (2, .int x2), (3, .int x3)] := hl
  unfold fX3_goes at hF
  refine lv_aload_n hx hb dX3_goes_0 rfl (lv_at hl 0 rfl) ?_
  obtain ⟨a1, ea1, hF⟩ := obn hF
  refine cgn S hX hM ea1 ck_3_3_0 q253 (fun _ h => h) dX3_goes_1 ?_
  obtain ⟨a2, ea2, hF⟩ := obn hF
  refine cgnN S hX hM ea2 ck_2_2_6 (uq207 hX) dX3_goes_4 ?_
  refine lv_iload_n hx hb dX3_goes_7 rfl (lv_at hl 2 rfl) ?_
  obtain ⟨z3, hF⟩ := gTe hF
  obtain ⟨r3, er3, hF⟩ := obn hF
  refine ccr (rest := []) (st1 := [.ref r3]) S hX hM (metJ2_get l F D h0 a2 x2 r3 er3) (ci_V (C := "java/util/ArrayList") (As := [.int x2]) (rest := []) S q1177 q925 q926 q927 hyJ2_get (HI.cell (ci := 14) hX hM (by decide) (by omega)) hlJ2_get rfl dX3_goes_8) q927 q107 (Nat.le_of_ble_eq_true rfl) (Nat.le_of_ble_eq_true rfl) hl.1 (Nat.le_of_ble_eq_true rfl) rfl (fun H locs cs ss hM => ?_)
  obtain ⟨z4, hF⟩ := gTe hF
  refine ccs (ci := 9) S hX hM (by decide) (by omega) q1178 dX3_goes_11 ?_
  refine lv_astore (lv' := [(4, .ref r3), (0, .ref x0), (1, .int x1), (2, .int x2), (3, .int x3)]) hx hb dX3_goes_14 hl (by decide) rfl (fun ls hl => ?_)
  refine lv_iconst (v := 0) hx hb dX3_goes_16 rfl ?_
  refine lv_istore (lv' := [(5, .int 0), (4, .ref r3), (0, .ref x0), (1, .int x1), (2, .int x2), (3, .int x3)]) hx hb dX3_goes_17 hl (by decide) rfl (fun ls hl => ?_)
  obtain ⟨q17, hq17, hF⟩ := obn hF
  refine wlX3_goes_19 S hX F  F _ _ _ _ _ _ q17 hq17 (fun H locs cs ss ls hM hl => ?_) _ _ _ _ _ hM (lv_sub hl [2, 3, 5, 1, 0] rfl)
  refine lv_aload_n hx hb dX3_goes_73 rfl (lv_at hl 0 rfl) ?_
  obtain ⟨a18, ea18, hF⟩ := obn hF
  refine cgn S hX hM ea18 ck_3_3_8 q267 (fun _ h => h) dX3_goes_74 ?_
  refine lv_iload_n hx hb dX3_goes_77 rfl (lv_at hl 1 rfl) ?_
  refine lv_dup2_11 hx hb dX3_goes_78 rfl rfl ?_
  obtain ⟨v19, ev19, hF⟩ := obn hF
  refine cai S hX hM ev19 dX3_goes_79 ?_
  refine lv_iconst (v := 1) hx hb dX3_goes_80 rfl ?_
  refine lv_iadd hx hb dX3_goes_81 ?_
  obtain ⟨σ20, eσ20, hF⟩ := obn hF
  refine cwi S hX hM eσ20 dX3_goes_82 (fun H locs hM => ?_)
  refine lv_aload hx hb dX3_goes_83 (lv_at hl 2 rfl) ?_
  obtain ⟨v21, ev21, hF⟩ := obn hF
  refine cgiN S hX hM ev21 ck_10_10_3 (uq1075 hX) dX3_goes_85 ?_
  refine lv_iconst (v := 1) hx hb dX3_goes_88 rfl ?_
  refine lv_iadd hx hb dX3_goes_89 ?_
  have hz := (Option.some.inj hF)
  subst hz
  exact cri S hM hr hlocks dX3_goes_90
def fX1_goes (F : Nat) (h0 : HS) (x0 : Nat) (x1 : Int32) (x2 : Int32) (x3 : Int32) : Option (Int32 × HS) := gT h0 x0 1 1 (((fX1_isPerson F h0 x0 x1).bind fun r1 => (if r1 = 0 then (some ((-1), h0)) else (gT h0 x0 1 1 (((fX1_isWay F h0 x0 x2).bind fun r3 => (if r3 = 0 then (some ((-1), h0)) else (gT h0 x0 1 1 (((fX1_isPerson F h0 x0 x3).bind fun r5 => (if r5 = 0 then (some ((-1), h0)) else (gT h0 x0 1 1 (((fX1_snap F h0 x0).bind fun r7 => ((fR r7 x0 1 1 4).bind fun a8 => gT r7 a8 3 3 (((fX3_goes F r7 a8 x1 x2 x3).bind fun r9 => some (r9.1, r9.2))))))))))))))))))
theorem hyX1_goes : yX1_goes.cls ≠ "java/lang/invoke/MethodHandle" ∧ yX1_goes.cls ≠ "java/lang/invoke/VarHandle" := by decide +kernel
theorem hlX1_goes : (parseMethodDescriptor yX1_goes.desc).map (fun d => d.parameters.length) = some 3 := by decide +kernel
set_option maxHeartbeats 4000000 in
set_option maxRecDepth 100000 in
theorem metX1_goes (l : Launch) [NoTr l] (F : Nat) (D : va_G) (h0 : HS) (x0 : Nat) (x1 : Int32) (x2 : Int32) (x3 : Int32) (r : Int32 × HS) (hF : fX1_goes F h0 x0 x1 x2 x3 = some r) : CMet l yX1_goes (ws_ yX1_goes cX1_goes 4 (some .int)) 4 126 D [.ref x0, .int x1, .int x2, .int x3] h0 r.2 (.inr (some (.int r.1))) := by
  refine CMet.ofW (by decide) ?_
  intro p e s m below meth c s₁ B S hX hM hr hlocks hnt hin
  obtain ⟨hx, hb, hml, hown, hts⟩ := id S
  have hl := lv_entry ([.ref x0, .int x1, .int x2, .int x3]) (n := 4) (Nat.le_of_ble_eq_true rfl)
  rw [lg_entry_eq]
  generalize (lg_sl ([.ref x0, .int x1, .int x2, .int x3]) ++ List.replicate (4 - (lg_sl ([.ref x0, .int x1, .int x2, .int x3])).length) Slot.unset).toArray = ls at hl ⊢
  have hl : lv_has ls 4 [(0, .ref x0), (1, .int x1), (2, .int x2), (3, .int x3)] := hl
  unfold fX1_goes at hF
  refine lv_aload_n hx hb dX1_goes_0 rfl (lv_at hl 0 rfl) ?_
  refine lv_iload_n hx hb dX1_goes_1 rfl (lv_at hl 1 rfl) ?_
  obtain ⟨z1, hF⟩ := gTe hF
  obtain ⟨r1, er1, hF⟩ := obn hF
  refine ccr (rest := []) (st1 := [.int r1]) S hX hM (metX1_isPerson l F D h0 x0 x1 r1 er1) (ci_V (C := "RugReader") (As := [.int x1]) (rest := []) S q1157 q1159 qs16 q1160 hyX1_isPerson (HI.cell (ci := 0) hX hM (by decide) (by omega)) hlX1_isPerson rfl dX1_goes_2) q1160 q103 (Nat.le_of_ble_eq_true rfl) (Nat.le_of_ble_eq_true rfl) hl.1 (Nat.le_of_ble_eq_true rfl) rfl (fun H locs cs ss hM => ?_)
  refine lv_if_eq (tgt := 24) hx hb dX1_goes_5 (by decide) (fun c2 => ?_) (fun c2 => ?_)
  · have hF := ifp hF c2
    refine lv_iconst (v := (-1)) hx hb dX1_goes_24 rfl ?_
    have hz := (Option.some.inj hF)
    subst hz
    exact cri S hM hr hlocks dX1_goes_25
  · have hF := ifn hF c2
    refine lv_aload_n hx hb dX1_goes_8 rfl (lv_at hl 0 rfl) ?_
    refine lv_iload_n hx hb dX1_goes_9 rfl (lv_at hl 2 rfl) ?_
    obtain ⟨z3, hF⟩ := gTe hF
    obtain ⟨r3, er3, hF⟩ := obn hF
    refine ccr (rest := []) (st1 := [.int r3]) S hX hM (metX1_isWay l F D h0 x0 x2 r3 er3) (ci_V (C := "RugReader") (As := [.int x2]) (rest := []) S q1145 q1147 qs15 q1148 hyX1_isWay (HI.cell (ci := 0) hX hM (by decide) (by omega)) hlX1_isWay rfl dX1_goes_10) q1148 q103 (Nat.le_of_ble_eq_true rfl) (Nat.le_of_ble_eq_true rfl) hl.1 (Nat.le_of_ble_eq_true rfl) rfl (fun H locs cs ss hM => ?_)
    refine lv_if_eq (tgt := 24) hx hb dX1_goes_13 (by decide) (fun c4 => ?_) (fun c4 => ?_)
    · have hF := ifp hF c4
      refine lv_iconst (v := (-1)) hx hb dX1_goes_24 rfl ?_
      have hz := (Option.some.inj hF)
      subst hz
      exact cri S hM hr hlocks dX1_goes_25
    · have hF := ifn hF c4
      refine lv_aload_n hx hb dX1_goes_16 rfl (lv_at hl 0 rfl) ?_
      refine lv_iload_n hx hb dX1_goes_17 rfl (lv_at hl 3 rfl) ?_
      obtain ⟨z5, hF⟩ := gTe hF
      obtain ⟨r5, er5, hF⟩ := obn hF
      refine ccr (rest := []) (st1 := [.int r5]) S hX hM (metX1_isPerson l F D h0 x0 x3 r5 er5) (ci_V (C := "RugReader") (As := [.int x3]) (rest := []) S q1157 q1159 qs16 q1160 hyX1_isPerson (HI.cell (ci := 0) hX hM (by decide) (by omega)) hlX1_isPerson rfl dX1_goes_18) q1160 q103 (Nat.le_of_ble_eq_true rfl) (Nat.le_of_ble_eq_true rfl) hl.1 (Nat.le_of_ble_eq_true rfl) rfl (fun H locs cs ss hM => ?_)
      refine lv_if_ne (tgt := 26) hx hb dX1_goes_21 (by decide) (fun c6 => ?_) (fun c6 => ?_)
      · have hF := ifn hF c6
        refine lv_aload_n hx hb dX1_goes_26 rfl (lv_at hl 0 rfl) ?_
        obtain ⟨z7, hF⟩ := gTe hF
        obtain ⟨r7, er7, hF⟩ := obn hF
        refine ccr (rest := []) (st1 := []) S hX hM (metX1_snap l F D h0 x0 r7 er7) (ci_V (C := "RugReader") (As := []) (rest := []) S q1161 q1163 qs17 q1164 hyX1_snap (HI.cell (ci := 0) hX hM (by decide) (by omega)) hlX1_snap rfl dX1_goes_27) q1164 q103 (Nat.le_of_ble_eq_true rfl) (Nat.le_of_ble_eq_true rfl) hl.1 (Nat.le_of_ble_eq_true rfl) rfl (fun H locs cs ss hM => ?_)
        refine lv_aload_n hx hb dX1_goes_30 rfl (lv_at hl 0 rfl) ?_
        obtain ⟨a8, ea8, hF⟩ := obn hF
        refine cgn S hX hM ea8 ck_1_1_4 q328 (fun _ h => h) dX1_goes_31 ?_
        refine lv_iload_n hx hb dX1_goes_34 rfl (lv_at hl 1 rfl) ?_
        refine lv_iload_n hx hb dX1_goes_35 rfl (lv_at hl 2 rfl) ?_
        refine lv_iload_n hx hb dX1_goes_36 rfl (lv_at hl 3 rfl) ?_
        obtain ⟨z9, hF⟩ := gTe hF
        obtain ⟨r9, er9, hF⟩ := obn hF
        refine ccr (rest := []) (st1 := [.int r9.1]) S hX hM (metX3_goes l F D r7 a8 x1 x2 x3 r9 er9) (ci_V (C := "RugReader$Rug") (As := [.int x1, .int x2, .int x3]) (rest := []) S q1173 q1174 q1175 q1176 hyX3_goes (HI.cell (ci := 2) hX hM (by decide) (by omega)) hlX3_goes rfl dX1_goes_37) q1176 q108 (Nat.le_of_ble_eq_true rfl) (Nat.le_of_ble_eq_true rfl) hl.1 (Nat.le_of_ble_eq_true rfl) rfl (fun H locs cs ss hM => ?_)
        have hz := (Option.some.inj hF)
        subst hz
        exact cri S hM hr hlocks dX1_goes_40
      · have hF := ifp hF c6
        refine lv_iconst (v := (-1)) hx hb dX1_goes_24 rfl ?_
        have hz := (Option.some.inj hF)
        subst hz
        exact cri S hM hr hlocks dX1_goes_25
def lX3_older_3 (F : Nat) : Nat → HS → Nat → Nat → Int32 → Option (HS)
  | 0, _, _, _, _ => none
  | n + 1, σ, y0, y1, y2 => (if y2 ≤ 0 then (some σ) else ((aI σ y1 31 (y2 - 1)).bind fun v2 => ((wI σ y1 31 y2 v2).bind fun σ3 => lX3_older_3 F n σ3 y0 y1 (y2 + (-1)))))
def lX3_older_33 (F : Nat) : Nat → HS → Nat → Int32 → Option (HS)
  | 0, _, _, _ => none
  | n + 1, σ, y1, y2 => (if 9 ≤ y2 then (some σ) else ((wI σ y1 31 y2 0).bind fun σ9 => lX3_older_33 F n σ9 y1 (y2 + 1)))
def fX3_older (F : Nat) (h0 : HS) (x0 : Nat) (x1 : Nat) : Option (HS) := ((lX3_older_3 F F h0 x0 x1 8).bind fun q4 => ((wI q4 x1 31 0 0).bind fun σ5 => ((fR σ5 x0 3 3 0).bind fun a6 => ((oI σ5 a6 2 2 2).bind fun v7 => ((lX3_older_33 F F σ5 x1 v7).bind fun q10 => some q10)))))
theorem hyX3_older : yX3_older.cls ≠ "java/lang/invoke/MethodHandle" ∧ yX3_older.cls ≠ "java/lang/invoke/VarHandle" := by decide +kernel
theorem hlX3_older : (parseMethodDescriptor yX3_older.desc).map (fun d => d.parameters.length) = some 1 := by decide +kernel
set_option maxHeartbeats 4000000 in
set_option maxRecDepth 100000 in
theorem wlX3_older_3 {p : Program} {l : Launch} [NoTr l] {e : Env} {s : State} {m : MethodId} {args : Array Value} {below : List Frame} {meth : Method} {c : Code} {D : va_G} {h0 : HS} (S : CallFix p m c cX3_older 3 s args lw_all RX3) (hX : CX D (kG h0) s) (F : Nat) {Q : State → Prop} : ∀ (n : Nat) (σ : HS) (y0 : Nat) (y1 : Nat) (y2 : Int32) (out : HS), lX3_older_3 F n σ y0 y1 y2 = some out → (∀ (H : Heap) (locs : List Loc) (cs ss : Nat) (ls : Array Slot), HI D h0 out s.heap H locs cs ss → lv_has ls 3 [(0, .ref y0), (1, .ref y1)] → W p l e (cR 0 0 h0) s m args below meth c H locs cs ss Q (F0 m 21 ls [])) → ∀ (H : Heap) (locs : List Loc) (cs ss : Nat) (ls : Array Slot), HI D h0 σ s.heap H locs cs ss → lv_has ls 3 [(0, .ref y0), (1, .ref y1), (2, .int y2)] → W p l e (cR 0 0 h0) s m args below meth c H locs cs ss Q (F0 m 3 ls []) := by
  intro n
  induction n with
  | zero =>
    intro σ y0 y1 y2 out hF
    cases (show (none : Option _) = some out from hF)
  | succ n ih =>
    intro σ y0 y1 y2 out hF hk H locs cs ss ls hM hl
    rw [lX3_older_3] at hF
    obtain ⟨hx, hb, hml, hown, hts⟩ := id S
    refine lv_iload_n hx hb dX3_older_3 rfl (lv_at hl 2 rfl) ?_
    refine lv_if_le (tgt := 21) hx hb dX3_older_4 (by decide) (fun c1 => ?_) (fun c1 => ?_)
    · have hF := ifp hF c1
      cases hF
      exact hk _ _ _ _ _ hM (lv_sub hl [0, 1] rfl)
    · have hF := ifn hF c1
      refine lv_aload_n hx hb dX3_older_7 rfl (lv_at hl 1 rfl) ?_
      refine lv_iload_n hx hb dX3_older_8 rfl (lv_at hl 2 rfl) ?_
      refine lv_aload_n hx hb dX3_older_9 rfl (lv_at hl 1 rfl) ?_
      refine lv_iload_n hx hb dX3_older_10 rfl (lv_at hl 2 rfl) ?_
      refine lv_iconst (v := 1) hx hb dX3_older_11 rfl ?_
      refine lv_isub hx hb dX3_older_12 ?_
      obtain ⟨v2, ev2, hF⟩ := obn hF
      refine cai S hX hM ev2 dX3_older_13 ?_
      obtain ⟨σ3, eσ3, hF⟩ := obn hF
      refine cwi S hX hM eσ3 dX3_older_14 (fun H locs hM => ?_)
      refine lv_iinc (v := y2 + (-1)) (lv' := [(2, .int (y2 + (-1))), (0, .ref y0), (1, .ref y1)]) hx hb dX3_older_15 hl (k := 2) rfl rfl (by decide) rfl (fun ls hl => ?_)
      refine lv_goto (tgt := 3) hx hb dX3_older_18 (by decide) ?_
      exact ih _ _ _ _ out hF hk _ _ _ _ _ hM (lv_sub hl [1, 2, 0] rfl)
set_option maxHeartbeats 4000000 in
set_option maxRecDepth 100000 in
theorem wlX3_older_33 {p : Program} {l : Launch} [NoTr l] {e : Env} {s : State} {m : MethodId} {args : Array Value} {below : List Frame} {meth : Method} {c : Code} {D : va_G} {h0 : HS} (S : CallFix p m c cX3_older 3 s args lw_all RX3) (hX : CX D (kG h0) s) (F : Nat) {Q : State → Prop} : ∀ (n : Nat) (σ : HS) (y1 : Nat) (y2 : Int32) (out : HS), lX3_older_33 F n σ y1 y2 = some out → (∀ (H : Heap) (locs : List Loc) (cs ss : Nat) (ls : Array Slot), HI D h0 out s.heap H locs cs ss → lv_has ls 3 [] → W p l e (cR 0 0 h0) s m args below meth c H locs cs ss Q (F0 m 49 ls [])) → ∀ (H : Heap) (locs : List Loc) (cs ss : Nat) (ls : Array Slot), HI D h0 σ s.heap H locs cs ss → lv_has ls 3 [(1, .ref y1), (2, .int y2)] → W p l e (cR 0 0 h0) s m args below meth c H locs cs ss Q (F0 m 33 ls []) := by
  intro n
  induction n with
  | zero =>
    intro σ y1 y2 out hF
    cases (show (none : Option _) = some out from hF)
  | succ n ih =>
    intro σ y1 y2 out hF hk H locs cs ss ls hM hl
    rw [lX3_older_33] at hF
    obtain ⟨hx, hb, hml, hown, hts⟩ := id S
    refine lv_iload_n hx hb dX3_older_33 rfl (lv_at hl 1 rfl) ?_
    refine lv_bipush (v := 9) hx hb dX3_older_34 rfl ?_
    refine lv_icmp_ge (tgt := 49) hx hb dX3_older_36 (by decide) (fun c8 => ?_) (fun c8 => ?_)
    · have hF := ifp hF c8
      cases hF
      exact hk _ _ _ _ _ hM (lv_sub hl [] rfl)
    · have hF := ifn hF c8
      refine lv_aload_n hx hb dX3_older_39 rfl (lv_at hl 0 rfl) ?_
      refine lv_iload_n hx hb dX3_older_40 rfl (lv_at hl 1 rfl) ?_
      refine lv_iconst (v := 0) hx hb dX3_older_41 rfl ?_
      obtain ⟨σ9, eσ9, hF⟩ := obn hF
      refine cwi S hX hM eσ9 dX3_older_42 (fun H locs hM => ?_)
      refine lv_iinc (v := y2 + 1) (lv' := [(2, .int (y2 + 1)), (1, .ref y1)]) hx hb dX3_older_43 hl (k := 1) rfl rfl (by decide) rfl (fun ls hl => ?_)
      refine lv_goto (tgt := 33) hx hb dX3_older_46 (by decide) ?_
      exact ih _ _ _ out hF hk _ _ _ _ _ hM (lv_sub hl [1, 0] rfl)
set_option maxHeartbeats 4000000 in
set_option maxRecDepth 100000 in
theorem metX3_older (l : Launch) [NoTr l] (F : Nat) (D : va_G) (h0 : HS) (x0 : Nat) (x1 : Nat) (r : HS) (hF : fX3_older F h0 x0 x1 = some r) : CMet l yX3_older (ws_ yX3_older cX3_older 3 none) 0 0 D [.ref x0, .ref x1] h0 r (.inr none) := by
  refine CMet.ofW (by decide) ?_
  intro p e s m below meth c s₁ B S hX hM hr hlocks hnt hin
  obtain ⟨hx, hb, hml, hown, hts⟩ := id S
  have hl := lv_entry ([.ref x0, .ref x1]) (n := 3) (Nat.le_of_ble_eq_true rfl)
  rw [lg_entry_eq]
  generalize (lg_sl ([.ref x0, .ref x1]) ++ List.replicate (3 - (lg_sl ([.ref x0, .ref x1])).length) Slot.unset).toArray = ls at hl ⊢
  have hl : lv_has ls 3 [(0, .ref x0), (1, .ref x1)] := hl
  unfold fX3_older at hF
  refine lv_bipush (v := 8) hx hb dX3_older_0 rfl ?_
  refine lv_istore_n (lv' := [(2, .int 8), (0, .ref x0), (1, .ref x1)]) hx hb dX3_older_2 rfl hl (by decide) rfl (fun ls hl => ?_)
  obtain ⟨q4, hq4, hF⟩ := obn hF
  refine wlX3_older_3 S hX F  F _ _ _ _ q4 hq4 (fun H locs cs ss ls hM hl => ?_) _ _ _ _ _ hM (lv_sub hl [1, 2, 0] rfl)
  refine lv_aload_n hx hb dX3_older_21 rfl (lv_at hl 1 rfl) ?_
  refine lv_iconst (v := 0) hx hb dX3_older_22 rfl ?_
  refine lv_iconst (v := 0) hx hb dX3_older_23 rfl ?_
  obtain ⟨σ5, eσ5, hF⟩ := obn hF
  refine cwi S hX hM eσ5 dX3_older_24 (fun H locs hM => ?_)
  refine lv_aload_n hx hb dX3_older_25 rfl (lv_at hl 0 rfl) ?_
  obtain ⟨a6, ea6, hF⟩ := obn hF
  refine cgn S hX hM ea6 ck_3_3_0 q253 (fun _ h => h) dX3_older_26 ?_
  obtain ⟨v7, ev7, hF⟩ := obn hF
  refine cgiN S hX hM ev7 ck_2_2_2 (uq193 hX) dX3_older_29 ?_
  refine lv_istore_n (lv' := [(2, .int v7), (0, .ref x0), (1, .ref x1)]) hx hb dX3_older_32 rfl hl (by decide) rfl (fun ls hl => ?_)
  obtain ⟨q10, hq10, hF⟩ := obn hF
  refine wlX3_older_33 S hX F  F _ _ _ q10 hq10 (fun H locs cs ss ls hM hl => ?_) _ _ _ _ _ hM (lv_sub hl [2, 0] rfl)
  have hz := (Option.some.inj hF)
  subst hz
  exact crv S hM hr hlocks dX3_older_49
def lX3_dawn_21 (F : Nat) : Nat → HS → Nat → Int32 → Int32 → Option (HS)
  | 0, _, _, _, _ => none
  | n + 1, σ, y0, y1, y2 => (if 6 ≤ y2 then (some σ) else ((fR σ y0 3 3 2).bind fun a5 => ((fA σ a5 35 y1).bind fun a6 => ((fA σ a6 34 y2).bind fun a7 => gT σ y0 3 3 (((fX3_older F σ y0 a7).bind fun r8 => ((fR r8 y0 3 3 3).bind fun a9 => ((fA r8 a9 35 y1).bind fun a10 => ((fA r8 a10 34 y2).bind fun a11 => gT r8 y0 3 3 (((fX3_older F r8 y0 a11).bind fun r12 => lX3_dawn_21 F n r12 y0 y1 (y2 + 1))))))))))))
def lX3_dawn_12 (F : Nat) : Nat → HS → Nat → Int32 → Option (HS)
  | 0, _, _, _ => none
  | n + 1, σ, y0, y1 => (if 144 ≤ y1 then (some σ) else ((lX3_dawn_21 F F σ y0 y1 0).bind fun q13 => ((fR q13 y0 3 3 7).bind fun a14 => ((aI q13 a14 31 y1).bind fun v15 => (if v15 = (-1) then (lX3_dawn_12 F n q13 y0 (y1 + 1)) else ((fR q13 y0 3 3 7).bind fun a17 => ((aI q13 a17 31 y1).bind fun v18 => ((wI q13 a17 31 y1 (v18 + 1)).bind fun σ19 => ((fR σ19 y0 3 3 7).bind fun a20 => ((aI σ19 a20 31 y1).bind fun v21 => ((fR σ19 y0 3 3 0).bind fun a22 => ((oI σ19 a22 2 2 2).bind fun v23 => (if v21 = v23 then (gT σ19 y0 3 3 (((fX3_clean F σ19 y0 y1).bind fun r25 => lX3_dawn_12 F n r25 y0 (y1 + 1)))) else (lX3_dawn_12 F n σ19 y0 (y1 + 1)))))))))))))))
def fX3_dawn (F : Nat) (h0 : HS) (x0 : Nat) : Option (HS) := ((oI h0 x0 3 3 1).bind fun v1 => ((pI h0 x0 3 3 1 (v1 + 1)).bind fun σ2 => ((lX3_dawn_12 F F σ2 x0 0).bind fun q26 => some q26)))
theorem hyX3_dawn : yX3_dawn.cls ≠ "java/lang/invoke/MethodHandle" ∧ yX3_dawn.cls ≠ "java/lang/invoke/VarHandle" := by decide +kernel
theorem hlX3_dawn : (parseMethodDescriptor yX3_dawn.desc).map (fun d => d.parameters.length) = some 0 := by decide +kernel
set_option maxHeartbeats 4000000 in
set_option maxRecDepth 100000 in
theorem wlX3_dawn_21 {p : Program} {l : Launch} [NoTr l] {e : Env} {s : State} {m : MethodId} {args : Array Value} {below : List Frame} {meth : Method} {c : Code} {D : va_G} {h0 : HS} (S : CallFix p m c cX3_dawn 3 s args lw_all RX3) (hX : CX D (kG h0) s) (F : Nat) {Q : State → Prop} : ∀ (n : Nat) (σ : HS) (y0 : Nat) (y1 : Int32) (y2 : Int32) (out : HS), lX3_dawn_21 F n σ y0 y1 y2 = some out → (∀ (H : Heap) (locs : List Loc) (cs ss : Nat) (ls : Array Slot), HI D h0 out s.heap H locs cs ss → lv_has ls 3 [(0, .ref y0), (1, .int y1)] → W p l e (cR 2 45 h0) s m args below meth c H locs cs ss Q (F0 m 57 ls [])) → ∀ (H : Heap) (locs : List Loc) (cs ss : Nat) (ls : Array Slot), HI D h0 σ s.heap H locs cs ss → lv_has ls 3 [(0, .ref y0), (1, .int y1), (2, .int y2)] → W p l e (cR 2 45 h0) s m args below meth c H locs cs ss Q (F0 m 21 ls []) := by
  intro n
  induction n with
  | zero =>
    intro σ y0 y1 y2 out hF
    cases (show (none : Option _) = some out from hF)
  | succ n ih =>
    intro σ y0 y1 y2 out hF hk H locs cs ss ls hM hl
    rw [lX3_dawn_21] at hF
    obtain ⟨hx, hb, hml, hown, hts⟩ := id S
    refine lv_iload_n hx hb dX3_dawn_21 rfl (lv_at hl 2 rfl) ?_
    refine lv_bipush (v := 6) hx hb dX3_dawn_22 rfl ?_
    refine lv_icmp_ge (tgt := 57) hx hb dX3_dawn_24 (by decide) (fun c4 => ?_) (fun c4 => ?_)
    · have hF := ifp hF c4
      cases hF
      exact hk _ _ _ _ _ hM (lv_sub hl [0, 1] rfl)
    · have hF := ifn hF c4
      refine lv_aload_n hx hb dX3_dawn_27 rfl (lv_at hl 0 rfl) ?_
      refine lv_aload_n hx hb dX3_dawn_28 rfl (lv_at hl 0 rfl) ?_
      obtain ⟨a5, ea5, hF⟩ := obn hF
      refine cgn S hX hM ea5 ck_3_3_2 q257 (fun _ h => h) dX3_dawn_29 ?_
      refine lv_iload_n hx hb dX3_dawn_32 rfl (lv_at hl 1 rfl) ?_
      obtain ⟨a6, ea6, hF⟩ := obn hF
      refine can35 S hX hM ea6 dX3_dawn_33 ?_
      refine lv_iload_n hx hb dX3_dawn_34 rfl (lv_at hl 2 rfl) ?_
      obtain ⟨a7, ea7, hF⟩ := obn hF
      refine can34 S hX hM ea7 dX3_dawn_35 ?_
      obtain ⟨z8, hF⟩ := gTe hF
      obtain ⟨r8, er8, hF⟩ := obn hF
      refine ccr (rest := []) (st1 := []) S hX hM (metX3_older l F D σ y0 a7 r8 er8) (ci_V (C := "RugReader$Rug") (As := [.ref a7]) (rest := []) S q1192 q1194 qs18 q1195 hyX3_older (HI.cell (ci := 2) hX hM (by decide) (by omega)) hlX3_older rfl dX3_dawn_36) q1195 q108 (Nat.le_of_ble_eq_true rfl) (Nat.le_of_ble_eq_true rfl) hl.1 (Nat.le_of_ble_eq_true rfl) rfl (fun H locs cs ss hM => ?_)
      refine lv_aload_n hx hb dX3_dawn_39 rfl (lv_at hl 0 rfl) ?_
      refine lv_aload_n hx hb dX3_dawn_40 rfl (lv_at hl 0 rfl) ?_
      obtain ⟨a9, ea9, hF⟩ := obn hF
      refine cgn S hX hM ea9 ck_3_3_3 q258 (fun _ h => h) dX3_dawn_41 ?_
      refine lv_iload_n hx hb dX3_dawn_44 rfl (lv_at hl 1 rfl) ?_
      obtain ⟨a10, ea10, hF⟩ := obn hF
      refine can35 S hX hM ea10 dX3_dawn_45 ?_
      refine lv_iload_n hx hb dX3_dawn_46 rfl (lv_at hl 2 rfl) ?_
      obtain ⟨a11, ea11, hF⟩ := obn hF
      refine can34 S hX hM ea11 dX3_dawn_47 ?_
      obtain ⟨z12, hF⟩ := gTe hF
      obtain ⟨r12, er12, hF⟩ := obn hF
      refine ccr (rest := []) (st1 := []) S hX hM (metX3_older l F D r8 y0 a11 r12 er12) (ci_V (C := "RugReader$Rug") (As := [.ref a11]) (rest := []) S q1192 q1194 qs18 q1195 hyX3_older (HI.cell (ci := 2) hX hM (by decide) (by omega)) hlX3_older rfl dX3_dawn_48) q1195 q108 (Nat.le_of_ble_eq_true rfl) (Nat.le_of_ble_eq_true rfl) hl.1 (Nat.le_of_ble_eq_true rfl) rfl (fun H locs cs ss hM => ?_)
      refine lv_iinc (v := y2 + 1) (lv' := [(2, .int (y2 + 1)), (0, .ref y0), (1, .int y1)]) hx hb dX3_dawn_51 hl (k := 2) rfl rfl (by decide) rfl (fun ls hl => ?_)
      refine lv_goto (tgt := 21) hx hb dX3_dawn_54 (by decide) ?_
      exact ih _ _ _ _ out hF hk _ _ _ _ _ hM (lv_sub hl [1, 2, 0] rfl)
set_option maxHeartbeats 4000000 in
set_option maxRecDepth 100000 in
theorem wlX3_dawn_12 {p : Program} {l : Launch} [NoTr l] {e : Env} {s : State} {m : MethodId} {args : Array Value} {below : List Frame} {meth : Method} {c : Code} {D : va_G} {h0 : HS} (S : CallFix p m c cX3_dawn 3 s args lw_all RX3) (hX : CX D (kG h0) s) (F : Nat) {Q : State → Prop} : ∀ (n : Nat) (σ : HS) (y0 : Nat) (y1 : Int32) (out : HS), lX3_dawn_12 F n σ y0 y1 = some out → (∀ (H : Heap) (locs : List Loc) (cs ss : Nat) (ls : Array Slot), HI D h0 out s.heap H locs cs ss → lv_has ls 3 [] → W p l e (cR 2 45 h0) s m args below meth c H locs cs ss Q (F0 m 107 ls [])) → ∀ (H : Heap) (locs : List Loc) (cs ss : Nat) (ls : Array Slot), HI D h0 σ s.heap H locs cs ss → lv_has ls 3 [(0, .ref y0), (1, .int y1)] → W p l e (cR 2 45 h0) s m args below meth c H locs cs ss Q (F0 m 12 ls []) := by
  intro n
  induction n with
  | zero =>
    intro σ y0 y1 out hF
    cases (show (none : Option _) = some out from hF)
  | succ n ih =>
    intro σ y0 y1 out hF hk H locs cs ss ls hM hl
    rw [lX3_dawn_12] at hF
    obtain ⟨hx, hb, hml, hown, hts⟩ := id S
    refine lv_iload_n hx hb dX3_dawn_12 rfl (lv_at hl 1 rfl) ?_
    refine lv_sipush (v := 144) hx hb dX3_dawn_13 rfl ?_
    refine lv_icmp_ge (tgt := 107) hx hb dX3_dawn_16 (by decide) (fun c3 => ?_) (fun c3 => ?_)
    · have hF := ifp hF c3
      cases hF
      exact hk _ _ _ _ _ hM (lv_sub hl [] rfl)
    · have hF := ifn hF c3
      refine lv_iconst (v := 0) hx hb dX3_dawn_19 rfl ?_
      refine lv_istore_n (lv' := [(2, .int 0), (0, .ref y0), (1, .int y1)]) hx hb dX3_dawn_20 rfl hl (by decide) rfl (fun ls hl => ?_)
      obtain ⟨q13, hq13, hF⟩ := obn hF
      refine wlX3_dawn_21 S hX F  F _ _ _ _ q13 hq13 (fun H locs cs ss ls hM hl => ?_) _ _ _ _ _ hM (lv_sub hl [1, 2, 0] rfl)
      refine lv_aload_n hx hb dX3_dawn_57 rfl (lv_at hl 0 rfl) ?_
      obtain ⟨a14, ea14, hF⟩ := obn hF
      refine cgn S hX hM ea14 ck_3_3_7 q265 (fun _ h => h) dX3_dawn_58 ?_
      refine lv_iload_n hx hb dX3_dawn_61 rfl (lv_at hl 1 rfl) ?_
      obtain ⟨v15, ev15, hF⟩ := obn hF
      refine cai S hX hM ev15 dX3_dawn_62 ?_
      refine lv_iconst (v := (-1)) hx hb dX3_dawn_63 rfl ?_
      refine lv_icmp_ne (tgt := 70) hx hb dX3_dawn_64 (by decide) (fun c16 => ?_) (fun c16 => ?_)
      · have hF := ifn hF c16
        refine lv_aload_n hx hb dX3_dawn_70 rfl (lv_at hl 0 rfl) ?_
        obtain ⟨a17, ea17, hF⟩ := obn hF
        refine cgn S hX hM ea17 ck_3_3_7 q265 (fun _ h => h) dX3_dawn_71 ?_
        refine lv_iload_n hx hb dX3_dawn_74 rfl (lv_at hl 1 rfl) ?_
        refine lv_dup2_11 hx hb dX3_dawn_75 rfl rfl ?_
        obtain ⟨v18, ev18, hF⟩ := obn hF
        refine cai S hX hM ev18 dX3_dawn_76 ?_
        refine lv_iconst (v := 1) hx hb dX3_dawn_77 rfl ?_
        refine lv_iadd hx hb dX3_dawn_78 ?_
        obtain ⟨σ19, eσ19, hF⟩ := obn hF
        refine cwi S hX hM eσ19 dX3_dawn_79 (fun H locs hM => ?_)
        refine lv_aload_n hx hb dX3_dawn_80 rfl (lv_at hl 0 rfl) ?_
        obtain ⟨a20, ea20, hF⟩ := obn hF
        refine cgn S hX hM ea20 ck_3_3_7 q265 (fun _ h => h) dX3_dawn_81 ?_
        refine lv_iload_n hx hb dX3_dawn_84 rfl (lv_at hl 1 rfl) ?_
        obtain ⟨v21, ev21, hF⟩ := obn hF
        refine cai S hX hM ev21 dX3_dawn_85 ?_
        refine lv_aload_n hx hb dX3_dawn_86 rfl (lv_at hl 0 rfl) ?_
        obtain ⟨a22, ea22, hF⟩ := obn hF
        refine cgn S hX hM ea22 ck_3_3_0 q253 (fun _ h => h) dX3_dawn_87 ?_
        obtain ⟨v23, ev23, hF⟩ := obn hF
        refine cgiN S hX hM ev23 ck_2_2_2 (uq193 hX) dX3_dawn_90 ?_
        refine lv_icmp_ne (tgt := 101) hx hb dX3_dawn_93 (by decide) (fun c24 => ?_) (fun c24 => ?_)
        · have hF := ifn hF c24
          refine lv_iinc (v := y1 + 1) (lv' := [(1, .int (y1 + 1)), (0, .ref y0)]) hx hb dX3_dawn_101 hl (k := 1) rfl rfl (by decide) rfl (fun ls hl => ?_)
          refine lv_goto (tgt := 12) hx hb dX3_dawn_104 (by decide) ?_
          exact ih _ _ _ out hF hk _ _ _ _ _ hM (lv_sub hl [1, 0] rfl)
        · have hF := ifp hF c24
          refine lv_aload_n hx hb dX3_dawn_96 rfl (lv_at hl 0 rfl) ?_
          refine lv_iload_n hx hb dX3_dawn_97 rfl (lv_at hl 1 rfl) ?_
          obtain ⟨z25, hF⟩ := gTe hF
          obtain ⟨r25, er25, hF⟩ := obn hF
          refine ccr (rest := []) (st1 := []) S hX hM (metX3_clean l F D σ19 y0 y1 r25 er25) (ci_V (C := "RugReader$Rug") (As := [.int y1]) (rest := []) S q293 q294 q295 q296 hyX3_clean (HI.cell (ci := 2) hX hM (by decide) (by omega)) hlX3_clean rfl dX3_dawn_98) q296 q108 (Nat.le_of_ble_eq_true rfl) (Nat.le_of_ble_eq_true rfl) hl.1 (Nat.le_of_ble_eq_true rfl) rfl (fun H locs cs ss hM => ?_)
          refine lv_iinc (v := y1 + 1) (lv' := [(1, .int (y1 + 1)), (0, .ref y0)]) hx hb dX3_dawn_101 hl (k := 1) rfl rfl (by decide) rfl (fun ls hl => ?_)
          refine lv_goto (tgt := 12) hx hb dX3_dawn_104 (by decide) ?_
          exact ih _ _ _ out hF hk _ _ _ _ _ hM (lv_sub hl [1, 0] rfl)
      · have hF := ifp hF c16
        refine lv_goto (tgt := 101) hx hb dX3_dawn_67 (by decide) ?_
        refine lv_iinc (v := y1 + 1) (lv' := [(1, .int (y1 + 1)), (0, .ref y0)]) hx hb dX3_dawn_101 hl (k := 1) rfl rfl (by decide) rfl (fun ls hl => ?_)
        refine lv_goto (tgt := 12) hx hb dX3_dawn_104 (by decide) ?_
        exact ih _ _ _ out hF hk _ _ _ _ _ hM (lv_sub hl [1, 0] rfl)
set_option maxHeartbeats 4000000 in
set_option maxRecDepth 100000 in
theorem metX3_dawn (l : Launch) [NoTr l] (F : Nat) (D : va_G) (h0 : HS) (x0 : Nat) (r : HS) (hF : fX3_dawn F h0 x0 = some r) : CMet l yX3_dawn (ws_ yX3_dawn cX3_dawn 3 none) 2 45 D [.ref x0] h0 r (.inr none) := by
  refine CMet.ofW (by decide) ?_
  intro p e s m below meth c s₁ B S hX hM hr hlocks hnt hin
  obtain ⟨hx, hb, hml, hown, hts⟩ := id S
  have hl := lv_entry ([.ref x0]) (n := 3) (Nat.le_of_ble_eq_true rfl)
  rw [lg_entry_eq]
  generalize (lg_sl ([.ref x0]) ++ List.replicate (3 - (lg_sl ([.ref x0])).length) Slot.unset).toArray = ls at hl ⊢
  have hl : lv_has ls 3 [(0, .ref x0)] := hl
  unfold fX3_dawn at hF
  refine lv_aload_n hx hb dX3_dawn_0 rfl (lv_at hl 0 rfl) ?_
  refine lv_dup hx hb dX3_dawn_1 rfl ?_
  obtain ⟨v1, ev1, hF⟩ := obn hF
  refine cgi S hX hM ev1 ck_3_3_1 q255 (fun _ h => h) dX3_dawn_2 ?_
  refine lv_iconst (v := 1) hx hb dX3_dawn_5 rfl ?_
  refine lv_iadd hx hb dX3_dawn_6 ?_
  obtain ⟨σ2, eσ2, hF⟩ := obn hF
  refine cpi S hX hM eσ2 ck_3_3_1 cw_3_3_1 rfl rfl q255 (fun _ h => h) dX3_dawn_7 (fun H locs hM => ?_)
  refine lv_iconst (v := 0) hx hb dX3_dawn_10 rfl ?_
  refine lv_istore_n (lv' := [(1, .int 0), (0, .ref x0)]) hx hb dX3_dawn_11 rfl hl (by decide) rfl (fun ls hl => ?_)
  obtain ⟨q26, hq26, hF⟩ := obn hF
  refine wlX3_dawn_12 S hX F  F _ _ _ q26 hq26 (fun H locs cs ss ls hM hl => ?_) _ _ _ _ _ hM (lv_sub hl [1, 0] rfl)
  have hz := (Option.some.inj hF)
  subst hz
  exact crv S hM hr hlocks dX3_dawn_107
def lX1_days_33 (F : Nat) : Nat → HS → Nat → Int32 → Int32 → Option (HS)
  | 0, _, _, _, _ => none
  | n + 1, σ, y0, y1, y2 => (if y1 ≤ y2 then (some σ) else ((fR σ y0 1 1 4).bind fun a8 => gT σ a8 3 3 (((fX3_dawn F σ a8).bind fun r9 => lX1_days_33 F n r9 y0 y1 (y2 + 1)))))
def fX1_days (F : Nat) (h0 : HS) (x0 : Nat) (x1 : Int32) : Option (Int32 × HS) := (if (fX1_isIn x1 1 20) = 0 then (some ((-1), h0)) else ((fR h0 x0 1 1 4).bind fun a3 => ((oI h0 a3 3 3 1).bind fun v4 => (if (v4 + x1) ≤ 999 then (gT h0 x0 1 1 (((fX1_snap F h0 x0).bind fun r6 => ((lX1_days_33 F F r6 x0 x1 0).bind fun q10 => ((fR q10 x0 1 1 4).bind fun a11 => ((oI q10 a11 3 3 1).bind fun v12 => some (v12, q10))))))) else (some ((-1), h0))))))
theorem hyX1_days : yX1_days.cls ≠ "java/lang/invoke/MethodHandle" ∧ yX1_days.cls ≠ "java/lang/invoke/VarHandle" := by decide +kernel
theorem hlX1_days : (parseMethodDescriptor yX1_days.desc).map (fun d => d.parameters.length) = some 1 := by decide +kernel
set_option maxHeartbeats 4000000 in
set_option maxRecDepth 100000 in
theorem wlX1_days_33 {p : Program} {l : Launch} [NoTr l] {e : Env} {s : State} {m : MethodId} {args : Array Value} {below : List Frame} {meth : Method} {c : Code} {D : va_G} {h0 : HS} (S : CallFix p m c cX1_days 3 s args lw_all RX1) (hX : CX D (kG h0) s) (F : Nat) {Q : State → Prop} : ∀ (n : Nat) (σ : HS) (y0 : Nat) (y1 : Int32) (y2 : Int32) (out : HS), lX1_days_33 F n σ y0 y1 y2 = some out → (∀ (H : Heap) (locs : List Loc) (cs ss : Nat) (ls : Array Slot), HI D h0 out s.heap H locs cs ss → lv_has ls 3 [(0, .ref y0)] → W p l e (cR 4 126 h0) s m args below meth c H locs cs ss Q (F0 m 51 ls [])) → ∀ (H : Heap) (locs : List Loc) (cs ss : Nat) (ls : Array Slot), HI D h0 σ s.heap H locs cs ss → lv_has ls 3 [(0, .ref y0), (1, .int y1), (2, .int y2)] → W p l e (cR 4 126 h0) s m args below meth c H locs cs ss Q (F0 m 33 ls []) := by
  intro n
  induction n with
  | zero =>
    intro σ y0 y1 y2 out hF
    cases (show (none : Option _) = some out from hF)
  | succ n ih =>
    intro σ y0 y1 y2 out hF hk H locs cs ss ls hM hl
    rw [lX1_days_33] at hF
    obtain ⟨hx, hb, hml, hown, hts⟩ := id S
    refine lv_iload_n hx hb dX1_days_33 rfl (lv_at hl 2 rfl) ?_
    refine lv_iload_n hx hb dX1_days_34 rfl (lv_at hl 1 rfl) ?_
    refine lv_icmp_ge (tgt := 51) hx hb dX1_days_35 (by decide) (fun c7 => ?_) (fun c7 => ?_)
    · have hF := ifp hF c7
      cases hF
      exact hk _ _ _ _ _ hM (lv_sub hl [0] rfl)
    · have hF := ifn hF c7
      refine lv_aload_n hx hb dX1_days_38 rfl (lv_at hl 0 rfl) ?_
      obtain ⟨a8, ea8, hF⟩ := obn hF
      refine cgn S hX hM ea8 ck_1_1_4 q328 (fun _ h => h) dX1_days_39 ?_
      obtain ⟨z9, hF⟩ := gTe hF
      obtain ⟨r9, er9, hF⟩ := obn hF
      refine ccr (rest := []) (st1 := []) S hX hM (metX3_dawn l F D σ a8 r9 er9) (ci_V (C := "RugReader$Rug") (As := []) (rest := []) S q1188 q1189 q1190 q1191 hyX3_dawn (HI.cell (ci := 2) hX hM (by decide) (by omega)) hlX3_dawn rfl dX1_days_42) q1191 q108 (Nat.le_of_ble_eq_true rfl) (Nat.le_of_ble_eq_true rfl) hl.1 (Nat.le_of_ble_eq_true rfl) rfl (fun H locs cs ss hM => ?_)
      refine lv_iinc (v := y2 + 1) (lv' := [(2, .int (y2 + 1)), (0, .ref y0), (1, .int y1)]) hx hb dX1_days_45 hl (k := 2) rfl rfl (by decide) rfl (fun ls hl => ?_)
      refine lv_goto (tgt := 33) hx hb dX1_days_48 (by decide) ?_
      exact ih _ _ _ _ out hF hk _ _ _ _ _ hM (lv_sub hl [1, 2, 0] rfl)
set_option maxHeartbeats 4000000 in
set_option maxRecDepth 100000 in
theorem metX1_days (l : Launch) [NoTr l] (F : Nat) (D : va_G) (h0 : HS) (x0 : Nat) (x1 : Int32) (r : Int32 × HS) (hF : fX1_days F h0 x0 x1 = some r) : CMet l yX1_days (ws_ yX1_days cX1_days 3 (some .int)) 4 126 D [.ref x0, .int x1] h0 r.2 (.inr (some (.int r.1))) := by
  refine CMet.ofW (by decide) ?_
  intro p e s m below meth c s₁ B S hX hM hr hlocks hnt hin
  obtain ⟨hx, hb, hml, hown, hts⟩ := id S
  have hl := lv_entry ([.ref x0, .int x1]) (n := 3) (Nat.le_of_ble_eq_true rfl)
  rw [lg_entry_eq]
  generalize (lg_sl ([.ref x0, .int x1]) ++ List.replicate (3 - (lg_sl ([.ref x0, .int x1])).length) Slot.unset).toArray = ls at hl ⊢
  have hl : lv_has ls 3 [(0, .ref x0), (1, .int x1)] := hl
  unfold fX1_days at hF
  refine lv_iload_n hx hb dX1_days_0 rfl (lv_at hl 1 rfl) ?_
  refine lv_iconst (v := 1) hx hb dX1_days_1 rfl ?_
  refine lv_bipush (v := 20) hx hb dX1_days_2 rfl ?_
  refine ccr (rest := []) (st1 := [.int (fX1_isIn x1 1 20)]) S hX hM (metX1_isIn l D h0 x1 1 20 _ rfl) (ci_S (As := [.int x1, .int 1, .int 20]) (rest := []) S q1150 q821 q103 q822 hyX1_isIn hlX1_isIn rfl dX1_days_4) q822 q103 (Nat.le_of_ble_eq_true rfl) (Nat.le_of_ble_eq_true rfl) hl.1 (Nat.le_of_ble_eq_true rfl) rfl (fun H locs cs ss hM => ?_)
  refine lv_if_eq (tgt := 25) hx hb dX1_days_7 (by decide) (fun c2 => ?_) (fun c2 => ?_)
  · have hF := ifp hF c2
    refine lv_iconst (v := (-1)) hx hb dX1_days_25 rfl ?_
    have hz := (Option.some.inj hF)
    subst hz
    exact cri S hM hr hlocks dX1_days_26
  · have hF := ifn hF c2
    refine lv_aload_n hx hb dX1_days_10 rfl (lv_at hl 0 rfl) ?_
    obtain ⟨a3, ea3, hF⟩ := obn hF
    refine cgn S hX hM ea3 ck_1_1_4 q328 (fun _ h => h) dX1_days_11 ?_
    obtain ⟨v4, ev4, hF⟩ := obn hF
    refine cgiN S hX hM ev4 ck_3_3_1 (uq256 hX) dX1_days_14 ?_
    refine lv_iload_n hx hb dX1_days_17 rfl (lv_at hl 1 rfl) ?_
    refine lv_iadd hx hb dX1_days_18 ?_
    refine lv_sipush (v := 999) hx hb dX1_days_19 rfl ?_
    refine lv_icmp_le (tgt := 27) hx hb dX1_days_22 (by decide) (fun c5 => ?_) (fun c5 => ?_)
    · have hF := ifp hF c5
      refine lv_aload_n hx hb dX1_days_27 rfl (lv_at hl 0 rfl) ?_
      obtain ⟨z6, hF⟩ := gTe hF
      obtain ⟨r6, er6, hF⟩ := obn hF
      refine ccr (rest := []) (st1 := []) S hX hM (metX1_snap l F D h0 x0 r6 er6) (ci_V (C := "RugReader") (As := []) (rest := []) S q1161 q1163 qs17 q1164 hyX1_snap (HI.cell (ci := 0) hX hM (by decide) (by omega)) hlX1_snap rfl dX1_days_28) q1164 q103 (Nat.le_of_ble_eq_true rfl) (Nat.le_of_ble_eq_true rfl) hl.1 (Nat.le_of_ble_eq_true rfl) rfl (fun H locs cs ss hM => ?_)
      refine lv_iconst (v := 0) hx hb dX1_days_31 rfl ?_
      refine lv_istore_n (lv' := [(2, .int 0), (0, .ref x0), (1, .int x1)]) hx hb dX1_days_32 rfl hl (by decide) rfl (fun ls hl => ?_)
      obtain ⟨q10, hq10, hF⟩ := obn hF
      refine wlX1_days_33 S hX F  F _ _ _ _ q10 hq10 (fun H locs cs ss ls hM hl => ?_) _ _ _ _ _ hM (lv_sub hl [1, 2, 0] rfl)
      refine lv_aload_n hx hb dX1_days_51 rfl (lv_at hl 0 rfl) ?_
      obtain ⟨a11, ea11, hF⟩ := obn hF
      refine cgn S hX hM ea11 ck_1_1_4 q328 (fun _ h => h) dX1_days_52 ?_
      obtain ⟨v12, ev12, hF⟩ := obn hF
      refine cgiN S hX hM ev12 ck_3_3_1 (uq256 hX) dX1_days_55 ?_
      have hz := (Option.some.inj hF)
      subst hz
      exact cri S hM hr hlocks dX1_days_58
    · have hF := ifn hF c5
      refine lv_iconst (v := (-1)) hx hb dX1_days_25 rfl ?_
      have hz := (Option.some.inj hF)
      subst hz
      exact cri S hM hr hlocks dX1_days_26
def fX2_isTuft (F : Nat) (h0 : HS) (x0 : Nat) (x1 : Int32) : Option (Int32) := (if x1 < 0 then (some 0) else (gT h0 x0 2 2 (((fX2_isCell F h0 x0 (irm x1 12) (x1 / 12)).bind fun r2 => (if r2 = 0 then (some 0) else (some 1))))))
theorem hyX2_isTuft : yX2_isTuft.cls ≠ "java/lang/invoke/MethodHandle" ∧ yX2_isTuft.cls ≠ "java/lang/invoke/VarHandle" := by decide +kernel
theorem hlX2_isTuft : (parseMethodDescriptor yX2_isTuft.desc).map (fun d => d.parameters.length) = some 1 := by decide +kernel
set_option maxHeartbeats 4000000 in
set_option maxRecDepth 100000 in
theorem metX2_isTuft (l : Launch) [NoTr l] (F : Nat) (D : va_G) (h0 : HS) (x0 : Nat) (x1 : Int32) (r : Int32) (hF : fX2_isTuft F h0 x0 x1 = some r) : CMet l yX2_isTuft (ws_ yX2_isTuft cX2_isTuft 2 (some .boolean)) 2 44 D [.ref x0, .int x1] h0 h0 (.inr (some (.int r))) := by
  refine CMet.ofW (by decide) ?_
  intro p e s m below meth c s₁ B S hX hM hr hlocks hnt hin
  obtain ⟨hx, hb, hml, hown, hts⟩ := id S
  have hl := lv_entry ([.ref x0, .int x1]) (n := 2) (Nat.le_of_ble_eq_true rfl)
  rw [lg_entry_eq]
  generalize (lg_sl ([.ref x0, .int x1]) ++ List.replicate (2 - (lg_sl ([.ref x0, .int x1])).length) Slot.unset).toArray = ls at hl ⊢
  have hl : lv_has ls 2 [(0, .ref x0), (1, .int x1)] := hl
  unfold fX2_isTuft at hF
  refine lv_iload_n hx hb dX2_isTuft_0 rfl (lv_at hl 1 rfl) ?_
  refine lv_if_lt (tgt := 23) hx hb dX2_isTuft_1 (by decide) (fun c1 => ?_) (fun c1 => ?_)
  · have hF := ifp hF c1
    refine lv_iconst (v := 0) hx hb dX2_isTuft_23 rfl ?_
    have hz := (Option.some.inj hF)
    subst hz
    exact crz S hM hr hlocks (gBn gB0) dX2_isTuft_24
  · have hF := ifn hF c1
    refine lv_aload_n hx hb dX2_isTuft_4 rfl (lv_at hl 0 rfl) ?_
    refine lv_iload_n hx hb dX2_isTuft_5 rfl (lv_at hl 1 rfl) ?_
    refine lv_bipush (v := 12) hx hb dX2_isTuft_6 rfl ?_
    refine lv_irem hx hb dX2_isTuft_8 (by decide) ?_
    refine lv_iload_n hx hb dX2_isTuft_9 rfl (lv_at hl 1 rfl) ?_
    refine lv_bipush (v := 12) hx hb dX2_isTuft_10 rfl ?_
    refine lv_idiv hx hb dX2_isTuft_12 (by decide) ?_
    obtain ⟨z2, hF⟩ := gTe hF
    obtain ⟨r2, er2, hF⟩ := obn hF
    refine ccr (rest := []) (st1 := [.int r2]) S hX hM (metX2_isCell l F D h0 x0 (irm x1 12) (x1 / 12) r2 er2) (ci_V (C := "RugReader$House") (As := [.int (irm x1 12), .int (x1 / 12)]) (rest := []) S q1117 q1118 q1119 q1120 hyX2_isCell (HI.cell (ci := 1) hX hM (by decide) (by omega)) hlX2_isCell rfl dX2_isTuft_13) q1120 q104 (Nat.le_of_ble_eq_true rfl) (Nat.le_of_ble_eq_true rfl) hl.1 (Nat.le_of_ble_eq_true rfl) rfl (fun H locs cs ss hM => ?_)
    refine lv_if_eq (tgt := 23) hx hb dX2_isTuft_16 (by decide) (fun c3 => ?_) (fun c3 => ?_)
    · have hF := ifp hF c3
      refine lv_iconst (v := 0) hx hb dX2_isTuft_23 rfl ?_
      have hz := (Option.some.inj hF)
      subst hz
      exact crz S hM hr hlocks (gBn gB0) dX2_isTuft_24
    · have hF := ifn hF c3
      refine lv_iconst (v := 1) hx hb dX2_isTuft_19 rfl ?_
      refine lv_goto (tgt := 24) hx hb dX2_isTuft_20 (by decide) ?_
      have hz := (Option.some.inj hF)
      subst hz
      exact crz S hM hr hlocks (gBn gB1) dX2_isTuft_24
def lX1_beat_72 (F : Nat) : Nat → HS → Nat → Int32 → Int32 → Int32 → Int32 → Int32 → Option (HS × Int32)
  | 0, _, _, _, _, _, _, _ => none
  | n + 1, σ, y0, y1, y2, y3, y4, y5 => (if (imax (irm y1 12) (irm y2 12)) < y5 then (some (σ, y3)) else ((fR σ y0 1 1 4).bind fun a16 => ((fR σ a16 3 3 7).bind fun a17 => ((aI σ a17 31 ((12 * y4) + y5)).bind fun v18 => (lt_ (if v18 = (-1) then y3 else (y3 + 1)) fun q19 => ((fR σ y0 1 1 4).bind fun a21 => gT σ a21 3 3 (((fX3_clean F σ a21 ((12 * y4) + y5)).bind fun r22 => lX1_beat_72 F n r22 y0 y1 y2 q19 y4 (y5 + 1)))))))))
def lX1_beat_43 (F : Nat) : Nat → HS → Nat → Int32 → Int32 → Int32 → Int32 → Option (HS × Int32)
  | 0, _, _, _, _, _, _ => none
  | n + 1, σ, y0, y1, y2, y3, y4 => (if (imax (y1 / 12) (y2 / 12)) < y4 then (some (σ, y3)) else (lt_ (imin (irm y1 12) (irm y2 12)) fun u13 => ((lX1_beat_72 F F σ y0 y1 y2 y3 y4 u13).bind fun q23 => lX1_beat_43 F n q23.1 y0 y1 y2 q23.2 (y4 + 1))))
def fX1_beat (F : Nat) (h0 : HS) (x0 : Nat) (x1 : Int32) (x2 : Int32) : Option (Int32 × HS) := ((fR h0 x0 1 1 3).bind fun a1 => gT h0 a1 2 2 (((fX2_isTuft F h0 a1 x1).bind fun r2 => (if r2 = 0 then (some ((-1), h0)) else ((fR h0 x0 1 1 3).bind fun a4 => gT h0 a4 2 2 (((fX2_isTuft F h0 a4 x2).bind fun r5 => (if r5 = 0 then (some ((-1), h0)) else (gT h0 x0 1 1 (((fX1_snap F h0 x0).bind fun r7 => lt_ (imin (x1 / 12) (x2 / 12)) fun u9 => ((lX1_beat_43 F F r7 x0 x1 x2 0 u9).bind fun q24 => some (q24.2, q24.1)))))))))))))
theorem hyX1_beat : yX1_beat.cls ≠ "java/lang/invoke/MethodHandle" ∧ yX1_beat.cls ≠ "java/lang/invoke/VarHandle" := by decide +kernel
theorem hlX1_beat : (parseMethodDescriptor yX1_beat.desc).map (fun d => d.parameters.length) = some 2 := by decide +kernel
set_option maxHeartbeats 4000000 in
set_option maxRecDepth 100000 in
theorem wlX1_beat_72 {p : Program} {l : Launch} [NoTr l] {e : Env} {s : State} {m : MethodId} {args : Array Value} {below : List Frame} {meth : Method} {c : Code} {D : va_G} {h0 : HS} (S : CallFix p m c cX1_beat 6 s args lw_all RX1) (hX : CX D (kG h0) s) (F : Nat) {Q : State → Prop} : ∀ (n : Nat) (σ : HS) (y0 : Nat) (y1 : Int32) (y2 : Int32) (y3 : Int32) (y4 : Int32) (y5 : Int32) (out : HS × Int32), lX1_beat_72 F n σ y0 y1 y2 y3 y4 y5 = some out → (∀ (H : Heap) (locs : List Loc) (cs ss : Nat) (ls : Array Slot), HI D h0 out.1 s.heap H locs cs ss → lv_has ls 6 [(0, .ref y0), (1, .int y1), (2, .int y2), (3, .int out.2), (4, .int y4)] → W p l e (cR 4 126 h0) s m args below meth c H locs cs ss Q (F0 m 132 ls [])) → ∀ (H : Heap) (locs : List Loc) (cs ss : Nat) (ls : Array Slot), HI D h0 σ s.heap H locs cs ss → lv_has ls 6 [(0, .ref y0), (1, .int y1), (2, .int y2), (3, .int y3), (4, .int y4), (5, .int y5)] → W p l e (cR 4 126 h0) s m args below meth c H locs cs ss Q (F0 m 72 ls []) := by
  intro n
  induction n with
  | zero =>
    intro σ y0 y1 y2 y3 y4 y5 out hF
    cases (show (none : Option _) = some out from hF)
  | succ n ih =>
    intro σ y0 y1 y2 y3 y4 y5 out hF hk H locs cs ss ls hM hl
    rw [lX1_beat_72] at hF
    obtain ⟨hx, hb, hml, hown, hts⟩ := id S
    refine lv_iload hx hb dX1_beat_72 (lv_at hl 5 rfl) ?_
    refine lv_iload_n hx hb dX1_beat_74 rfl (lv_at hl 1 rfl) ?_
    refine lv_bipush (v := 12) hx hb dX1_beat_75 rfl ?_
    refine lv_irem hx hb dX1_beat_77 (by decide) ?_
    refine lv_iload_n hx hb dX1_beat_78 rfl (lv_at hl 2 rfl) ?_
    refine lv_bipush (v := 12) hx hb dX1_beat_79 rfl ?_
    refine lv_irem hx hb dX1_beat_81 (by decide) ?_
    refine cmmax S hM q1205 q568 q119 q569 (Nat.le_of_ble_eq_true rfl) (Nat.le_of_ble_eq_true rfl) hl.1 (Nat.le_of_ble_eq_true rfl) dX1_beat_82 ?_
    refine lv_icmp_gt (tgt := 132) hx hb dX1_beat_85 (by decide) (fun c15 => ?_) (fun c15 => ?_)
    · have hF := ifp hF c15
      cases hF
      exact hk _ _ _ _ _ hM (lv_sub hl [0, 1, 2, 3, 4] rfl)
    · have hF := ifn hF c15
      refine lv_aload_n hx hb dX1_beat_88 rfl (lv_at hl 0 rfl) ?_
      obtain ⟨a16, ea16, hF⟩ := obn hF
      refine cgn S hX hM ea16 ck_1_1_4 q328 (fun _ h => h) dX1_beat_89 ?_
      obtain ⟨a17, ea17, hF⟩ := obn hF
      refine cgnN S hX hM ea17 ck_3_3_7 (uq266 hX) dX1_beat_92 ?_
      refine lv_bipush (v := 12) hx hb dX1_beat_95 rfl ?_
      refine lv_iload hx hb dX1_beat_97 (lv_at hl 4 rfl) ?_
      refine lv_imul hx hb dX1_beat_99 ?_
      refine lv_iload hx hb dX1_beat_100 (lv_at hl 5 rfl) ?_
      refine lv_iadd hx hb dX1_beat_102 ?_
      obtain ⟨v18, ev18, hF⟩ := obn hF
      refine cai S hX hM ev18 dX1_beat_103 ?_
      refine lv_iconst (v := (-1)) hx hb dX1_beat_104 rfl ?_
      obtain ⟨q19, hq19, hF⟩ := lte hF
      refine cjn (I := HI D h0 σ s.heap) (nJ := 6) (lvJ := [(0, .ref y0), (1, .int y1), (2, .int y2), (3, .int q19), (4, .int y4), (5, .int y5)]) (J := 111) (stJ := []) ?_ ?_
      · intro H locs cs ss ls hM hl
        refine lv_aload_n hx hb dX1_beat_111 rfl (lv_at hl 0 rfl) ?_
        obtain ⟨a21, ea21, hF⟩ := obn hF
        refine cgn S hX hM ea21 ck_1_1_4 q328 (fun _ h => h) dX1_beat_112 ?_
        refine lv_bipush (v := 12) hx hb dX1_beat_115 rfl ?_
        refine lv_iload hx hb dX1_beat_117 (lv_at hl 4 rfl) ?_
        refine lv_imul hx hb dX1_beat_119 ?_
        refine lv_iload hx hb dX1_beat_120 (lv_at hl 5 rfl) ?_
        refine lv_iadd hx hb dX1_beat_122 ?_
        obtain ⟨z22, hF⟩ := gTe hF
        obtain ⟨r22, er22, hF⟩ := obn hF
        refine ccr (rest := []) (st1 := []) S hX hM (metX3_clean l F D σ a21 ((12 * y4) + y5) r22 er22) (ci_V (C := "RugReader$Rug") (As := [.int ((12 * y4) + y5)]) (rest := []) S q1206 q294 q295 q296 hyX3_clean (HI.cell (ci := 2) hX hM (by decide) (by omega)) hlX3_clean rfl dX1_beat_123) q296 q108 (Nat.le_of_ble_eq_true rfl) (Nat.le_of_ble_eq_true rfl) hl.1 (Nat.le_of_ble_eq_true rfl) rfl (fun H locs cs ss hM => ?_)
        refine lv_iinc (v := y5 + 1) (lv' := [(5, .int (y5 + 1)), (0, .ref y0), (1, .int y1), (2, .int y2), (3, .int q19), (4, .int y4)]) hx hb dX1_beat_126 hl (k := 5) rfl rfl (by decide) rfl (fun ls hl => ?_)
        refine lv_goto (tgt := 72) hx hb dX1_beat_129 (by decide) ?_
        exact ih _ _ _ _ _ _ _ out hF hk _ _ _ _ _ hM (lv_sub hl [1, 2, 3, 4, 5, 0] rfl)
      · intro hJq19
        refine lv_icmp_eq (tgt := 111) hx hb dX1_beat_105 (by decide) (fun c20 => ?_) (fun c20 => ?_)
        · have hq19 := ifp hq19 c20
          subst hq19
          exact hJq19 _ _ _ _ _ hM (lv_sub hl [0, 1, 2, 3, 4, 5] rfl)
        · have hq19 := ifn hq19 c20
          refine lv_iinc (v := y3 + 1) (lv' := [(3, .int (y3 + 1)), (0, .ref y0), (1, .int y1), (2, .int y2), (4, .int y4), (5, .int y5)]) hx hb dX1_beat_108 hl (k := 3) rfl rfl (by decide) rfl (fun ls hl => ?_)
          subst hq19
          exact hJq19 _ _ _ _ _ hM (lv_sub hl [1, 2, 3, 0, 4, 5] rfl)
set_option maxHeartbeats 4000000 in
set_option maxRecDepth 100000 in
theorem wlX1_beat_43 {p : Program} {l : Launch} [NoTr l] {e : Env} {s : State} {m : MethodId} {args : Array Value} {below : List Frame} {meth : Method} {c : Code} {D : va_G} {h0 : HS} (S : CallFix p m c cX1_beat 6 s args lw_all RX1) (hX : CX D (kG h0) s) (F : Nat) {Q : State → Prop} : ∀ (n : Nat) (σ : HS) (y0 : Nat) (y1 : Int32) (y2 : Int32) (y3 : Int32) (y4 : Int32) (out : HS × Int32), lX1_beat_43 F n σ y0 y1 y2 y3 y4 = some out → (∀ (H : Heap) (locs : List Loc) (cs ss : Nat) (ls : Array Slot), HI D h0 out.1 s.heap H locs cs ss → lv_has ls 6 [(3, .int out.2)] → W p l e (cR 4 126 h0) s m args below meth c H locs cs ss Q (F0 m 138 ls [])) → ∀ (H : Heap) (locs : List Loc) (cs ss : Nat) (ls : Array Slot), HI D h0 σ s.heap H locs cs ss → lv_has ls 6 [(0, .ref y0), (1, .int y1), (2, .int y2), (3, .int y3), (4, .int y4)] → W p l e (cR 4 126 h0) s m args below meth c H locs cs ss Q (F0 m 43 ls []) := by
  intro n
  induction n with
  | zero =>
    intro σ y0 y1 y2 y3 y4 out hF
    cases (show (none : Option _) = some out from hF)
  | succ n ih =>
    intro σ y0 y1 y2 y3 y4 out hF hk H locs cs ss ls hM hl
    rw [lX1_beat_43] at hF
    obtain ⟨hx, hb, hml, hown, hts⟩ := id S
    refine lv_iload hx hb dX1_beat_43 (lv_at hl 4 rfl) ?_
    refine lv_iload_n hx hb dX1_beat_45 rfl (lv_at hl 1 rfl) ?_
    refine lv_bipush (v := 12) hx hb dX1_beat_46 rfl ?_
    refine lv_idiv hx hb dX1_beat_48 (by decide) ?_
    refine lv_iload_n hx hb dX1_beat_49 rfl (lv_at hl 2 rfl) ?_
    refine lv_bipush (v := 12) hx hb dX1_beat_50 rfl ?_
    refine lv_idiv hx hb dX1_beat_52 (by decide) ?_
    refine cmmax S hM q1205 q568 q119 q569 (Nat.le_of_ble_eq_true rfl) (Nat.le_of_ble_eq_true rfl) hl.1 (Nat.le_of_ble_eq_true rfl) dX1_beat_53 ?_
    refine lv_icmp_gt (tgt := 138) hx hb dX1_beat_56 (by decide) (fun c11 => ?_) (fun c11 => ?_)
    · have hF := ifp hF c11
      cases hF
      exact hk _ _ _ _ _ hM (lv_sub hl [3] rfl)
    · have hF := ifn hF c11
      refine lv_iload_n hx hb dX1_beat_59 rfl (lv_at hl 1 rfl) ?_
      refine lv_bipush (v := 12) hx hb dX1_beat_60 rfl ?_
      refine lv_irem hx hb dX1_beat_62 (by decide) ?_
      refine lv_iload_n hx hb dX1_beat_63 rfl (lv_at hl 2 rfl) ?_
      refine lv_bipush (v := 12) hx hb dX1_beat_64 rfl ?_
      refine lv_irem hx hb dX1_beat_66 (by decide) ?_
      refine cmmin S hM q1204 q586 q119 q587 (Nat.le_of_ble_eq_true rfl) (Nat.le_of_ble_eq_true rfl) hl.1 (Nat.le_of_ble_eq_true rfl) dX1_beat_67 ?_
      obtain ⟨u13, eu13, hF⟩ := lte hF
      refine mr_top eu13 ?_
      refine lv_istore (lv' := [(5, .int u13), (0, .ref y0), (1, .int y1), (2, .int y2), (3, .int y3), (4, .int y4)]) hx hb dX1_beat_70 hl (by decide) rfl (fun ls hl => ?_)
      obtain ⟨q23, hq23, hF⟩ := obn hF
      refine wlX1_beat_72 S hX F  F _ _ _ _ _ _ _ q23 hq23 (fun H locs cs ss ls hM hl => ?_) _ _ _ _ _ hM (lv_sub hl [1, 2, 3, 4, 5, 0] rfl)
      refine lv_iinc (v := y4 + 1) (lv' := [(4, .int (y4 + 1)), (0, .ref y0), (1, .int y1), (2, .int y2), (3, .int q23.2)]) hx hb dX1_beat_132 hl (k := 4) rfl rfl (by decide) rfl (fun ls hl => ?_)
      refine lv_goto (tgt := 43) hx hb dX1_beat_135 (by decide) ?_
      exact ih _ _ _ _ _ _ out hF hk _ _ _ _ _ hM (lv_sub hl [1, 2, 3, 4, 0] rfl)
set_option maxHeartbeats 4000000 in
set_option maxRecDepth 100000 in
theorem metX1_beat (l : Launch) [NoTr l] (F : Nat) (D : va_G) (h0 : HS) (x0 : Nat) (x1 : Int32) (x2 : Int32) (r : Int32 × HS) (hF : fX1_beat F h0 x0 x1 x2 = some r) : CMet l yX1_beat (ws_ yX1_beat cX1_beat 6 (some .int)) 4 126 D [.ref x0, .int x1, .int x2] h0 r.2 (.inr (some (.int r.1))) := by
  refine CMet.ofW (by decide) ?_
  intro p e s m below meth c s₁ B S hX hM hr hlocks hnt hin
  obtain ⟨hx, hb, hml, hown, hts⟩ := id S
  have hl := lv_entry ([.ref x0, .int x1, .int x2]) (n := 6) (Nat.le_of_ble_eq_true rfl)
  rw [lg_entry_eq]
  generalize (lg_sl ([.ref x0, .int x1, .int x2]) ++ List.replicate (6 - (lg_sl ([.ref x0, .int x1, .int x2])).length) Slot.unset).toArray = ls at hl ⊢
  have hl : lv_has ls 6 [(0, .ref x0), (1, .int x1), (2, .int x2)] := hl
  unfold fX1_beat at hF
  refine lv_aload_n hx hb dX1_beat_0 rfl (lv_at hl 0 rfl) ?_
  obtain ⟨a1, ea1, hF⟩ := obn hF
  refine cgn S hX hM ea1 ck_1_1_3 q327 (fun _ h => h) dX1_beat_1 ?_
  refine lv_iload_n hx hb dX1_beat_4 rfl (lv_at hl 1 rfl) ?_
  obtain ⟨z2, hF⟩ := gTe hF
  obtain ⟨r2, er2, hF⟩ := obn hF
  refine ccr (rest := []) (st1 := [.int r2]) S hX hM (metX2_isTuft l F D h0 a1 x1 r2 er2) (ci_V (C := "RugReader$House") (As := [.int x1]) (rest := []) S q1200 q1201 q1202 q1203 hyX2_isTuft (HI.cell (ci := 1) hX hM (by decide) (by omega)) hlX2_isTuft rfl dX1_beat_5) q1203 q104 (Nat.le_of_ble_eq_true rfl) (Nat.le_of_ble_eq_true rfl) hl.1 (Nat.le_of_ble_eq_true rfl) rfl (fun H locs cs ss hM => ?_)
  refine lv_if_eq (tgt := 22) hx hb dX1_beat_8 (by decide) (fun c3 => ?_) (fun c3 => ?_)
  · have hF := ifp hF c3
    refine lv_iconst (v := (-1)) hx hb dX1_beat_22 rfl ?_
    have hz := (Option.some.inj hF)
    subst hz
    exact cri S hM hr hlocks dX1_beat_23
  · have hF := ifn hF c3
    refine lv_aload_n hx hb dX1_beat_11 rfl (lv_at hl 0 rfl) ?_
    obtain ⟨a4, ea4, hF⟩ := obn hF
    refine cgn S hX hM ea4 ck_1_1_3 q327 (fun _ h => h) dX1_beat_12 ?_
    refine lv_iload_n hx hb dX1_beat_15 rfl (lv_at hl 2 rfl) ?_
    obtain ⟨z5, hF⟩ := gTe hF
    obtain ⟨r5, er5, hF⟩ := obn hF
    refine ccr (rest := []) (st1 := [.int r5]) S hX hM (metX2_isTuft l F D h0 a4 x2 r5 er5) (ci_V (C := "RugReader$House") (As := [.int x2]) (rest := []) S q1200 q1201 q1202 q1203 hyX2_isTuft (HI.cell (ci := 1) hX hM (by decide) (by omega)) hlX2_isTuft rfl dX1_beat_16) q1203 q104 (Nat.le_of_ble_eq_true rfl) (Nat.le_of_ble_eq_true rfl) hl.1 (Nat.le_of_ble_eq_true rfl) rfl (fun H locs cs ss hM => ?_)
    refine lv_if_ne (tgt := 24) hx hb dX1_beat_19 (by decide) (fun c6 => ?_) (fun c6 => ?_)
    · have hF := ifn hF c6
      refine lv_aload_n hx hb dX1_beat_24 rfl (lv_at hl 0 rfl) ?_
      obtain ⟨z7, hF⟩ := gTe hF
      obtain ⟨r7, er7, hF⟩ := obn hF
      refine ccr (rest := []) (st1 := []) S hX hM (metX1_snap l F D h0 x0 r7 er7) (ci_V (C := "RugReader") (As := []) (rest := []) S q1161 q1163 qs17 q1164 hyX1_snap (HI.cell (ci := 0) hX hM (by decide) (by omega)) hlX1_snap rfl dX1_beat_25) q1164 q103 (Nat.le_of_ble_eq_true rfl) (Nat.le_of_ble_eq_true rfl) hl.1 (Nat.le_of_ble_eq_true rfl) rfl (fun H locs cs ss hM => ?_)
      refine lv_iconst (v := 0) hx hb dX1_beat_28 rfl ?_
      refine lv_istore_n (lv' := [(3, .int 0), (0, .ref x0), (1, .int x1), (2, .int x2)]) hx hb dX1_beat_29 rfl hl (by decide) rfl (fun ls hl => ?_)
      refine lv_iload_n hx hb dX1_beat_30 rfl (lv_at hl 2 rfl) ?_
      refine lv_bipush (v := 12) hx hb dX1_beat_31 rfl ?_
      refine lv_idiv hx hb dX1_beat_33 (by decide) ?_
      refine lv_iload_n hx hb dX1_beat_34 rfl (lv_at hl 3 rfl) ?_
      refine lv_bipush (v := 12) hx hb dX1_beat_35 rfl ?_
      refine lv_idiv hx hb dX1_beat_37 (by decide) ?_
      refine cmmin S hM q1204 q586 q119 q587 (Nat.le_of_ble_eq_true rfl) (Nat.le_of_ble_eq_true rfl) hl.1 (Nat.le_of_ble_eq_true rfl) dX1_beat_38 ?_
      obtain ⟨u9, eu9, hF⟩ := lte hF
      refine mr_top eu9 ?_
      refine lv_istore (lv' := [(4, .int u9), (3, .int 0), (0, .ref x0), (1, .int x1), (2, .int x2)]) hx hb dX1_beat_41 hl (by decide) rfl (fun ls hl => ?_)
      obtain ⟨q24, hq24, hF⟩ := obn hF
      refine wlX1_beat_43 S hX F  F _ _ _ _ _ _ q24 hq24 (fun H locs cs ss ls hM hl => ?_) _ _ _ _ _ hM (lv_sub hl [2, 3, 4, 1, 0] rfl)
      refine lv_iload_n hx hb dX1_beat_138 rfl (lv_at hl 0 rfl) ?_
      have hz := (Option.some.inj hF)
      subst hz
      exact cri S hM hr hlocks dX1_beat_139
    · have hF := ifp hF c6
      refine lv_iconst (v := (-1)) hx hb dX1_beat_22 rfl ?_
      have hz := (Option.some.inj hF)
      subst hz
      exact cri S hM hr hlocks dX1_beat_23
def fX1_undo (F : Nat) (h0 : HS) (x0 : Nat) : Option (Int32 × HS) := ((oI h0 x0 1 1 7).bind fun v1 => (if v1 = 0 then (some ((-1), h0)) else ((oI h0 x0 1 1 7).bind fun v3 => ((pI h0 x0 1 1 7 (v3 - 1)).bind fun σ4 => ((fR σ4 x0 1 1 4).bind fun a5 => ((fR σ4 x0 1 1 6).bind fun a6 => ((oI σ4 x0 1 1 7).bind fun v7 => ((fA σ4 a6 36 v7).bind fun a8 => gT σ4 a5 3 3 (((fX3_as F σ4 a5 a8).bind fun r9 => ((oI r9.2 x0 1 1 7).bind fun v10 => some (v10, r9.2))))))))))))
theorem hyX1_undo : yX1_undo.cls ≠ "java/lang/invoke/MethodHandle" ∧ yX1_undo.cls ≠ "java/lang/invoke/VarHandle" := by decide +kernel
theorem hlX1_undo : (parseMethodDescriptor yX1_undo.desc).map (fun d => d.parameters.length) = some 0 := by decide +kernel
set_option maxHeartbeats 4000000 in
set_option maxRecDepth 100000 in
theorem metX1_undo (l : Launch) [NoTr l] (F : Nat) (D : va_G) (h0 : HS) (x0 : Nat) (r : Int32 × HS) (hF : fX1_undo F h0 x0 = some r) : CMet l yX1_undo (ws_ yX1_undo cX1_undo 1 (some .int)) 3 104 D [.ref x0] h0 r.2 (.inr (some (.int r.1))) := by
  refine CMet.ofW (by decide) ?_
  intro p e s m below meth c s₁ B S hX hM hr hlocks hnt hin
  obtain ⟨hx, hb, hml, hown, hts⟩ := id S
  have hl := lv_entry ([.ref x0]) (n := 1) (Nat.le_of_ble_eq_true rfl)
  rw [lg_entry_eq]
  generalize (lg_sl ([.ref x0]) ++ List.replicate (1 - (lg_sl ([.ref x0])).length) Slot.unset).toArray = ls at hl ⊢
  have hl : lv_has ls 1 [(0, .ref x0)] := hl
  unfold fX1_undo at hF
  refine lv_aload_n hx hb dX1_undo_0 rfl (lv_at hl 0 rfl) ?_
  obtain ⟨v1, ev1, hF⟩ := obn hF
  refine cgi S hX hM ev1 ck_1_1_7 q331 (fun _ h => h) dX1_undo_1 ?_
  refine lv_if_ne (tgt := 9) hx hb dX1_undo_4 (by decide) (fun c2 => ?_) (fun c2 => ?_)
  · have hF := ifn hF c2
    refine lv_aload_n hx hb dX1_undo_9 rfl (lv_at hl 0 rfl) ?_
    refine lv_dup hx hb dX1_undo_10 rfl ?_
    obtain ⟨v3, ev3, hF⟩ := obn hF
    refine cgi S hX hM ev3 ck_1_1_7 q331 (fun _ h => h) dX1_undo_11 ?_
    refine lv_iconst (v := 1) hx hb dX1_undo_14 rfl ?_
    refine lv_isub hx hb dX1_undo_15 ?_
    obtain ⟨σ4, eσ4, hF⟩ := obn hF
    refine cpi S hX hM eσ4 ck_1_1_7 cw_1_1_7 rfl rfl q331 (fun _ h => h) dX1_undo_16 (fun H locs hM => ?_)
    refine lv_aload_n hx hb dX1_undo_19 rfl (lv_at hl 0 rfl) ?_
    obtain ⟨a5, ea5, hF⟩ := obn hF
    refine cgn S hX hM ea5 ck_1_1_4 q328 (fun _ h => h) dX1_undo_20 ?_
    refine lv_aload_n hx hb dX1_undo_23 rfl (lv_at hl 0 rfl) ?_
    obtain ⟨a6, ea6, hF⟩ := obn hF
    refine cgn S hX hM ea6 ck_1_1_6 q330 (fun _ h => h) dX1_undo_24 ?_
    refine lv_aload_n hx hb dX1_undo_27 rfl (lv_at hl 0 rfl) ?_
    obtain ⟨v7, ev7, hF⟩ := obn hF
    refine cgi S hX hM ev7 ck_1_1_7 q331 (fun _ h => h) dX1_undo_28 ?_
    obtain ⟨a8, ea8, hF⟩ := obn hF
    refine can36 S hX hM ea8 dX1_undo_31 ?_
    obtain ⟨z9, hF⟩ := gTe hF
    obtain ⟨r9, er9, hF⟩ := obn hF
    refine ccr (rest := []) (st1 := [.ref r9.1]) S hX hM (metX3_as l F D σ4 a5 a8 r9 er9) (ci_V (C := "RugReader$Rug") (As := [.ref a8]) (rest := []) S q1165 q1166 q1167 q1168 hyX3_as (HI.cell (ci := 2) hX hM (by decide) (by omega)) hlX3_as rfl dX1_undo_32) q1168 q108 (Nat.le_of_ble_eq_true rfl) (Nat.le_of_ble_eq_true rfl) hl.1 (Nat.le_of_ble_eq_true rfl) rfl (fun H locs cs ss hM => ?_)
    refine lv_pop hx hb dX1_undo_35 rfl ?_
    refine lv_aload_n hx hb dX1_undo_36 rfl (lv_at hl 0 rfl) ?_
    obtain ⟨v10, ev10, hF⟩ := obn hF
    refine cgi S hX hM ev10 ck_1_1_7 q331 (fun _ h => h) dX1_undo_37 ?_
    have hz := (Option.some.inj hF)
    subst hz
    exact cri S hM hr hlocks dX1_undo_40
  · have hF := ifp hF c2
    refine lv_iconst (v := (-1)) hx hb dX1_undo_7 rfl ?_
    have hz := (Option.some.inj hF)
    subst hz
    exact cri S hM hr hlocks dX1_undo_8
def lX3_depthOf_21 (F : Nat) (σ : HS) : Nat → Nat → Nat → Int32 → Int32 → Int32 → Option (Int32)
  | 0, _, _, _, _, _ => none
  | n + 1, y0, y1, y2, y3, y4 => ((fR σ y0 3 3 0).bind fun a5 => ((oI σ a5 2 2 2).bind fun v6 => (if v6 ≤ y4 then (some y2) else ((fA σ y1 34 y3).bind fun a8 => ((aI σ a8 31 y4).bind fun v9 => ((fR σ y0 3 3 0).bind fun a10 => ((fR σ a10 2 2 5).bind fun a11 => gT σ a11 15 15 (((fJ2_get F σ a11 y3).bind fun r12 => gT σ r12 9 9 (((oI σ r12 9 9 1).bind fun v14 => ((fR σ y0 3 3 0).bind fun a15 => ((oI σ a15 2 2 2).bind fun v16 => lt_ (y2 + ((v9 * v14) * (v16 - y4))) fun u17 => lX3_depthOf_21 F σ n y0 y1 u17 y3 (y4 + 1))))))))))))))
def lX3_depthOf_4 (F : Nat) (σ : HS) : Nat → Nat → Nat → Int32 → Int32 → Option (Int32)
  | 0, _, _, _, _ => none
  | n + 1, y0, y1, y2, y3 => ((fR σ y0 3 3 0).bind fun a1 => ((fR σ a1 2 2 5).bind fun a2 => gT σ a2 15 15 (((fJ2_size F σ a2).bind fun r3 => (if r3 ≤ y3 then (some y2) else ((lX3_depthOf_21 F σ F y0 y1 y2 y3 0).bind fun q18 => lX3_depthOf_4 F σ n y0 y1 q18 (y3 + 1)))))))
def fX3_depthOf (F : Nat) (h0 : HS) (x0 : Nat) (x1 : Nat) : Option (Int32) := ((lX3_depthOf_4 F h0 F x0 x1 0 0).bind fun q19 => some q19)
theorem hyX3_depthOf : yX3_depthOf.cls ≠ "java/lang/invoke/MethodHandle" ∧ yX3_depthOf.cls ≠ "java/lang/invoke/VarHandle" := by decide +kernel
theorem hlX3_depthOf : (parseMethodDescriptor yX3_depthOf.desc).map (fun d => d.parameters.length) = some 1 := by decide +kernel
set_option maxHeartbeats 4000000 in
set_option maxRecDepth 100000 in
theorem wlX3_depthOf_21 {p : Program} {l : Launch} [NoTr l] {e : Env} {s : State} {m : MethodId} {args : Array Value} {below : List Frame} {meth : Method} {c : Code} {D : va_G} {h0 : HS} (S : CallFix p m c cX3_depthOf 5 s args lw_all RX3) (hX : CX D (kG h0) s) (σ : HS) (F : Nat) {Q : State → Prop} : ∀ (n : Nat) (y0 : Nat) (y1 : Nat) (y2 : Int32) (y3 : Int32) (y4 : Int32) (out : Int32), lX3_depthOf_21 F σ n y0 y1 y2 y3 y4 = some out → (∀ (H : Heap) (locs : List Loc) (cs ss : Nat) (ls : Array Slot), HI D h0 σ s.heap H locs cs ss → lv_has ls 5 [(0, .ref y0), (1, .ref y1), (2, .int out), (3, .int y3)] → W p l e (cR 3 64 h0) s m args below meth c H locs cs ss Q (F0 m 77 ls [])) → ∀ (H : Heap) (locs : List Loc) (cs ss : Nat) (ls : Array Slot), HI D h0 σ s.heap H locs cs ss → lv_has ls 5 [(0, .ref y0), (1, .ref y1), (2, .int y2), (3, .int y3), (4, .int y4)] → W p l e (cR 3 64 h0) s m args below meth c H locs cs ss Q (F0 m 21 ls []) := by
  intro n
  induction n with
  | zero =>
    intro y0 y1 y2 y3 y4 out hF
    cases (show (none : Option _) = some out from hF)
  | succ n ih =>
    intro y0 y1 y2 y3 y4 out hF hk H locs cs ss ls hM hl
    rw [lX3_depthOf_21] at hF
    obtain ⟨hx, hb, hml, hown, hts⟩ := id S
    refine lv_iload hx hb dX3_depthOf_21 (lv_at hl 4 rfl) ?_
    refine lv_aload_n hx hb dX3_depthOf_23 rfl (lv_at hl 0 rfl) ?_
    obtain ⟨a5, ea5, hF⟩ := obn hF
    refine cgn S hX hM ea5 ck_3_3_0 q253 (fun _ h => h) dX3_depthOf_24 ?_
    obtain ⟨v6, ev6, hF⟩ := obn hF
    refine cgiN S hX hM ev6 ck_2_2_2 (uq193 hX) dX3_depthOf_27 ?_
    refine lv_icmp_ge (tgt := 77) hx hb dX3_depthOf_30 (by decide) (fun c7 => ?_) (fun c7 => ?_)
    · have hF := ifp hF c7
      cases hF
      exact hk _ _ _ _ _ hM (lv_sub hl [0, 1, 2, 3] rfl)
    · have hF := ifn hF c7
      refine lv_iload_n hx hb dX3_depthOf_33 rfl (lv_at hl 2 rfl) ?_
      refine lv_aload_n hx hb dX3_depthOf_34 rfl (lv_at hl 1 rfl) ?_
      refine lv_iload_n hx hb dX3_depthOf_35 rfl (lv_at hl 3 rfl) ?_
      obtain ⟨a8, ea8, hF⟩ := obn hF
      refine can34 S hX hM ea8 dX3_depthOf_36 ?_
      refine lv_iload hx hb dX3_depthOf_37 (lv_at hl 4 rfl) ?_
      obtain ⟨v9, ev9, hF⟩ := obn hF
      refine cai S hX hM ev9 dX3_depthOf_39 ?_
      refine lv_aload_n hx hb dX3_depthOf_40 rfl (lv_at hl 0 rfl) ?_
      obtain ⟨a10, ea10, hF⟩ := obn hF
      refine cgn S hX hM ea10 ck_3_3_0 q253 (fun _ h => h) dX3_depthOf_41 ?_
      obtain ⟨a11, ea11, hF⟩ := obn hF
      refine cgnN S hX hM ea11 ck_2_2_5 (uq203 hX) dX3_depthOf_44 ?_
      refine lv_iload_n hx hb dX3_depthOf_47 rfl (lv_at hl 3 rfl) ?_
      obtain ⟨z12, hF⟩ := gTe hF
      obtain ⟨r12, er12, hF⟩ := obn hF
      refine ccr (rest := [.int v9, .int y2]) (st1 := [.ref r12, .int v9, .int y2]) S hX hM (metJ2_get l F D σ a11 y3 r12 er12) (ci_V (C := "java/util/ArrayList") (As := [.int y3]) (rest := [.int v9, .int y2]) S q1177 q925 q926 q927 hyJ2_get (HI.cell (ci := 14) hX hM (by decide) (by omega)) hlJ2_get rfl dX3_depthOf_48) q927 q107 (Nat.le_of_ble_eq_true rfl) (Nat.le_of_ble_eq_true rfl) hl.1 (Nat.le_of_ble_eq_true rfl) rfl (fun H locs cs ss hM => ?_)
      obtain ⟨z13, hF⟩ := gTe hF
      refine ccs (ci := 8) S hX hM (by decide) (by omega) q1179 dX3_depthOf_51 ?_
      obtain ⟨v14, ev14, hF⟩ := obn hF
      refine cgiN S hX hM ev14 ck_9_9_1 (uq948 hX) dX3_depthOf_54 ?_
      refine lv_imul hx hb dX3_depthOf_57 ?_
      refine lv_aload_n hx hb dX3_depthOf_58 rfl (lv_at hl 0 rfl) ?_
      obtain ⟨a15, ea15, hF⟩ := obn hF
      refine cgn S hX hM ea15 ck_3_3_0 q253 (fun _ h => h) dX3_depthOf_59 ?_
      obtain ⟨v16, ev16, hF⟩ := obn hF
      refine cgiN S hX hM ev16 ck_2_2_2 (uq193 hX) dX3_depthOf_62 ?_
      refine lv_iload hx hb dX3_depthOf_65 (lv_at hl 4 rfl) ?_
      refine lv_isub hx hb dX3_depthOf_67 ?_
      refine lv_imul hx hb dX3_depthOf_68 ?_
      refine lv_iadd hx hb dX3_depthOf_69 ?_
      obtain ⟨u17, eu17, hF⟩ := lte hF
      refine mr_top eu17 ?_
      refine lv_istore_n (lv' := [(2, .int u17), (0, .ref y0), (1, .ref y1), (3, .int y3), (4, .int y4)]) hx hb dX3_depthOf_70 rfl hl (by decide) rfl (fun ls hl => ?_)
      refine lv_iinc (v := y4 + 1) (lv' := [(4, .int (y4 + 1)), (2, .int u17), (0, .ref y0), (1, .ref y1), (3, .int y3)]) hx hb dX3_depthOf_71 hl (k := 4) rfl rfl (by decide) rfl (fun ls hl => ?_)
      refine lv_goto (tgt := 21) hx hb dX3_depthOf_74 (by decide) ?_
      exact ih _ _ _ _ _ out hF hk _ _ _ _ _ hM (lv_sub hl [2, 3, 1, 4, 0] rfl)
set_option maxHeartbeats 4000000 in
set_option maxRecDepth 100000 in
theorem wlX3_depthOf_4 {p : Program} {l : Launch} [NoTr l] {e : Env} {s : State} {m : MethodId} {args : Array Value} {below : List Frame} {meth : Method} {c : Code} {D : va_G} {h0 : HS} (S : CallFix p m c cX3_depthOf 5 s args lw_all RX3) (hX : CX D (kG h0) s) (σ : HS) (F : Nat) {Q : State → Prop} : ∀ (n : Nat) (y0 : Nat) (y1 : Nat) (y2 : Int32) (y3 : Int32) (out : Int32), lX3_depthOf_4 F σ n y0 y1 y2 y3 = some out → (∀ (H : Heap) (locs : List Loc) (cs ss : Nat) (ls : Array Slot), HI D h0 σ s.heap H locs cs ss → lv_has ls 5 [(2, .int out)] → W p l e (cR 3 64 h0) s m args below meth c H locs cs ss Q (F0 m 83 ls [])) → ∀ (H : Heap) (locs : List Loc) (cs ss : Nat) (ls : Array Slot), HI D h0 σ s.heap H locs cs ss → lv_has ls 5 [(0, .ref y0), (1, .ref y1), (2, .int y2), (3, .int y3)] → W p l e (cR 3 64 h0) s m args below meth c H locs cs ss Q (F0 m 4 ls []) := by
  intro n
  induction n with
  | zero =>
    intro y0 y1 y2 y3 out hF
    cases (show (none : Option _) = some out from hF)
  | succ n ih =>
    intro y0 y1 y2 y3 out hF hk H locs cs ss ls hM hl
    rw [lX3_depthOf_4] at hF
    obtain ⟨hx, hb, hml, hown, hts⟩ := id S
    refine lv_iload_n hx hb dX3_depthOf_4 rfl (lv_at hl 3 rfl) ?_
    refine lv_aload_n hx hb dX3_depthOf_5 rfl (lv_at hl 0 rfl) ?_
    obtain ⟨a1, ea1, hF⟩ := obn hF
    refine cgn S hX hM ea1 ck_3_3_0 q253 (fun _ h => h) dX3_depthOf_6 ?_
    obtain ⟨a2, ea2, hF⟩ := obn hF
    refine cgnN S hX hM ea2 ck_2_2_5 (uq203 hX) dX3_depthOf_9 ?_
    obtain ⟨z3, hF⟩ := gTe hF
    obtain ⟨r3, er3, hF⟩ := obn hF
    refine ccr (rest := [.int y3]) (st1 := [.int r3, .int y3]) S hX hM (metJ2_size l F D σ a2 r3 er3) (ci_V (C := "java/util/ArrayList") (As := []) (rest := [.int y3]) S q1223 q830 q831 q832 hyJ2_size (HI.cell (ci := 14) hX hM (by decide) (by omega)) hlJ2_size rfl dX3_depthOf_12) q832 q107 (Nat.le_of_ble_eq_true rfl) (Nat.le_of_ble_eq_true rfl) hl.1 (Nat.le_of_ble_eq_true rfl) rfl (fun H locs cs ss hM => ?_)
    refine lv_icmp_ge (tgt := 83) hx hb dX3_depthOf_15 (by decide) (fun c4 => ?_) (fun c4 => ?_)
    · have hF := ifp hF c4
      cases hF
      exact hk _ _ _ _ _ hM (lv_sub hl [2] rfl)
    · have hF := ifn hF c4
      refine lv_iconst (v := 0) hx hb dX3_depthOf_18 rfl ?_
      refine lv_istore (lv' := [(4, .int 0), (0, .ref y0), (1, .ref y1), (2, .int y2), (3, .int y3)]) hx hb dX3_depthOf_19 hl (by decide) rfl (fun ls hl => ?_)
      obtain ⟨q18, hq18, hF⟩ := obn hF
      refine wlX3_depthOf_21 S hX _ F  F _ _ _ _ _ q18 hq18 (fun H locs cs ss ls hM hl => ?_) _ _ _ _ _ hM (lv_sub hl [1, 2, 3, 4, 0] rfl)
      refine lv_iinc (v := y3 + 1) (lv' := [(3, .int (y3 + 1)), (0, .ref y0), (1, .ref y1), (2, .int q18)]) hx hb dX3_depthOf_77 hl (k := 3) rfl rfl (by decide) rfl (fun ls hl => ?_)
      refine lv_goto (tgt := 4) hx hb dX3_depthOf_80 (by decide) ?_
      exact ih _ _ _ _ out hF hk _ _ _ _ _ hM (lv_sub hl [1, 2, 3, 0] rfl)
set_option maxHeartbeats 4000000 in
set_option maxRecDepth 100000 in
theorem metX3_depthOf (l : Launch) [NoTr l] (F : Nat) (D : va_G) (h0 : HS) (x0 : Nat) (x1 : Nat) (r : Int32) (hF : fX3_depthOf F h0 x0 x1 = some r) : CMet l yX3_depthOf (ws_ yX3_depthOf cX3_depthOf 5 (some .int)) 3 64 D [.ref x0, .ref x1] h0 h0 (.inr (some (.int r))) := by
  refine CMet.ofW (by decide) ?_
  intro p e s m below meth c s₁ B S hX hM hr hlocks hnt hin
  obtain ⟨hx, hb, hml, hown, hts⟩ := id S
  have hl := lv_entry ([.ref x0, .ref x1]) (n := 5) (Nat.le_of_ble_eq_true rfl)
  rw [lg_entry_eq]
  generalize (lg_sl ([.ref x0, .ref x1]) ++ List.replicate (5 - (lg_sl ([.ref x0, .ref x1])).length) Slot.unset).toArray = ls at hl ⊢
  have hl : lv_has ls 5 [(0, .ref x0), (1, .ref x1)] := hl
  unfold fX3_depthOf at hF
  refine lv_iconst (v := 0) hx hb dX3_depthOf_0 rfl ?_
  refine lv_istore_n (lv' := [(2, .int 0), (0, .ref x0), (1, .ref x1)]) hx hb dX3_depthOf_1 rfl hl (by decide) rfl (fun ls hl => ?_)
  refine lv_iconst (v := 0) hx hb dX3_depthOf_2 rfl ?_
  refine lv_istore_n (lv' := [(3, .int 0), (2, .int 0), (0, .ref x0), (1, .ref x1)]) hx hb dX3_depthOf_3 rfl hl (by decide) rfl (fun ls hl => ?_)
  obtain ⟨q19, hq19, hF⟩ := obn hF
  refine wlX3_depthOf_4 S hX _ F  F _ _ _ _ q19 hq19 (fun H locs cs ss ls hM hl => ?_) _ _ _ _ _ hM (lv_sub hl [2, 3, 1, 0] rfl)
  refine lv_iload_n hx hb dX3_depthOf_83 rfl (lv_at hl 0 rfl) ?_
  have hz := (Option.some.inj hF)
  subst hz
  exact cri S hM hr hlocks dX3_depthOf_84
def fX3_depth (F : Nat) (h0 : HS) (x0 : Nat) (x1 : Int32) : Option (Int32) := ((fR h0 x0 3 3 2).bind fun a1 => ((fA h0 a1 35 x1).bind fun a2 => gT h0 x0 3 3 (((fX3_depthOf F h0 x0 a2).bind fun r3 => some r3))))
theorem hyX3_depth : yX3_depth.cls ≠ "java/lang/invoke/MethodHandle" ∧ yX3_depth.cls ≠ "java/lang/invoke/VarHandle" := by decide +kernel
theorem hlX3_depth : (parseMethodDescriptor yX3_depth.desc).map (fun d => d.parameters.length) = some 1 := by decide +kernel
set_option maxHeartbeats 4000000 in
set_option maxRecDepth 100000 in
theorem metX3_depth (l : Launch) [NoTr l] (F : Nat) (D : va_G) (h0 : HS) (x0 : Nat) (x1 : Int32) (r : Int32) (hF : fX3_depth F h0 x0 x1 = some r) : CMet l yX3_depth (ws_ yX3_depth cX3_depth 2 (some .int)) 4 88 D [.ref x0, .int x1] h0 h0 (.inr (some (.int r))) := by
  refine CMet.ofW (by decide) ?_
  intro p e s m below meth c s₁ B S hX hM hr hlocks hnt hin
  obtain ⟨hx, hb, hml, hown, hts⟩ := id S
  have hl := lv_entry ([.ref x0, .int x1]) (n := 2) (Nat.le_of_ble_eq_true rfl)
  rw [lg_entry_eq]
  generalize (lg_sl ([.ref x0, .int x1]) ++ List.replicate (2 - (lg_sl ([.ref x0, .int x1])).length) Slot.unset).toArray = ls at hl ⊢
  have hl : lv_has ls 2 [(0, .ref x0), (1, .int x1)] := hl
  unfold fX3_depth at hF
  refine lv_aload_n hx hb dX3_depth_0 rfl (lv_at hl 0 rfl) ?_
  refine lv_aload_n hx hb dX3_depth_1 rfl (lv_at hl 0 rfl) ?_
  obtain ⟨a1, ea1, hF⟩ := obn hF
  refine cgn S hX hM ea1 ck_3_3_2 q257 (fun _ h => h) dX3_depth_2 ?_
  refine lv_iload_n hx hb dX3_depth_5 rfl (lv_at hl 1 rfl) ?_
  obtain ⟨a2, ea2, hF⟩ := obn hF
  refine can35 S hX hM ea2 dX3_depth_6 ?_
  obtain ⟨z3, hF⟩ := gTe hF
  obtain ⟨r3, er3, hF⟩ := obn hF
  refine ccr (rest := []) (st1 := [.int r3]) S hX hM (metX3_depthOf l F D h0 x0 a2 r3 er3) (ci_V (C := "RugReader$Rug") (As := [.ref a2]) (rest := []) S q1219 q1221 qs19 q1222 hyX3_depthOf (HI.cell (ci := 2) hX hM (by decide) (by omega)) hlX3_depthOf rfl dX3_depth_7) q1222 q108 (Nat.le_of_ble_eq_true rfl) (Nat.le_of_ble_eq_true rfl) hl.1 (Nat.le_of_ble_eq_true rfl) rfl (fun H locs cs ss hM => ?_)
  have hz := (Option.some.inj hF)
  subst hz
  exact cri S hM hr hlocks dX3_depth_10
def fX3_missing (F : Nat) (h0 : HS) (x0 : Nat) (x1 : Int32) : Option (Int32) := ((fR h0 x0 3 3 3).bind fun a1 => ((fA h0 a1 35 x1).bind fun a2 => gT h0 x0 3 3 (((fX3_depthOf F h0 x0 a2).bind fun r3 => gT h0 x0 3 3 (((fX3_depth F h0 x0 x1).bind fun r4 => some (r3 - r4)))))))
theorem hyX3_missing : yX3_missing.cls ≠ "java/lang/invoke/MethodHandle" ∧ yX3_missing.cls ≠ "java/lang/invoke/VarHandle" := by decide +kernel
theorem hlX3_missing : (parseMethodDescriptor yX3_missing.desc).map (fun d => d.parameters.length) = some 1 := by decide +kernel
set_option maxHeartbeats 4000000 in
set_option maxRecDepth 100000 in
theorem metX3_missing (l : Launch) [NoTr l] (F : Nat) (D : va_G) (h0 : HS) (x0 : Nat) (x1 : Int32) (r : Int32) (hF : fX3_missing F h0 x0 x1 = some r) : CMet l yX3_missing (ws_ yX3_missing cX3_missing 2 (some .int)) 5 109 D [.ref x0, .int x1] h0 h0 (.inr (some (.int r))) := by
  refine CMet.ofW (by decide) ?_
  intro p e s m below meth c s₁ B S hX hM hr hlocks hnt hin
  obtain ⟨hx, hb, hml, hown, hts⟩ := id S
  have hl := lv_entry ([.ref x0, .int x1]) (n := 2) (Nat.le_of_ble_eq_true rfl)
  rw [lg_entry_eq]
  generalize (lg_sl ([.ref x0, .int x1]) ++ List.replicate (2 - (lg_sl ([.ref x0, .int x1])).length) Slot.unset).toArray = ls at hl ⊢
  have hl : lv_has ls 2 [(0, .ref x0), (1, .int x1)] := hl
  unfold fX3_missing at hF
  refine lv_aload_n hx hb dX3_missing_0 rfl (lv_at hl 0 rfl) ?_
  refine lv_aload_n hx hb dX3_missing_1 rfl (lv_at hl 0 rfl) ?_
  obtain ⟨a1, ea1, hF⟩ := obn hF
  refine cgn S hX hM ea1 ck_3_3_3 q258 (fun _ h => h) dX3_missing_2 ?_
  refine lv_iload_n hx hb dX3_missing_5 rfl (lv_at hl 1 rfl) ?_
  obtain ⟨a2, ea2, hF⟩ := obn hF
  refine can35 S hX hM ea2 dX3_missing_6 ?_
  obtain ⟨z3, hF⟩ := gTe hF
  obtain ⟨r3, er3, hF⟩ := obn hF
  refine ccr (rest := []) (st1 := [.int r3]) S hX hM (metX3_depthOf l F D h0 x0 a2 r3 er3) (ci_V (C := "RugReader$Rug") (As := [.ref a2]) (rest := []) S q1219 q1221 qs19 q1222 hyX3_depthOf (HI.cell (ci := 2) hX hM (by decide) (by omega)) hlX3_depthOf rfl dX3_missing_7) q1222 q108 (Nat.le_of_ble_eq_true rfl) (Nat.le_of_ble_eq_true rfl) hl.1 (Nat.le_of_ble_eq_true rfl) rfl (fun H locs cs ss hM => ?_)
  refine lv_aload_n hx hb dX3_missing_10 rfl (lv_at hl 0 rfl) ?_
  refine lv_iload_n hx hb dX3_missing_11 rfl (lv_at hl 1 rfl) ?_
  obtain ⟨z4, hF⟩ := gTe hF
  obtain ⟨r4, er4, hF⟩ := obn hF
  refine ccr (rest := [.int r3]) (st1 := [.int r4, .int r3]) S hX hM (metX3_depth l F D h0 x0 x1 r4 er4) (ci_V (C := "RugReader$Rug") (As := [.int x1]) (rest := [.int r3]) S q1224 q1225 q1226 q1227 hyX3_depth (HI.cell (ci := 2) hX hM (by decide) (by omega)) hlX3_depth rfl dX3_missing_12) q1227 q108 (Nat.le_of_ble_eq_true rfl) (Nat.le_of_ble_eq_true rfl) hl.1 (Nat.le_of_ble_eq_true rfl) rfl (fun H locs cs ss hM => ?_)
  refine lv_isub hx hb dX3_missing_15 ?_
  have hz := (Option.some.inj hF)
  subst hz
  exact cri S hM hr hlocks dX3_missing_16
def lX1_hidden_4 (F : Nat) (σ : HS) : Nat → Nat → Int32 → Int32 → Int32 → Option ((Int32) ⊕ (Int32))
  | 0, _, _, _, _ => none
  | n + 1, y0, y1, y2, y3 => (if 144 ≤ y3 then (some (.inl y2)) else ((fR σ y0 1 1 4).bind fun a2 => gT σ a2 3 3 (((fX3_missing F σ a2 y3).bind fun r3 => (if r3 = 0 then (lX1_hidden_4 F σ n y0 y1 y2 (y3 + 1)) else (if y2 = y1 then (some (.inr y3)) else (lX1_hidden_4 F σ n y0 y1 (y2 + 1) (y3 + 1))))))))
def fX1_hidden (F : Nat) (h0 : HS) (x0 : Nat) (x1 : Int32) : Option (Int32) := (osm (lX1_hidden_4 F h0 F x0 x1 0 0) id fun q6 => (if x1 = (-1) then (some q6) else (some (-1))))
theorem hyX1_hidden : yX1_hidden.cls ≠ "java/lang/invoke/MethodHandle" ∧ yX1_hidden.cls ≠ "java/lang/invoke/VarHandle" := by decide +kernel
theorem hlX1_hidden : (parseMethodDescriptor yX1_hidden.desc).map (fun d => d.parameters.length) = some 1 := by decide +kernel
set_option maxHeartbeats 4000000 in
set_option maxRecDepth 100000 in
theorem wlX1_hidden_4 {p : Program} {l : Launch} [NoTr l] {e : Env} {s : State} {m : MethodId} {args : Array Value} {below : List Frame} {meth : Method} {c : Code} {D : va_G} {h0 : HS} (S : CallFix p m c cX1_hidden 4 s args lw_all RX1) (hX : CX D (kG h0) s) (σ : HS) (hr : meth.sig.returnType = (some .int)) (hlocks : meth.locks = false) (hnt : ∀ x ∈ c.exceptionTable.toList, False) (F : Nat) (res : Int32) : ∀ (n : Nat) (y0 : Nat) (y1 : Int32) (y2 : Int32) (y3 : Int32) (out : (Int32) ⊕ (Int32)), lX1_hidden_4 F σ n y0 y1 y2 y3 = some out → (∀ v, out = .inr v → v = res) → (∀ o, out = .inl o → ∀ (H : Heap) (locs : List Loc) (cs ss : Nat) (ls : Array Slot), HI D h0 σ s.heap H locs cs ss → lv_has ls 4 [(1, .int y1), (2, .int o)] → W p l e (cR 6 130 h0) s m args below meth c H locs cs ss (cMQ below D h0 σ (.inr (some (.int res))) args s) (F0 m 41 ls [])) → ∀ (H : Heap) (locs : List Loc) (cs ss : Nat) (ls : Array Slot), HI D h0 σ s.heap H locs cs ss → lv_has ls 4 [(0, .ref y0), (1, .int y1), (2, .int y2), (3, .int y3)] → W p l e (cR 6 130 h0) s m args below meth c H locs cs ss (cMQ below D h0 σ (.inr (some (.int res))) args s) (F0 m 4 ls []) := by
  intro n
  induction n with
  | zero =>
    intro y0 y1 y2 y3 out hF
    cases (show (none : Option _) = some out from hF)
  | succ n ih =>
    intro y0 y1 y2 y3 out hF hv hk H locs cs ss ls hM hl
    rw [lX1_hidden_4] at hF
    obtain ⟨hx, hb, hml, hown, hts⟩ := id S
    refine lv_iload_n hx hb dX1_hidden_4 rfl (lv_at hl 3 rfl) ?_
    refine lv_sipush (v := 144) hx hb dX1_hidden_5 rfl ?_
    refine lv_icmp_ge (tgt := 41) hx hb dX1_hidden_8 (by decide) (fun c1 => ?_) (fun c1 => ?_)
    · have hF := ifp hF c1
      cases hF
      exact hk _ rfl _ _ _ _ _ hM (lv_sub hl [1, 2] rfl)
    · have hF := ifn hF c1
      refine lv_aload_n hx hb dX1_hidden_11 rfl (lv_at hl 0 rfl) ?_
      obtain ⟨a2, ea2, hF⟩ := obn hF
      refine cgn S hX hM ea2 ck_1_1_4 q328 (fun _ h => h) dX1_hidden_12 ?_
      refine lv_iload_n hx hb dX1_hidden_15 rfl (lv_at hl 3 rfl) ?_
      obtain ⟨z3, hF⟩ := gTe hF
      obtain ⟨r3, er3, hF⟩ := obn hF
      refine ccr (rest := []) (st1 := [.int r3]) S hX hM (metX3_missing l F D σ a2 y3 r3 er3) (ci_V (C := "RugReader$Rug") (As := [.int y3]) (rest := []) S q1215 q1216 q1217 q1218 hyX3_missing (HI.cell (ci := 2) hX hM (by decide) (by omega)) hlX3_missing rfl dX1_hidden_16) q1218 q108 (Nat.le_of_ble_eq_true rfl) (Nat.le_of_ble_eq_true rfl) hl.1 (Nat.le_of_ble_eq_true rfl) rfl (fun H locs cs ss hM => ?_)
      refine lv_if_ne (tgt := 25) hx hb dX1_hidden_19 (by decide) (fun c4 => ?_) (fun c4 => ?_)
      · have hF := ifn hF c4
        refine lv_iload_n hx hb dX1_hidden_25 rfl (lv_at hl 2 rfl) ?_
        refine lv_iload_n hx hb dX1_hidden_26 rfl (lv_at hl 1 rfl) ?_
        refine lv_icmp_ne (tgt := 32) hx hb dX1_hidden_27 (by decide) (fun c5 => ?_) (fun c5 => ?_)
        · have hF := ifn hF c5
          refine lv_iinc (v := y2 + 1) (lv' := [(2, .int (y2 + 1)), (0, .ref y0), (1, .int y1), (3, .int y3)]) hx hb dX1_hidden_32 hl (k := 2) rfl rfl (by decide) rfl (fun ls hl => ?_)
          refine lv_iinc (v := y3 + 1) (lv' := [(3, .int (y3 + 1)), (2, .int (y2 + 1)), (0, .ref y0), (1, .int y1)]) hx hb dX1_hidden_35 hl (k := 3) rfl rfl (by decide) rfl (fun ls hl => ?_)
          refine lv_goto (tgt := 4) hx hb dX1_hidden_38 (by decide) ?_
          exact ih _ _ _ _ out hF hv hk _ _ _ _ _ hM (lv_sub hl [2, 3, 1, 0] rfl)
        · have hF := ifp hF c5
          refine lv_iload_n hx hb dX1_hidden_30 rfl (lv_at hl 3 rfl) ?_
          have hz := (hv _ ((Option.some.inj hF)).symm)
          subst hz
          exact cri S hM hr hlocks dX1_hidden_31
      · have hF := ifp hF c4
        refine lv_goto (tgt := 35) hx hb dX1_hidden_22 (by decide) ?_
        refine lv_iinc (v := y3 + 1) (lv' := [(3, .int (y3 + 1)), (0, .ref y0), (1, .int y1), (2, .int y2)]) hx hb dX1_hidden_35 hl (k := 3) rfl rfl (by decide) rfl (fun ls hl => ?_)
        refine lv_goto (tgt := 4) hx hb dX1_hidden_38 (by decide) ?_
        exact ih _ _ _ _ out hF hv hk _ _ _ _ _ hM (lv_sub hl [1, 2, 3, 0] rfl)
set_option maxHeartbeats 4000000 in
set_option maxRecDepth 100000 in
theorem metX1_hidden (l : Launch) [NoTr l] (F : Nat) (D : va_G) (h0 : HS) (x0 : Nat) (x1 : Int32) (r : Int32) (hF : fX1_hidden F h0 x0 x1 = some r) : CMet l yX1_hidden (ws_ yX1_hidden cX1_hidden 4 (some .int)) 6 130 D [.ref x0, .int x1] h0 h0 (.inr (some (.int r))) := by
  refine CMet.ofW (by decide) ?_
  intro p e s m below meth c s₁ B S hX hM hr hlocks hnt hin
  obtain ⟨hx, hb, hml, hown, hts⟩ := id S
  have hl := lv_entry ([.ref x0, .int x1]) (n := 4) (Nat.le_of_ble_eq_true rfl)
  rw [lg_entry_eq]
  generalize (lg_sl ([.ref x0, .int x1]) ++ List.replicate (4 - (lg_sl ([.ref x0, .int x1])).length) Slot.unset).toArray = ls at hl ⊢
  have hl : lv_has ls 4 [(0, .ref x0), (1, .int x1)] := hl
  unfold fX1_hidden at hF
  refine lv_iconst (v := 0) hx hb dX1_hidden_0 rfl ?_
  refine lv_istore_n (lv' := [(2, .int 0), (0, .ref x0), (1, .int x1)]) hx hb dX1_hidden_1 rfl hl (by decide) rfl (fun ls hl => ?_)
  refine lv_iconst (v := 0) hx hb dX1_hidden_2 rfl ?_
  refine lv_istore_n (lv' := [(3, .int 0), (2, .int 0), (0, .ref x0), (1, .int x1)]) hx hb dX1_hidden_3 rfl hl (by decide) rfl (fun ls hl => ?_)
  obtain ⟨oq6, hq6, h1q6, h2q6⟩ := osx hF
  refine wlX1_hidden_4 S hX _ hr hlocks hnt F _  F _ _ _ _ oq6 hq6 (fun v e => (h2q6 v e)) (fun q6 eq6 H locs cs ss ls hM hl => ?_) _ _ _ _ _ hM (lv_sub hl [2, 3, 1, 0] rfl)
  have hF := h1q6 _ eq6
  refine lv_iload_n hx hb dX1_hidden_41 rfl (lv_at hl 0 rfl) ?_
  refine lv_iconst (v := (-1)) hx hb dX1_hidden_42 rfl ?_
  refine lv_icmp_ne (tgt := 50) hx hb dX1_hidden_43 (by decide) (fun c7 => ?_) (fun c7 => ?_)
  · have hF := ifn hF c7
    refine lv_iconst (v := (-1)) hx hb dX1_hidden_50 rfl ?_
    have hz := (Option.some.inj hF)
    subst hz
    exact cri S hM hr hlocks dX1_hidden_51
  · have hF := ifp hF c7
    refine lv_iload_n hx hb dX1_hidden_46 rfl (lv_at hl 1 rfl) ?_
    refine lv_goto (tgt := 51) hx hb dX1_hidden_47 (by decide) ?_
    have hz := (Option.some.inj hF)
    subst hz
    exact cri S hM hr hlocks dX1_hidden_51
