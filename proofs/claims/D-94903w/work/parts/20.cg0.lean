def fJ0_init (h0 : HS) (x0 : Nat) : Unit := ()
theorem hyJ0_init : yJ0_init.cls ≠ "java/lang/invoke/MethodHandle" ∧ yJ0_init.cls ≠ "java/lang/invoke/VarHandle" := by decide +kernel
theorem hlJ0_init : (parseMethodDescriptor yJ0_init.desc).map (fun d => d.parameters.length) = some 0 := by decide +kernel
set_option maxHeartbeats 4000000 in
set_option maxRecDepth 100000 in
theorem metJ0_init (l : Launch) [NoTr l] (D : va_G) (h0 : HS) (x0 : Nat) (r : Unit) (hF : fJ0_init h0 x0 = r) : CMet l yJ0_init (ws_ yJ0_init cJ0_init 1 none) 1 20 D [.ref x0] h0 h0 (.inr none) := by
  refine CMet.ofW (by decide) ?_
  intro p e s m below meth c s₁ B S hX hM hr hlocks hnt hin
  obtain ⟨hx, hb, hml, hown, hts⟩ := id S
  have hl := lv_entry ([.ref x0]) (n := 1) (Nat.le_of_ble_eq_true rfl)
  rw [lg_entry_eq]
  generalize (lg_sl ([.ref x0]) ++ List.replicate (1 - (lg_sl ([.ref x0])).length) Slot.unset).toArray = ls at hl ⊢
  have hl : lv_has ls 1 [(0, .ref x0)] := hl
  unfold fJ0_init at hF
  refine lv_aload_n hx hb dJ0_init_0 rfl (lv_at hl 0 rfl) ?_
  refine cobj S q167 q148 q149 hl.1 (Nat.le_of_ble_eq_true rfl) dJ0_init_1 (Nat.le_of_ble_eq_true rfl) (Nat.le_of_ble_eq_true rfl) ?_
  have hz := hF
  subst hz
  exact crv S hM hr hlocks dJ0_init_4
def fJ1_init (F : Nat) (h0 : HS) (x0 : Nat) : Option (HS) := ((pI h0 x0 15 15 0 0).bind fun σ2 => some σ2)
theorem hyJ1_init : yJ1_init.cls ≠ "java/lang/invoke/MethodHandle" ∧ yJ1_init.cls ≠ "java/lang/invoke/VarHandle" := by decide +kernel
theorem hlJ1_init : (parseMethodDescriptor yJ1_init.desc).map (fun d => d.parameters.length) = some 0 := by decide +kernel
set_option maxHeartbeats 4000000 in
set_option maxRecDepth 100000 in
theorem metJ1_init (l : Launch) [NoTr l] (F : Nat) (D : va_G) (h0 : HS) (x0 : Nat) (r : HS) (hF : fJ1_init F h0 x0 = some r) : CMet l yJ1_init (ws_ yJ1_init cJ1_init 1 none) 2 40 D [.ref x0] h0 r (.inr none) := by
  refine CMet.ofW (by decide) ?_
  intro p e s m below meth c s₁ B S hX hM hr hlocks hnt hin
  obtain ⟨hx, hb, hml, hown, hts⟩ := id S
  have hl := lv_entry ([.ref x0]) (n := 1) (Nat.le_of_ble_eq_true rfl)
  rw [lg_entry_eq]
  generalize (lg_sl ([.ref x0]) ++ List.replicate (1 - (lg_sl ([.ref x0])).length) Slot.unset).toArray = ls at hl ⊢
  have hl : lv_has ls 1 [(0, .ref x0)] := hl
  unfold fJ1_init at hF
  refine lv_aload_n hx hb dJ1_init_0 rfl (lv_at hl 0 rfl) ?_
  refine ccr (rest := []) (st1 := []) S hX hM (metJ0_init l D h0 x0 _ rfl) (ci_I (As := []) (rest := []) S rfl q164 q165 q166 hyJ0_init hlJ0_init rfl dJ1_init_1) q166 q105 (Nat.le_of_ble_eq_true rfl) (Nat.le_of_ble_eq_true rfl) hl.1 (Nat.le_of_ble_eq_true rfl) rfl (fun H locs cs ss hM => ?_)
  refine lv_aload_n hx hb dJ1_init_4 rfl (lv_at hl 0 rfl) ?_
  refine lv_iconst (v := 0) hx hb dJ1_init_5 rfl ?_
  obtain ⟨σ2, eσ2, hF⟩ := obn hF
  refine cpi S hX hM eσ2 ck_15_15_0 cw_15_15_0 rfl rfl q172 (fun _ h => h) dJ1_init_6 (fun H locs hM => ?_)
  have hz := (Option.some.inj hF)
  subst hz
  exact crv S hM hr hlocks dJ1_init_9
def fJ2_init (F : Nat) (h0 : HS) (x0 : Nat) : Option (HS) := ((fJ1_init F h0 x0).bind fun r1 => ((pR r1 x0 15 15 1 (some (kG r1 12))).bind fun σ3 => some σ3))
theorem hyJ2_init : yJ2_init.cls ≠ "java/lang/invoke/MethodHandle" ∧ yJ2_init.cls ≠ "java/lang/invoke/VarHandle" := by decide +kernel
theorem hlJ2_init : (parseMethodDescriptor yJ2_init.desc).map (fun d => d.parameters.length) = some 0 := by decide +kernel
set_option maxHeartbeats 4000000 in
set_option maxRecDepth 100000 in
theorem metJ2_init (l : Launch) [NoTr l] (F : Nat) (D : va_G) (h0 : HS) (x0 : Nat) (r : HS) (hF : fJ2_init F h0 x0 = some r) : CMet l yJ2_init (ws_ yJ2_init cJ2_init 1 none) 3 60 D [.ref x0] h0 r (.inr none) := by
  refine CMet.ofW (by decide) ?_
  intro p e s m below meth c s₁ B S hX hM hr hlocks hnt hin
  obtain ⟨hx, hb, hml, hown, hts⟩ := id S
  have hl := lv_entry ([.ref x0]) (n := 1) (Nat.le_of_ble_eq_true rfl)
  rw [lg_entry_eq]
  generalize (lg_sl ([.ref x0]) ++ List.replicate (1 - (lg_sl ([.ref x0])).length) Slot.unset).toArray = ls at hl ⊢
  have hl : lv_has ls 1 [(0, .ref x0)] := hl
  unfold fJ2_init at hF
  refine lv_aload_n hx hb dJ2_init_0 rfl (lv_at hl 0 rfl) ?_
  obtain ⟨r1, er1, hF⟩ := obn hF
  refine ccr (rest := []) (st1 := []) S hX hM (metJ1_init l F D h0 x0 r1 er1) (ci_I (As := []) (rest := []) S rfl q161 q162 q163 hyJ1_init hlJ1_init rfl dJ2_init_1) q163 q106 (Nat.le_of_ble_eq_true rfl) (Nat.le_of_ble_eq_true rfl) hl.1 (Nat.le_of_ble_eq_true rfl) rfl (fun H locs cs ss hM => ?_)
  refine lv_aload_n hx hb dJ2_init_4 rfl (lv_at hl 0 rfl) ?_
  refine cstr S hM (ust2 hX) q168 dJ2_init_5 ?_
  obtain ⟨σ3, eσ3, hF⟩ := obn hF
  refine cpr (v := (some (kG r1 12))) S hX hM eσ3 ck_15_15_1 cw_15_15_1 rfl q170 (fun _ h => h) dJ2_init_8 (fun H locs hM => ?_)
  have hz := (Option.some.inj hF)
  subst hz
  exact crv S hM hr hlocks dJ2_init_11
def fX2_init (F : Nat) (h0 : HS) (x0 : Nat) : Option (HS) := ((pI h0 x0 2 2 2 9).bind fun σ2 => ((nO σ2 15 3).bind fun r3 => ((fJ2_init F r3.2 r3.1).bind fun r4 => ((pR r4 x0 2 2 5 (some r3.1)).bind fun σ5 => ((nO σ5 15 3).bind fun r6 => ((fJ2_init F r6.2 r6.1).bind fun r7 => ((pR r7 x0 2 2 6 (some r6.1)).bind fun σ8 => ((nO σ8 15 3).bind fun r9 => ((fJ2_init F r9.2 r9.1).bind fun r10 => ((pR r10 x0 2 2 7 (some r9.1)).bind fun σ11 => ((nA σ11 33 144).bind fun r12 => ((pR r12.2 x0 2 2 8 (some r12.1)).bind fun σ13 => ((nA σ13 33 144).bind fun r14 => ((pR r14.2 x0 2 2 9 (some r14.1)).bind fun σ15 => some σ15))))))))))))))
theorem hyX2_init : yX2_init.cls ≠ "java/lang/invoke/MethodHandle" ∧ yX2_init.cls ≠ "java/lang/invoke/VarHandle" := by decide +kernel
theorem hlX2_init : (parseMethodDescriptor yX2_init.desc).map (fun d => d.parameters.length) = some 0 := by decide +kernel
set_option maxHeartbeats 4000000 in
set_option maxRecDepth 100000 in
theorem metX2_init (l : Launch) [NoTr l] (F : Nat) (D : va_G) (h0 : HS) (x0 : Nat) (r : HS) (hF : fX2_init F h0 x0 = some r) : CMet l yX2_init (ws_ yX2_init cX2_init 1 none) 4 80 D [.ref x0] h0 r (.inr none) := by
  refine CMet.ofW (by decide) ?_
  intro p e s m below meth c s₁ B S hX hM hr hlocks hnt hin
  obtain ⟨hx, hb, hml, hown, hts⟩ := id S
  have hl := lv_entry ([.ref x0]) (n := 1) (Nat.le_of_ble_eq_true rfl)
  rw [lg_entry_eq]
  generalize (lg_sl ([.ref x0]) ++ List.replicate (1 - (lg_sl ([.ref x0])).length) Slot.unset).toArray = ls at hl ⊢
  have hl : lv_has ls 1 [(0, .ref x0)] := hl
  unfold fX2_init at hF
  refine lv_aload_n hx hb dX2_init_0 rfl (lv_at hl 0 rfl) ?_
  refine cobj S q155 q148 q149 hl.1 (Nat.le_of_ble_eq_true rfl) dX2_init_1 (Nat.le_of_ble_eq_true rfl) (Nat.le_of_ble_eq_true rfl) ?_
  refine lv_aload_n hx hb dX2_init_4 rfl (lv_at hl 0 rfl) ?_
  refine lv_bipush (v := 9) hx hb dX2_init_5 rfl ?_
  obtain ⟨σ2, eσ2, hF⟩ := obn hF
  refine cpi S hX hM eσ2 ck_2_2_2 cw_2_2_2 rfl rfl q191 (fun _ h => h) dX2_init_7 (fun H locs hM => ?_)
  refine lv_aload_n hx hb dX2_init_10 rfl (lv_at hl 0 rfl) ?_
  obtain ⟨r3, er3, hF⟩ := obn hF
  refine cno (ci := 14) S hX hM er3 (by decide) q156 q157 q107 dX2_init_11 (fun H cs ss hM => ?_)
  refine lv_dup hx hb dX2_init_14 rfl ?_
  obtain ⟨r4, er4, hF⟩ := obn hF
  refine ccr (rest := [.ref r3.1, .ref x0]) (st1 := [.ref r3.1, .ref x0]) S hX hM (metJ2_init l F D r3.2 r3.1 r4 er4) (ci_I (As := []) (rest := [.ref r3.1, .ref x0]) S rfl q158 q159 q160 hyJ2_init hlJ2_init rfl dX2_init_15) q160 q107 (Nat.le_of_ble_eq_true rfl) (Nat.le_of_ble_eq_true rfl) hl.1 (Nat.le_of_ble_eq_true rfl) rfl (fun H locs cs ss hM => ?_)
  obtain ⟨σ5, eσ5, hF⟩ := obn hF
  refine cprF (v := (some r3.1)) S hX hM eσ5 ck_2_2_5 cw_2_2_5 rfl q199 hin dX2_init_18 (fun H locs hM => ?_)
  refine lv_aload_n hx hb dX2_init_21 rfl (lv_at hl 0 rfl) ?_
  obtain ⟨r6, er6, hF⟩ := obn hF
  refine cno (ci := 14) S hX hM er6 (by decide) q156 q157 q107 dX2_init_22 (fun H cs ss hM => ?_)
  refine lv_dup hx hb dX2_init_25 rfl ?_
  obtain ⟨r7, er7, hF⟩ := obn hF
  refine ccr (rest := [.ref r6.1, .ref x0]) (st1 := [.ref r6.1, .ref x0]) S hX hM (metJ2_init l F D r6.2 r6.1 r7 er7) (ci_I (As := []) (rest := [.ref r6.1, .ref x0]) S rfl q158 q159 q160 hyJ2_init hlJ2_init rfl dX2_init_26) q160 q107 (Nat.le_of_ble_eq_true rfl) (Nat.le_of_ble_eq_true rfl) hl.1 (Nat.le_of_ble_eq_true rfl) rfl (fun H locs cs ss hM => ?_)
  obtain ⟨σ8, eσ8, hF⟩ := obn hF
  refine cprF (v := (some r6.1)) S hX hM eσ8 ck_2_2_6 cw_2_2_6 rfl q205 hin dX2_init_29 (fun H locs hM => ?_)
  refine lv_aload_n hx hb dX2_init_32 rfl (lv_at hl 0 rfl) ?_
  obtain ⟨r9, er9, hF⟩ := obn hF
  refine cno (ci := 14) S hX hM er9 (by decide) q156 q157 q107 dX2_init_33 (fun H cs ss hM => ?_)
  refine lv_dup hx hb dX2_init_36 rfl ?_
  obtain ⟨r10, er10, hF⟩ := obn hF
  refine ccr (rest := [.ref r9.1, .ref x0]) (st1 := [.ref r9.1, .ref x0]) S hX hM (metJ2_init l F D r9.2 r9.1 r10 er10) (ci_I (As := []) (rest := [.ref r9.1, .ref x0]) S rfl q158 q159 q160 hyJ2_init hlJ2_init rfl dX2_init_37) q160 q107 (Nat.le_of_ble_eq_true rfl) (Nat.le_of_ble_eq_true rfl) hl.1 (Nat.le_of_ble_eq_true rfl) rfl (fun H locs cs ss hM => ?_)
  obtain ⟨σ11, eσ11, hF⟩ := obn hF
  refine cprF (v := (some r9.1)) S hX hM eσ11 ck_2_2_7 cw_2_2_7 rfl q211 hin dX2_init_40 (fun H locs hM => ?_)
  refine lv_aload_n hx hb dX2_init_43 rfl (lv_at hl 0 rfl) ?_
  refine lv_sipush (v := 144) hx hb dX2_init_44 rfl ?_
  obtain ⟨r12, er12, hF⟩ := obn hF
  refine cnaz S hX hM er12 dX2_init_47 (fun H cs ss hM => ?_)
  obtain ⟨σ13, eσ13, hF⟩ := obn hF
  refine cprF (v := (some r12.1)) S hX hM eσ13 ck_2_2_8 cw_2_2_8 rfl q214 hin dX2_init_49 (fun H locs hM => ?_)
  refine lv_aload_n hx hb dX2_init_52 rfl (lv_at hl 0 rfl) ?_
  refine lv_sipush (v := 144) hx hb dX2_init_53 rfl ?_
  obtain ⟨r14, er14, hF⟩ := obn hF
  refine cnaz S hX hM er14 dX2_init_56 (fun H cs ss hM => ?_)
  obtain ⟨σ15, eσ15, hF⟩ := obn hF
  refine cprF (v := (some r14.1)) S hX hM eσ15 ck_2_2_9 cw_2_2_9 rfl q218 hin dX2_init_58 (fun H locs hM => ?_)
  have hz := (Option.some.inj hF)
  subst hz
  exact crv S hM hr hlocks dX2_init_61
def fX3_init (F : Nat) (h0 : HS) (x0 : Nat) : Option (HS) := ((nM3 h0 144 6 9).bind fun r2 => ((pR r2.2 x0 3 3 2 (some r2.1)).bind fun σ3 => ((nM3 σ3 144 6 9).bind fun r4 => ((pR r4.2 x0 3 3 3 (some r4.1)).bind fun σ5 => ((nA σ5 31 144).bind fun r6 => ((pR r6.2 x0 3 3 4 (some r6.1)).bind fun σ7 => ((nA σ7 31 144).bind fun r8 => ((pR r8.2 x0 3 3 5 (some r8.1)).bind fun σ9 => ((nA σ9 31 144).bind fun r10 => ((pR r10.2 x0 3 3 6 (some r10.1)).bind fun σ11 => ((nA σ11 31 144).bind fun r12 => ((pR r12.2 x0 3 3 7 (some r12.1)).bind fun σ13 => ((nA σ13 31 6).bind fun r14 => ((pR r14.2 x0 3 3 8 (some r14.1)).bind fun σ15 => some σ15))))))))))))))
theorem hyX3_init : yX3_init.cls ≠ "java/lang/invoke/MethodHandle" ∧ yX3_init.cls ≠ "java/lang/invoke/VarHandle" := by decide +kernel
theorem hlX3_init : (parseMethodDescriptor yX3_init.desc).map (fun d => d.parameters.length) = some 0 := by decide +kernel
set_option maxHeartbeats 4000000 in
set_option maxRecDepth 100000 in
theorem metX3_init (l : Launch) [NoTr l] (F : Nat) (D : va_G) (h0 : HS) (x0 : Nat) (r : HS) (hF : fX3_init F h0 x0 = some r) : CMet l yX3_init (ws_ yX3_init cX3_init 1 none) 1 20 D [.ref x0] h0 r (.inr none) := by
  refine CMet.ofW (by decide) ?_
  intro p e s m below meth c s₁ B S hX hM hr hlocks hnt hin
  obtain ⟨hx, hb, hml, hown, hts⟩ := id S
  have hl := lv_entry ([.ref x0]) (n := 1) (Nat.le_of_ble_eq_true rfl)
  rw [lg_entry_eq]
  generalize (lg_sl ([.ref x0]) ++ List.replicate (1 - (lg_sl ([.ref x0])).length) Slot.unset).toArray = ls at hl ⊢
  have hl : lv_has ls 1 [(0, .ref x0)] := hl
  unfold fX3_init at hF
  refine lv_aload_n hx hb dX3_init_0 rfl (lv_at hl 0 rfl) ?_
  refine cobj S q248 q148 q149 hl.1 (Nat.le_of_ble_eq_true rfl) dX3_init_1 (Nat.le_of_ble_eq_true rfl) (Nat.le_of_ble_eq_true rfl) ?_
  refine lv_aload_n hx hb dX3_init_4 rfl (lv_at hl 0 rfl) ?_
  refine lv_sipush (v := 144) hx hb dX3_init_5 rfl ?_
  refine lv_bipush (v := 6) hx hb dX3_init_8 rfl ?_
  refine lv_bipush (v := 9) hx hb dX3_init_10 rfl ?_
  obtain ⟨r2, er2, hF⟩ := obn hF
  refine cmT S hX hM er2 q249 dX3_init_12 (fun H cs ss hM => ?_)
  obtain ⟨σ3, eσ3, hF⟩ := obn hF
  refine cprF (v := (some r2.1)) S hX hM eσ3 ck_3_3_2 cw_3_3_2 rfl q257 hin dX3_init_16 (fun H locs hM => ?_)
  refine lv_aload_n hx hb dX3_init_19 rfl (lv_at hl 0 rfl) ?_
  refine lv_sipush (v := 144) hx hb dX3_init_20 rfl ?_
  refine lv_bipush (v := 6) hx hb dX3_init_23 rfl ?_
  refine lv_bipush (v := 9) hx hb dX3_init_25 rfl ?_
  obtain ⟨r4, er4, hF⟩ := obn hF
  refine cmT S hX hM er4 q249 dX3_init_27 (fun H cs ss hM => ?_)
  obtain ⟨σ5, eσ5, hF⟩ := obn hF
  refine cprF (v := (some r4.1)) S hX hM eσ5 ck_3_3_3 cw_3_3_3 rfl q258 hin dX3_init_31 (fun H locs hM => ?_)
  refine lv_aload_n hx hb dX3_init_34 rfl (lv_at hl 0 rfl) ?_
  refine lv_sipush (v := 144) hx hb dX3_init_35 rfl ?_
  obtain ⟨r6, er6, hF⟩ := obn hF
  refine cnai S hX hM er6 dX3_init_38 (fun H cs ss hM => ?_)
  obtain ⟨σ7, eσ7, hF⟩ := obn hF
  refine cprF (v := (some r6.1)) S hX hM eσ7 ck_3_3_4 cw_3_3_4 rfl q259 hin dX3_init_40 (fun H locs hM => ?_)
  refine lv_aload_n hx hb dX3_init_43 rfl (lv_at hl 0 rfl) ?_
  refine lv_sipush (v := 144) hx hb dX3_init_44 rfl ?_
  obtain ⟨r8, er8, hF⟩ := obn hF
  refine cnai S hX hM er8 dX3_init_47 (fun H cs ss hM => ?_)
  obtain ⟨σ9, eσ9, hF⟩ := obn hF
  refine cprF (v := (some r8.1)) S hX hM eσ9 ck_3_3_5 cw_3_3_5 rfl q261 hin dX3_init_49 (fun H locs hM => ?_)
  refine lv_aload_n hx hb dX3_init_52 rfl (lv_at hl 0 rfl) ?_
  refine lv_sipush (v := 144) hx hb dX3_init_53 rfl ?_
  obtain ⟨r10, er10, hF⟩ := obn hF
  refine cnai S hX hM er10 dX3_init_56 (fun H cs ss hM => ?_)
  obtain ⟨σ11, eσ11, hF⟩ := obn hF
  refine cprF (v := (some r10.1)) S hX hM eσ11 ck_3_3_6 cw_3_3_6 rfl q263 hin dX3_init_58 (fun H locs hM => ?_)
  refine lv_aload_n hx hb dX3_init_61 rfl (lv_at hl 0 rfl) ?_
  refine lv_sipush (v := 144) hx hb dX3_init_62 rfl ?_
  obtain ⟨r12, er12, hF⟩ := obn hF
  refine cnai S hX hM er12 dX3_init_65 (fun H cs ss hM => ?_)
  obtain ⟨σ13, eσ13, hF⟩ := obn hF
  refine cprF (v := (some r12.1)) S hX hM eσ13 ck_3_3_7 cw_3_3_7 rfl q265 hin dX3_init_67 (fun H locs hM => ?_)
  refine lv_aload_n hx hb dX3_init_70 rfl (lv_at hl 0 rfl) ?_
  refine lv_bipush (v := 6) hx hb dX3_init_71 rfl ?_
  obtain ⟨r14, er14, hF⟩ := obn hF
  refine cnai S hX hM er14 dX3_init_73 (fun H cs ss hM => ?_)
  obtain ⟨σ15, eσ15, hF⟩ := obn hF
  refine cprF (v := (some r14.1)) S hX hM eσ15 ck_3_3_8 cw_3_3_8 rfl q267 hin dX3_init_75 (fun H locs hM => ?_)
  have hz := (Option.some.inj hF)
  subst hz
  exact crv S hM hr hlocks dX3_init_78
def lJ3_fill_5 (F : Nat) : Nat → HS → Nat → Int32 → Int32 → Int32 → Option (HS)
  | 0, _, _, _, _, _ => none
  | n + 1, σ, y0, y1, y2, y3 => (if y3 ≤ y2 then (some σ) else ((wI σ y0 31 y2 y1).bind fun σ3 => lJ3_fill_5 F n σ3 y0 y1 (y2 + 1) y3))
def fJ3_fill (F : Nat) (h0 : HS) (x0 : Nat) (x1 : Int32) : Option (HS) := ((aL h0 x0 31 31).bind fun v1 => ((lJ3_fill_5 F F h0 x0 x1 0 v1).bind fun q4 => some q4))
theorem hyJ3_fill : yJ3_fill.cls ≠ "java/lang/invoke/MethodHandle" ∧ yJ3_fill.cls ≠ "java/lang/invoke/VarHandle" := by decide +kernel
theorem hlJ3_fill : (parseMethodDescriptor yJ3_fill.desc).map (fun d => d.parameters.length) = some 2 := by decide +kernel
set_option maxHeartbeats 4000000 in
set_option maxRecDepth 100000 in
theorem wlJ3_fill_5 {p : Program} {l : Launch} [NoTr l] {e : Env} {s : State} {m : MethodId} {args : Array Value} {below : List Frame} {meth : Method} {c : Code} {D : va_G} {h0 : HS} (S : CallFix p m c cJ3_fill 4 s args lw_all RJ3) (hX : CX D (kG h0) s) (F : Nat) {Q : State → Prop} : ∀ (n : Nat) (σ : HS) (y0 : Nat) (y1 : Int32) (y2 : Int32) (y3 : Int32) (out : HS), lJ3_fill_5 F n σ y0 y1 y2 y3 = some out → (∀ (H : Heap) (locs : List Loc) (cs ss : Nat) (ls : Array Slot), HI D h0 out s.heap H locs cs ss → lv_has ls 4 [] → W p l e (cR 0 0 h0) s m args below meth c H locs cs ss Q (F0 m 20 ls [])) → ∀ (H : Heap) (locs : List Loc) (cs ss : Nat) (ls : Array Slot), HI D h0 σ s.heap H locs cs ss → lv_has ls 4 [(0, .ref y0), (1, .int y1), (2, .int y2), (3, .int y3)] → W p l e (cR 0 0 h0) s m args below meth c H locs cs ss Q (F0 m 5 ls []) := by
  intro n
  induction n with
  | zero =>
    intro σ y0 y1 y2 y3 out hF
    cases (show (none : Option _) = some out from hF)
  | succ n ih =>
    intro σ y0 y1 y2 y3 out hF hk H locs cs ss ls hM hl
    rw [lJ3_fill_5] at hF
    obtain ⟨hx, hb, hml, hown, hts⟩ := id S
    refine lv_iload_n hx hb dJ3_fill_5 rfl (lv_at hl 2 rfl) ?_
    refine lv_iload_n hx hb dJ3_fill_6 rfl (lv_at hl 3 rfl) ?_
    refine lv_icmp_ge (tgt := 20) hx hb dJ3_fill_7 (by decide) (fun c2 => ?_) (fun c2 => ?_)
    · have hF := ifp hF c2
      cases hF
      exact hk _ _ _ _ _ hM (lv_sub hl [] rfl)
    · have hF := ifn hF c2
      refine lv_aload_n hx hb dJ3_fill_10 rfl (lv_at hl 0 rfl) ?_
      refine lv_iload_n hx hb dJ3_fill_11 rfl (lv_at hl 2 rfl) ?_
      refine lv_iload_n hx hb dJ3_fill_12 rfl (lv_at hl 1 rfl) ?_
      obtain ⟨σ3, eσ3, hF⟩ := obn hF
      refine cwi S hX hM eσ3 dJ3_fill_13 (fun H locs hM => ?_)
      refine lv_iinc (v := y2 + 1) (lv' := [(2, .int (y2 + 1)), (0, .ref y0), (1, .int y1), (3, .int y3)]) hx hb dJ3_fill_14 hl (k := 2) rfl rfl (by decide) rfl (fun ls hl => ?_)
      refine lv_goto (tgt := 5) hx hb dJ3_fill_17 (by decide) ?_
      exact ih _ _ _ _ _ out hF hk _ _ _ _ _ hM (lv_sub hl [1, 2, 0, 3] rfl)
set_option maxHeartbeats 4000000 in
set_option maxRecDepth 100000 in
theorem metJ3_fill (l : Launch) [NoTr l] (F : Nat) (D : va_G) (h0 : HS) (x0 : Nat) (x1 : Int32) (r : HS) (hF : fJ3_fill F h0 x0 x1 = some r) : CMet l yJ3_fill (ws_ yJ3_fill cJ3_fill 4 none) 0 0 D [.ref x0, .int x1] h0 r (.inr none) := by
  refine CMet.ofW (by decide) ?_
  intro p e s m below meth c s₁ B S hX hM hr hlocks hnt hin
  obtain ⟨hx, hb, hml, hown, hts⟩ := id S
  have hl := lv_entry ([.ref x0, .int x1]) (n := 4) (Nat.le_of_ble_eq_true rfl)
  rw [lg_entry_eq]
  generalize (lg_sl ([.ref x0, .int x1]) ++ List.replicate (4 - (lg_sl ([.ref x0, .int x1])).length) Slot.unset).toArray = ls at hl ⊢
  have hl : lv_has ls 4 [(0, .ref x0), (1, .int x1)] := hl
  unfold fJ3_fill at hF
  refine lv_iconst (v := 0) hx hb dJ3_fill_0 rfl ?_
  refine lv_istore_n (lv' := [(2, .int 0), (0, .ref x0), (1, .int x1)]) hx hb dJ3_fill_1 rfl hl (by decide) rfl (fun ls hl => ?_)
  refine lv_aload_n hx hb dJ3_fill_2 rfl (lv_at hl 1 rfl) ?_
  obtain ⟨v1, ev1, hF⟩ := obn hF
  refine cal S hX hM ev1 (by decide) (by decide) dJ3_fill_3 ?_
  refine lv_istore_n (lv' := [(3, .int v1), (2, .int 0), (0, .ref x0), (1, .int x1)]) hx hb dJ3_fill_4 rfl hl (by decide) rfl (fun ls hl => ?_)
  obtain ⟨q4, hq4, hF⟩ := obn hF
  refine wlJ3_fill_5 S hX F  F _ _ _ _ _ q4 hq4 (fun H locs cs ss ls hM hl => ?_) _ _ _ _ _ hM (lv_sub hl [2, 3, 1, 0] rfl)
  have hz := (Option.some.inj hF)
  subst hz
  exact crv S hM hr hlocks dJ3_fill_20
def lX3_clean_2 (F : Nat) : Nat → HS → Nat → Int32 → Int32 → Option (HS)
  | 0, _, _, _, _ => none
  | n + 1, σ, y0, y1, y2 => (if 6 ≤ y2 then (some σ) else ((fR σ y0 3 3 2).bind fun a2 => ((fA σ a2 35 y1).bind fun a3 => ((fA σ a3 34 y2).bind fun a4 => ((fJ3_fill F σ a4 0).bind fun r5 => lX3_clean_2 F n r5 y0 y1 (y2 + 1))))))
def fX3_clean (F : Nat) (h0 : HS) (x0 : Nat) (x1 : Int32) : Option (HS) := ((lX3_clean_2 F F h0 x0 x1 0).bind fun q6 => ((fR q6 x0 3 3 4).bind fun a7 => ((wI q6 a7 31 x1 (-1)).bind fun σ8 => ((fR σ8 x0 3 3 5).bind fun a9 => ((wI σ8 a9 31 x1 (-1)).bind fun σ10 => ((fR σ10 x0 3 3 6).bind fun a11 => ((wI σ10 a11 31 x1 (-1)).bind fun σ12 => ((fR σ12 x0 3 3 7).bind fun a13 => ((wI σ12 a13 31 x1 (-1)).bind fun σ14 => some σ14)))))))))
theorem hyX3_clean : yX3_clean.cls ≠ "java/lang/invoke/MethodHandle" ∧ yX3_clean.cls ≠ "java/lang/invoke/VarHandle" := by decide +kernel
theorem hlX3_clean : (parseMethodDescriptor yX3_clean.desc).map (fun d => d.parameters.length) = some 1 := by decide +kernel
set_option maxHeartbeats 4000000 in
set_option maxRecDepth 100000 in
theorem wlX3_clean_2 {p : Program} {l : Launch} [NoTr l] {e : Env} {s : State} {m : MethodId} {args : Array Value} {below : List Frame} {meth : Method} {c : Code} {D : va_G} {h0 : HS} (S : CallFix p m c cX3_clean 3 s args lw_all RX3) (hX : CX D (kG h0) s) (F : Nat) {Q : State → Prop} : ∀ (n : Nat) (σ : HS) (y0 : Nat) (y1 : Int32) (y2 : Int32) (out : HS), lX3_clean_2 F n σ y0 y1 y2 = some out → (∀ (H : Heap) (locs : List Loc) (cs ss : Nat) (ls : Array Slot), HI D h0 out s.heap H locs cs ss → lv_has ls 3 [(0, .ref y0), (1, .int y1)] → W p l e (cR 1 23 h0) s m args below meth c H locs cs ss Q (F0 m 26 ls [])) → ∀ (H : Heap) (locs : List Loc) (cs ss : Nat) (ls : Array Slot), HI D h0 σ s.heap H locs cs ss → lv_has ls 3 [(0, .ref y0), (1, .int y1), (2, .int y2)] → W p l e (cR 1 23 h0) s m args below meth c H locs cs ss Q (F0 m 2 ls []) := by
  intro n
  induction n with
  | zero =>
    intro σ y0 y1 y2 out hF
    cases (show (none : Option _) = some out from hF)
  | succ n ih =>
    intro σ y0 y1 y2 out hF hk H locs cs ss ls hM hl
    rw [lX3_clean_2] at hF
    obtain ⟨hx, hb, hml, hown, hts⟩ := id S
    refine lv_iload_n hx hb dX3_clean_2 rfl (lv_at hl 2 rfl) ?_
    refine lv_bipush (v := 6) hx hb dX3_clean_3 rfl ?_
    refine lv_icmp_ge (tgt := 26) hx hb dX3_clean_5 (by decide) (fun c1 => ?_) (fun c1 => ?_)
    · have hF := ifp hF c1
      cases hF
      exact hk _ _ _ _ _ hM (lv_sub hl [0, 1] rfl)
    · have hF := ifn hF c1
      refine lv_aload_n hx hb dX3_clean_8 rfl (lv_at hl 0 rfl) ?_
      obtain ⟨a2, ea2, hF⟩ := obn hF
      refine cgn S hX hM ea2 ck_3_3_2 q257 (fun _ h => h) dX3_clean_9 ?_
      refine lv_iload_n hx hb dX3_clean_12 rfl (lv_at hl 1 rfl) ?_
      obtain ⟨a3, ea3, hF⟩ := obn hF
      refine can35 S hX hM ea3 dX3_clean_13 ?_
      refine lv_iload_n hx hb dX3_clean_14 rfl (lv_at hl 2 rfl) ?_
      obtain ⟨a4, ea4, hF⟩ := obn hF
      refine can34 S hX hM ea4 dX3_clean_15 ?_
      refine lv_iconst (v := 0) hx hb dX3_clean_16 rfl ?_
      obtain ⟨r5, er5, hF⟩ := obn hF
      refine ccr (rest := []) (st1 := []) S hX hM (metJ3_fill l F D σ a4 0 r5 er5) (ci_S (As := [.ref a4, .int 0]) (rest := []) S q297 q298 q109 q299 hyJ3_fill hlJ3_fill rfl dX3_clean_17) q299 q109 (Nat.le_of_ble_eq_true rfl) (Nat.le_of_ble_eq_true rfl) hl.1 (Nat.le_of_ble_eq_true rfl) rfl (fun H locs cs ss hM => ?_)
      refine lv_iinc (v := y2 + 1) (lv' := [(2, .int (y2 + 1)), (0, .ref y0), (1, .int y1)]) hx hb dX3_clean_20 hl (k := 2) rfl rfl (by decide) rfl (fun ls hl => ?_)
      refine lv_goto (tgt := 2) hx hb dX3_clean_23 (by decide) ?_
      exact ih _ _ _ _ out hF hk _ _ _ _ _ hM (lv_sub hl [1, 2, 0] rfl)
set_option maxHeartbeats 4000000 in
set_option maxRecDepth 100000 in
theorem metX3_clean (l : Launch) [NoTr l] (F : Nat) (D : va_G) (h0 : HS) (x0 : Nat) (x1 : Int32) (r : HS) (hF : fX3_clean F h0 x0 x1 = some r) : CMet l yX3_clean (ws_ yX3_clean cX3_clean 3 none) 1 23 D [.ref x0, .int x1] h0 r (.inr none) := by
  refine CMet.ofW (by decide) ?_
  intro p e s m below meth c s₁ B S hX hM hr hlocks hnt hin
  obtain ⟨hx, hb, hml, hown, hts⟩ := id S
  have hl := lv_entry ([.ref x0, .int x1]) (n := 3) (Nat.le_of_ble_eq_true rfl)
  rw [lg_entry_eq]
  generalize (lg_sl ([.ref x0, .int x1]) ++ List.replicate (3 - (lg_sl ([.ref x0, .int x1])).length) Slot.unset).toArray = ls at hl ⊢
  have hl : lv_has ls 3 [(0, .ref x0), (1, .int x1)] := hl
  unfold fX3_clean at hF
  refine lv_iconst (v := 0) hx hb dX3_clean_0 rfl ?_
  refine lv_istore_n (lv' := [(2, .int 0), (0, .ref x0), (1, .int x1)]) hx hb dX3_clean_1 rfl hl (by decide) rfl (fun ls hl => ?_)
  obtain ⟨q6, hq6, hF⟩ := obn hF
  refine wlX3_clean_2 S hX F  F _ _ _ _ q6 hq6 (fun H locs cs ss ls hM hl => ?_) _ _ _ _ _ hM (lv_sub hl [1, 2, 0] rfl)
  refine lv_aload_n hx hb dX3_clean_26 rfl (lv_at hl 0 rfl) ?_
  obtain ⟨a7, ea7, hF⟩ := obn hF
  refine cgn S hX hM ea7 ck_3_3_4 q259 (fun _ h => h) dX3_clean_27 ?_
  refine lv_iload_n hx hb dX3_clean_30 rfl (lv_at hl 1 rfl) ?_
  refine lv_iconst (v := (-1)) hx hb dX3_clean_31 rfl ?_
  obtain ⟨σ8, eσ8, hF⟩ := obn hF
  refine cwi S hX hM eσ8 dX3_clean_32 (fun H locs hM => ?_)
  refine lv_aload_n hx hb dX3_clean_33 rfl (lv_at hl 0 rfl) ?_
  obtain ⟨a9, ea9, hF⟩ := obn hF
  refine cgn S hX hM ea9 ck_3_3_5 q261 (fun _ h => h) dX3_clean_34 ?_
  refine lv_iload_n hx hb dX3_clean_37 rfl (lv_at hl 1 rfl) ?_
  refine lv_iconst (v := (-1)) hx hb dX3_clean_38 rfl ?_
  obtain ⟨σ10, eσ10, hF⟩ := obn hF
  refine cwi S hX hM eσ10 dX3_clean_39 (fun H locs hM => ?_)
  refine lv_aload_n hx hb dX3_clean_40 rfl (lv_at hl 0 rfl) ?_
  obtain ⟨a11, ea11, hF⟩ := obn hF
  refine cgn S hX hM ea11 ck_3_3_6 q263 (fun _ h => h) dX3_clean_41 ?_
  refine lv_iload_n hx hb dX3_clean_44 rfl (lv_at hl 1 rfl) ?_
  refine lv_iconst (v := (-1)) hx hb dX3_clean_45 rfl ?_
  obtain ⟨σ12, eσ12, hF⟩ := obn hF
  refine cwi S hX hM eσ12 dX3_clean_46 (fun H locs hM => ?_)
  refine lv_aload_n hx hb dX3_clean_47 rfl (lv_at hl 0 rfl) ?_
  obtain ⟨a13, ea13, hF⟩ := obn hF
  refine cgn S hX hM ea13 ck_3_3_7 q265 (fun _ h => h) dX3_clean_48 ?_
  refine lv_iload_n hx hb dX3_clean_51 rfl (lv_at hl 1 rfl) ?_
  refine lv_iconst (v := (-1)) hx hb dX3_clean_52 rfl ?_
  obtain ⟨σ14, eσ14, hF⟩ := obn hF
  refine cwi S hX hM eσ14 dX3_clean_53 (fun H locs hM => ?_)
  have hz := (Option.some.inj hF)
  subst hz
  exact crv S hM hr hlocks dX3_clean_54
def lX3_begin_26 (F : Nat) : Nat → HS → Nat → Int32 → Int32 → Option (HS)
  | 0, _, _, _, _ => none
  | n + 1, σ, y0, y2, y3 => (if 6 ≤ y3 then (some σ) else ((fR σ y0 3 3 3).bind fun a6 => ((fA σ a6 35 y2).bind fun a7 => ((fA σ a7 34 y3).bind fun a8 => ((fJ3_fill F σ a8 0).bind fun r9 => lX3_begin_26 F n r9 y0 y2 (y3 + 1))))))
def lX3_begin_12 (F : Nat) : Nat → HS → Nat → Int32 → Option (HS)
  | 0, _, _, _ => none
  | n + 1, σ, y0, y2 => (if 144 ≤ y2 then (some σ) else (gT σ y0 3 3 (((fX3_clean F σ y0 y2).bind fun r4 => ((lX3_begin_26 F F r4 y0 y2 0).bind fun q10 => lX3_begin_12 F n q10 y0 (y2 + 1))))))
def fX3_begin (F : Nat) (h0 : HS) (x0 : Nat) (x1 : Nat) : Option (Nat × HS) := ((pR h0 x0 3 3 0 (some x1)).bind fun σ1 => ((pI σ1 x0 3 3 1 0).bind fun σ2 => ((lX3_begin_12 F F σ2 x0 0).bind fun q11 => ((fR q11 x0 3 3 8).bind fun a12 => ((fJ3_fill F q11 a12 0).bind fun r13 => some (x0, r13))))))
theorem hyX3_begin : yX3_begin.cls ≠ "java/lang/invoke/MethodHandle" ∧ yX3_begin.cls ≠ "java/lang/invoke/VarHandle" := by decide +kernel
theorem hlX3_begin : (parseMethodDescriptor yX3_begin.desc).map (fun d => d.parameters.length) = some 1 := by decide +kernel
set_option maxHeartbeats 4000000 in
set_option maxRecDepth 100000 in
theorem wlX3_begin_26 {p : Program} {l : Launch} [NoTr l] {e : Env} {s : State} {m : MethodId} {args : Array Value} {below : List Frame} {meth : Method} {c : Code} {D : va_G} {h0 : HS} (S : CallFix p m c cX3_begin 4 s args lw_all RX3) (hX : CX D (kG h0) s) (F : Nat) {Q : State → Prop} : ∀ (n : Nat) (σ : HS) (y0 : Nat) (y2 : Int32) (y3 : Int32) (out : HS), lX3_begin_26 F n σ y0 y2 y3 = some out → (∀ (H : Heap) (locs : List Loc) (cs ss : Nat) (ls : Array Slot), HI D h0 out s.heap H locs cs ss → lv_has ls 4 [(0, .ref y0), (2, .int y2)] → W p l e (cR 2 45 h0) s m args below meth c H locs cs ss Q (F0 m 50 ls [])) → ∀ (H : Heap) (locs : List Loc) (cs ss : Nat) (ls : Array Slot), HI D h0 σ s.heap H locs cs ss → lv_has ls 4 [(0, .ref y0), (2, .int y2), (3, .int y3)] → W p l e (cR 2 45 h0) s m args below meth c H locs cs ss Q (F0 m 26 ls []) := by
  intro n
  induction n with
  | zero =>
    intro σ y0 y2 y3 out hF
    cases (show (none : Option _) = some out from hF)
  | succ n ih =>
    intro σ y0 y2 y3 out hF hk H locs cs ss ls hM hl
    rw [lX3_begin_26] at hF
    obtain ⟨hx, hb, hml, hown, hts⟩ := id S
    refine lv_iload_n hx hb dX3_begin_26 rfl (lv_at hl 2 rfl) ?_
    refine lv_bipush (v := 6) hx hb dX3_begin_27 rfl ?_
    refine lv_icmp_ge (tgt := 50) hx hb dX3_begin_29 (by decide) (fun c5 => ?_) (fun c5 => ?_)
    · have hF := ifp hF c5
      cases hF
      exact hk _ _ _ _ _ hM (lv_sub hl [0, 1] rfl)
    · have hF := ifn hF c5
      refine lv_aload_n hx hb dX3_begin_32 rfl (lv_at hl 0 rfl) ?_
      obtain ⟨a6, ea6, hF⟩ := obn hF
      refine cgn S hX hM ea6 ck_3_3_3 q258 (fun _ h => h) dX3_begin_33 ?_
      refine lv_iload_n hx hb dX3_begin_36 rfl (lv_at hl 1 rfl) ?_
      obtain ⟨a7, ea7, hF⟩ := obn hF
      refine can35 S hX hM ea7 dX3_begin_37 ?_
      refine lv_iload_n hx hb dX3_begin_38 rfl (lv_at hl 2 rfl) ?_
      obtain ⟨a8, ea8, hF⟩ := obn hF
      refine can34 S hX hM ea8 dX3_begin_39 ?_
      refine lv_iconst (v := 0) hx hb dX3_begin_40 rfl ?_
      obtain ⟨r9, er9, hF⟩ := obn hF
      refine ccr (rest := []) (st1 := []) S hX hM (metJ3_fill l F D σ a8 0 r9 er9) (ci_S (As := [.ref a8, .int 0]) (rest := []) S q297 q298 q109 q299 hyJ3_fill hlJ3_fill rfl dX3_begin_41) q299 q109 (Nat.le_of_ble_eq_true rfl) (Nat.le_of_ble_eq_true rfl) hl.1 (Nat.le_of_ble_eq_true rfl) rfl (fun H locs cs ss hM => ?_)
      refine lv_iinc (v := y3 + 1) (lv' := [(3, .int (y3 + 1)), (0, .ref y0), (2, .int y2)]) hx hb dX3_begin_44 hl (k := 2) rfl rfl (by decide) rfl (fun ls hl => ?_)
      refine lv_goto (tgt := 26) hx hb dX3_begin_47 (by decide) ?_
      exact ih _ _ _ _ out hF hk _ _ _ _ _ hM (lv_sub hl [1, 2, 0] rfl)
set_option maxHeartbeats 4000000 in
set_option maxRecDepth 100000 in
theorem wlX3_begin_12 {p : Program} {l : Launch} [NoTr l] {e : Env} {s : State} {m : MethodId} {args : Array Value} {below : List Frame} {meth : Method} {c : Code} {D : va_G} {h0 : HS} (S : CallFix p m c cX3_begin 4 s args lw_all RX3) (hX : CX D (kG h0) s) (F : Nat) {Q : State → Prop} : ∀ (n : Nat) (σ : HS) (y0 : Nat) (y2 : Int32) (out : HS), lX3_begin_12 F n σ y0 y2 = some out → (∀ (H : Heap) (locs : List Loc) (cs ss : Nat) (ls : Array Slot), HI D h0 out s.heap H locs cs ss → lv_has ls 4 [(0, .ref y0)] → W p l e (cR 2 45 h0) s m args below meth c H locs cs ss Q (F0 m 56 ls [])) → ∀ (H : Heap) (locs : List Loc) (cs ss : Nat) (ls : Array Slot), HI D h0 σ s.heap H locs cs ss → lv_has ls 4 [(0, .ref y0), (2, .int y2)] → W p l e (cR 2 45 h0) s m args below meth c H locs cs ss Q (F0 m 12 ls []) := by
  intro n
  induction n with
  | zero =>
    intro σ y0 y2 out hF
    cases (show (none : Option _) = some out from hF)
  | succ n ih =>
    intro σ y0 y2 out hF hk H locs cs ss ls hM hl
    rw [lX3_begin_12] at hF
    obtain ⟨hx, hb, hml, hown, hts⟩ := id S
    refine lv_iload_n hx hb dX3_begin_12 rfl (lv_at hl 1 rfl) ?_
    refine lv_sipush (v := 144) hx hb dX3_begin_13 rfl ?_
    refine lv_icmp_ge (tgt := 56) hx hb dX3_begin_16 (by decide) (fun c3 => ?_) (fun c3 => ?_)
    · have hF := ifp hF c3
      cases hF
      exact hk _ _ _ _ _ hM (lv_sub hl [0] rfl)
    · have hF := ifn hF c3
      refine lv_aload_n hx hb dX3_begin_19 rfl (lv_at hl 0 rfl) ?_
      refine lv_iload_n hx hb dX3_begin_20 rfl (lv_at hl 1 rfl) ?_
      obtain ⟨z4, hF⟩ := gTe hF
      obtain ⟨r4, er4, hF⟩ := obn hF
      refine ccr (rest := []) (st1 := []) S hX hM (metX3_clean l F D σ y0 y2 r4 er4) (ci_V (C := "RugReader$Rug") (As := [.int y2]) (rest := []) S q293 q294 q295 q296 hyX3_clean (HI.cell (ci := 2) hX hM (by decide) (by omega)) hlX3_clean rfl dX3_begin_21) q296 q108 (Nat.le_of_ble_eq_true rfl) (Nat.le_of_ble_eq_true rfl) hl.1 (Nat.le_of_ble_eq_true rfl) rfl (fun H locs cs ss hM => ?_)
      refine lv_iconst (v := 0) hx hb dX3_begin_24 rfl ?_
      refine lv_istore_n (lv' := [(3, .int 0), (0, .ref y0), (2, .int y2)]) hx hb dX3_begin_25 rfl hl (by decide) rfl (fun ls hl => ?_)
      obtain ⟨q10, hq10, hF⟩ := obn hF
      refine wlX3_begin_26 S hX F  F _ _ _ _ q10 hq10 (fun H locs cs ss ls hM hl => ?_) _ _ _ _ _ hM (lv_sub hl [1, 2, 0] rfl)
      refine lv_iinc (v := y2 + 1) (lv' := [(2, .int (y2 + 1)), (0, .ref y0)]) hx hb dX3_begin_50 hl (k := 1) rfl rfl (by decide) rfl (fun ls hl => ?_)
      refine lv_goto (tgt := 12) hx hb dX3_begin_53 (by decide) ?_
      exact ih _ _ _ out hF hk _ _ _ _ _ hM (lv_sub hl [1, 0] rfl)
set_option maxHeartbeats 4000000 in
set_option maxRecDepth 100000 in
theorem metX3_begin (l : Launch) [NoTr l] (F : Nat) (D : va_G) (h0 : HS) (x0 : Nat) (x1 : Nat) (r : Nat × HS) (hF : fX3_begin F h0 x0 x1 = some r) : CMet l yX3_begin (ws_ yX3_begin cX3_begin 4 (some (.object "RugReader$Rug"))) 2 45 D [.ref x0, .ref x1] h0 r.2 (.inr (some (.ref r.1))) := by
  refine CMet.ofW (by decide) ?_
  intro p e s m below meth c s₁ B S hX hM hr hlocks hnt hin
  obtain ⟨hx, hb, hml, hown, hts⟩ := id S
  have hl := lv_entry ([.ref x0, .ref x1]) (n := 4) (Nat.le_of_ble_eq_true rfl)
  rw [lg_entry_eq]
  generalize (lg_sl ([.ref x0, .ref x1]) ++ List.replicate (4 - (lg_sl ([.ref x0, .ref x1])).length) Slot.unset).toArray = ls at hl ⊢
  have hl : lv_has ls 4 [(0, .ref x0), (1, .ref x1)] := hl
  unfold fX3_begin at hF
  refine lv_aload_n hx hb dX3_begin_0 rfl (lv_at hl 0 rfl) ?_
  refine lv_aload_n hx hb dX3_begin_1 rfl (lv_at hl 1 rfl) ?_
  obtain ⟨σ1, eσ1, hF⟩ := obn hF
  refine cpr (v := (some x1)) S hX hM eσ1 ck_3_3_0 cw_3_3_0 rfl q253 (fun _ h => h) dX3_begin_2 (fun H locs hM => ?_)
  refine lv_aload_n hx hb dX3_begin_5 rfl (lv_at hl 0 rfl) ?_
  refine lv_iconst (v := 0) hx hb dX3_begin_6 rfl ?_
  obtain ⟨σ2, eσ2, hF⟩ := obn hF
  refine cpi S hX hM eσ2 ck_3_3_1 cw_3_3_1 rfl rfl q255 (fun _ h => h) dX3_begin_7 (fun H locs hM => ?_)
  refine lv_iconst (v := 0) hx hb dX3_begin_10 rfl ?_
  refine lv_istore_n (lv' := [(2, .int 0), (0, .ref x0), (1, .ref x1)]) hx hb dX3_begin_11 rfl hl (by decide) rfl (fun ls hl => ?_)
  obtain ⟨q11, hq11, hF⟩ := obn hF
  refine wlX3_begin_12 S hX F  F _ _ _ q11 hq11 (fun H locs cs ss ls hM hl => ?_) _ _ _ _ _ hM (lv_sub hl [1, 0] rfl)
  refine lv_aload_n hx hb dX3_begin_56 rfl (lv_at hl 0 rfl) ?_
  obtain ⟨a12, ea12, hF⟩ := obn hF
  refine cgn S hX hM ea12 ck_3_3_8 q267 (fun _ h => h) dX3_begin_57 ?_
  refine lv_iconst (v := 0) hx hb dX3_begin_60 rfl ?_
  obtain ⟨r13, er13, hF⟩ := obn hF
  refine ccr (rest := []) (st1 := []) S hX hM (metJ3_fill l F D q11 a12 0 r13 er13) (ci_S (As := [.ref a12, .int 0]) (rest := []) S q297 q298 q109 q299 hyJ3_fill hlJ3_fill rfl dX3_begin_61) q299 q109 (Nat.le_of_ble_eq_true rfl) (Nat.le_of_ble_eq_true rfl) hl.1 (Nat.le_of_ble_eq_true rfl) rfl (fun H locs cs ss hM => ?_)
  refine lv_aload_n hx hb dX3_begin_64 rfl (lv_at hl 0 rfl) ?_
  have hz := (Option.some.inj hF)
  subst hz
  exact cra S hM hr (Or.inl ⟨_, rfl⟩) hlocks dX3_begin_65
def fX4_init (F : Nat) (h0 : HS) (x0 : Nat) : Option (HS) := ((nO h0 3 9).bind fun r2 => ((fX3_init F r2.2 r2.1).bind fun r3 => ((pR r3 x0 4 4 2 (some r2.1)).bind fun σ4 => some σ4)))
theorem hyX4_init : yX4_init.cls ≠ "java/lang/invoke/MethodHandle" ∧ yX4_init.cls ≠ "java/lang/invoke/VarHandle" := by decide +kernel
theorem hlX4_init : (parseMethodDescriptor yX4_init.desc).map (fun d => d.parameters.length) = some 0 := by decide +kernel
set_option maxHeartbeats 4000000 in
set_option maxRecDepth 100000 in
theorem metX4_init (l : Launch) [NoTr l] (F : Nat) (D : va_G) (h0 : HS) (x0 : Nat) (r : HS) (hF : fX4_init F h0 x0 = some r) : CMet l yX4_init (ws_ yX4_init cX4_init 1 none) 2 40 D [.ref x0] h0 r (.inr none) := by
  refine CMet.ofW (by decide) ?_
  intro p e s m below meth c s₁ B S hX hM hr hlocks hnt hin
  obtain ⟨hx, hb, hml, hown, hts⟩ := id S
  have hl := lv_entry ([.ref x0]) (n := 1) (Nat.le_of_ble_eq_true rfl)
  rw [lg_entry_eq]
  generalize (lg_sl ([.ref x0]) ++ List.replicate (1 - (lg_sl ([.ref x0])).length) Slot.unset).toArray = ls at hl ⊢
  have hl : lv_has ls 1 [(0, .ref x0)] := hl
  unfold fX4_init at hF
  refine lv_aload_n hx hb dX4_init_0 rfl (lv_at hl 0 rfl) ?_
  refine cobj S q310 q148 q149 hl.1 (Nat.le_of_ble_eq_true rfl) dX4_init_1 (Nat.le_of_ble_eq_true rfl) (Nat.le_of_ble_eq_true rfl) ?_
  refine lv_aload_n hx hb dX4_init_4 rfl (lv_at hl 0 rfl) ?_
  obtain ⟨r2, er2, hF⟩ := obn hF
  refine cno (ci := 2) S hX hM er2 (by decide) q311 q244 q108 dX4_init_5 (fun H cs ss hM => ?_)
  refine lv_dup hx hb dX4_init_8 rfl ?_
  obtain ⟨r3, er3, hF⟩ := obn hF
  refine ccr (rest := [.ref r2.1, .ref x0]) (st1 := [.ref r2.1, .ref x0]) S hX hM (metX3_init l F D r2.2 r2.1 r3 er3) (ci_IN (As := []) (rest := [.ref r2.1, .ref x0]) S rfl (uq312 hX) q246 q247 hyX3_init hlX3_init rfl dX4_init_9) q247 q108 (Nat.le_of_ble_eq_true rfl) (Nat.le_of_ble_eq_true rfl) hl.1 (Nat.le_of_ble_eq_true rfl) rfl (fun H locs cs ss hM => ?_)
  obtain ⟨σ4, eσ4, hF⟩ := obn hF
  refine cprF (v := (some r2.1)) S hX hM eσ4 ck_4_4_2 cw_4_4_2 rfl q315 hin dX4_init_12 (fun H locs hM => ?_)
  have hz := (Option.some.inj hF)
  subst hz
  exact crv S hM hr hlocks dX4_init_15
def lX1_init_242 (F : Nat) : Nat → HS → Nat → Int32 → Option (HS)
  | 0, _, _, _ => none
  | n + 1, σ, y0, y1 => (if 6 ≤ y1 then (some σ) else ((fR σ y0 1 1 6).bind fun a60 => ((nO σ 3 9).bind fun r61 => ((fX3_init F r61.2 r61.1).bind fun r62 => ((wR r62 a60 36 y1 (some r61.1)).bind fun σ63 => lX1_init_242 F n σ63 y0 (y1 + 1))))))
def fX1_init (F : Nat) (h0 : HS) (x0 : Nat) : Option (HS) := ((nA h0 32 940).bind fun r2 => ((pR r2.2 x0 1 1 0 (some r2.1)).bind fun σ3 => ((nO σ3 2 10).bind fun r4 => ((fX2_init F r4.2 r4.1).bind fun r5 => ((pR r5 x0 1 1 3 (some r4.1)).bind fun σ6 => ((nO σ6 3 9).bind fun r7 => ((fX3_init F r7.2 r7.1).bind fun r8 => ((fR r8 x0 1 1 3).bind fun a9 => gT r8 r7.1 3 3 (((fX3_begin F r8 r7.1 a9).bind fun r10 => ((pR r10.2 x0 1 1 4 (some r10.1)).bind fun σ11 => ((nA σ11 36 6).bind fun r12 => ((pR r12.2 x0 1 1 6 (some r12.1)).bind fun σ13 => ((nA σ13 31 8).bind fun r14 => ((pR r14.2 x0 1 1 8 (some r14.1)).bind fun σ15 => ((nA σ15 31 8).bind fun r16 => ((pR r16.2 x0 1 1 9 (some r16.1)).bind fun σ17 => ((nA σ17 31 8).bind fun r18 => ((pR r18.2 x0 1 1 10 (some r18.1)).bind fun σ19 => ((nA σ19 31 6).bind fun r20 => ((pR r20.2 x0 1 1 11 (some r20.1)).bind fun σ21 => ((nA σ21 31 6).bind fun r22 => ((pR r22.2 x0 1 1 12 (some r22.1)).bind fun σ23 => ((nA σ23 31 6).bind fun r24 => ((pR r24.2 x0 1 1 13 (some r24.1)).bind fun σ25 => ((nM2 σ25 34 31 6 8).bind fun r26 => ((pR r26.2 x0 1 1 14 (some r26.1)).bind fun σ27 => ((pI σ27 x0 1 1 16 (-1)).bind fun σ28 => ((nA σ28 31 144).bind fun r29 => ((pR r29.2 x0 1 1 19 (some r29.1)).bind fun σ30 => ((nA σ30 33 144).bind fun r31 => ((pR r31.2 x0 1 1 20 (some r31.1)).bind fun σ32 => ((nA σ32 31 4).bind fun r33 => ((wI r33.2 r33.1 31 0 (-1)).bind fun σ34 => ((wI σ34 r33.1 31 1 (-1)).bind fun σ35 => ((wI σ35 r33.1 31 2 (-1)).bind fun σ36 => ((wI σ36 r33.1 31 3 (-1)).bind fun σ37 => ((pR σ37 x0 1 1 21 (some r33.1)).bind fun σ38 => ((nA σ38 33 144).bind fun r39 => ((pR r39.2 x0 1 1 22 (some r39.1)).bind fun σ40 => ((nA σ40 33 144).bind fun r41 => ((pR r41.2 x0 1 1 23 (some r41.1)).bind fun σ42 => ((nM2 σ42 38 33 144 4).bind fun r43 => ((pR r43.2 x0 1 1 24 (some r43.1)).bind fun σ44 => ((nA σ44 31 288).bind fun r45 => ((pR r45.2 x0 1 1 25 (some r45.1)).bind fun σ46 => ((nA σ46 31 288).bind fun r47 => ((pR r47.2 x0 1 1 26 (some r47.1)).bind fun σ48 => ((nA σ48 31 4).bind fun r49 => ((pR r49.2 x0 1 1 28 (some r49.1)).bind fun σ50 => ((nA σ50 37 2).bind fun r51 => ((nO r51.2 4 3).bind fun r52 => ((fX4_init F r52.2 r52.1).bind fun r53 => ((wR r53 r51.1 37 0 (some r52.1)).bind fun σ54 => ((nO σ54 4 3).bind fun r55 => ((fX4_init F r55.2 r55.1).bind fun r56 => ((wR r56 r51.1 37 1 (some r55.1)).bind fun σ57 => ((pR σ57 x0 1 1 31 (some r51.1)).bind fun σ58 => ((lX1_init_242 F F σ58 x0 0).bind fun q64 => some q64)))))))))))))))))))))))))))))))))))))))))))))))))))))))))))
theorem hyX1_init : yX1_init.cls ≠ "java/lang/invoke/MethodHandle" ∧ yX1_init.cls ≠ "java/lang/invoke/VarHandle" := by decide +kernel
theorem hlX1_init : (parseMethodDescriptor yX1_init.desc).map (fun d => d.parameters.length) = some 0 := by decide +kernel
set_option maxHeartbeats 4000000 in
set_option maxRecDepth 100000 in
theorem wlX1_init_242 {p : Program} {l : Launch} [NoTr l] {e : Env} {s : State} {m : MethodId} {args : Array Value} {below : List Frame} {meth : Method} {c : Code} {D : va_G} {h0 : HS} (S : CallFix p m c cX1_init 2 s args lw_all RX1) (hX : CX D (kG h0) s) (F : Nat) {Q : State → Prop} : ∀ (n : Nat) (σ : HS) (y0 : Nat) (y1 : Int32) (out : HS), lX1_init_242 F n σ y0 y1 = some out → (∀ (H : Heap) (locs : List Loc) (cs ss : Nat) (ls : Array Slot), HI D h0 out s.heap H locs cs ss → lv_has ls 2 [] → W p l e (cR 5 100 h0) s m args below meth c H locs cs ss Q (F0 m 267 ls [])) → ∀ (H : Heap) (locs : List Loc) (cs ss : Nat) (ls : Array Slot), HI D h0 σ s.heap H locs cs ss → lv_has ls 2 [(0, .ref y0), (1, .int y1)] → W p l e (cR 5 100 h0) s m args below meth c H locs cs ss Q (F0 m 242 ls []) := by
  intro n
  induction n with
  | zero =>
    intro σ y0 y1 out hF
    cases (show (none : Option _) = some out from hF)
  | succ n ih =>
    intro σ y0 y1 out hF hk H locs cs ss ls hM hl
    rw [lX1_init_242] at hF
    obtain ⟨hx, hb, hml, hown, hts⟩ := id S
    refine lv_iload_n hx hb dX1_init_242 rfl (lv_at hl 1 rfl) ?_
    refine lv_bipush (v := 6) hx hb dX1_init_243 rfl ?_
    refine lv_icmp_ge (tgt := 267) hx hb dX1_init_245 (by decide) (fun c59 => ?_) (fun c59 => ?_)
    · have hF := ifp hF c59
      cases hF
      exact hk _ _ _ _ _ hM (lv_sub hl [] rfl)
    · have hF := ifn hF c59
      refine lv_aload_n hx hb dX1_init_248 rfl (lv_at hl 0 rfl) ?_
      obtain ⟨a60, ea60, hF⟩ := obn hF
      refine cgn S hX hM ea60 ck_1_1_6 q330 (fun _ h => h) dX1_init_249 ?_
      refine lv_iload_n hx hb dX1_init_252 rfl (lv_at hl 1 rfl) ?_
      obtain ⟨r61, er61, hF⟩ := obn hF
      refine cno (ci := 2) S hX hM er61 (by decide) q243 q244 q108 dX1_init_253 (fun H cs ss hM => ?_)
      refine lv_dup hx hb dX1_init_256 rfl ?_
      obtain ⟨r62, er62, hF⟩ := obn hF
      refine ccr (rest := [.ref r61.1, .int y1, .ref a60]) (st1 := [.ref r61.1, .int y1, .ref a60]) S hX hM (metX3_init l F D r61.2 r61.1 r62 er62) (ci_IN (As := []) (rest := [.ref r61.1, .int y1, .ref a60]) S rfl (uq245 hX) q246 q247 hyX3_init hlX3_init rfl dX1_init_257) q247 q108 (Nat.le_of_ble_eq_true rfl) (Nat.le_of_ble_eq_true rfl) hl.1 (Nat.le_of_ble_eq_true rfl) rfl (fun H locs cs ss hM => ?_)
      obtain ⟨σ63, eσ63, hF⟩ := obn hF
      refine cwr36 S hX hM eσ63 dX1_init_260 (fun H locs hM => ?_)
      refine lv_iinc (v := y1 + 1) (lv' := [(1, .int (y1 + 1)), (0, .ref y0)]) hx hb dX1_init_261 hl (k := 1) rfl rfl (by decide) rfl (fun ls hl => ?_)
      refine lv_goto (tgt := 242) hx hb dX1_init_264 (by decide) ?_
      exact ih _ _ _ out hF hk _ _ _ _ _ hM (lv_sub hl [1, 0] rfl)
set_option maxHeartbeats 4000000 in
set_option maxRecDepth 100000 in
theorem metX1_init (l : Launch) [NoTr l] (F : Nat) (D : va_G) (h0 : HS) (x0 : Nat) (r : HS) (hF : fX1_init F h0 x0 = some r) : CMet l yX1_init (ws_ yX1_init cX1_init 2 none) 5 100 D [.ref x0] h0 r (.inr none) := by
  refine CMet.ofW (by decide) ?_
  intro p e s m below meth c s₁ B S hX hM hr hlocks hnt hin
  obtain ⟨hx, hb, hml, hown, hts⟩ := id S
  have hl := lv_entry ([.ref x0]) (n := 2) (Nat.le_of_ble_eq_true rfl)
  rw [lg_entry_eq]
  generalize (lg_sl ([.ref x0]) ++ List.replicate (2 - (lg_sl ([.ref x0])).length) Slot.unset).toArray = ls at hl ⊢
  have hl : lv_has ls 2 [(0, .ref x0)] := hl
  unfold fX1_init at hF
  refine lv_aload_n hx hb dX1_init_0 rfl (lv_at hl 0 rfl) ?_
  refine cobj S q147 q148 q149 hl.1 (Nat.le_of_ble_eq_true rfl) dX1_init_1 (Nat.le_of_ble_eq_true rfl) (Nat.le_of_ble_eq_true rfl) ?_
  refine lv_aload_n hx hb dX1_init_4 rfl (lv_at hl 0 rfl) ?_
  refine lv_sipush (v := 940) hx hb dX1_init_5 rfl ?_
  obtain ⟨r2, er2, hF⟩ := obn hF
  refine cnab S hX hM er2 dX1_init_8 (fun H cs ss hM => ?_)
  obtain ⟨σ3, eσ3, hF⟩ := obn hF
  refine cprF (v := (some r2.1)) S hX hM eσ3 ck_1_1_0 cw_1_1_0 rfl q324 hin dX1_init_10 (fun H locs hM => ?_)
  refine lv_aload_n hx hb dX1_init_13 rfl (lv_at hl 0 rfl) ?_
  obtain ⟨r4, er4, hF⟩ := obn hF
  refine cno (ci := 1) S hX hM er4 (by decide) q150 q151 q104 dX1_init_14 (fun H cs ss hM => ?_)
  refine lv_dup hx hb dX1_init_17 rfl ?_
  obtain ⟨r5, er5, hF⟩ := obn hF
  refine ccr (rest := [.ref r4.1, .ref x0]) (st1 := [.ref r4.1, .ref x0]) S hX hM (metX2_init l F D r4.2 r4.1 r5 er5) (ci_IN (As := []) (rest := [.ref r4.1, .ref x0]) S rfl (uq152 hX) q153 q154 hyX2_init hlX2_init rfl dX1_init_18) q154 q104 (Nat.le_of_ble_eq_true rfl) (Nat.le_of_ble_eq_true rfl) hl.1 (Nat.le_of_ble_eq_true rfl) rfl (fun H locs cs ss hM => ?_)
  obtain ⟨σ6, eσ6, hF⟩ := obn hF
  refine cpr (v := (some r4.1)) S hX hM eσ6 ck_1_1_3 cw_1_1_3 rfl q327 (fun _ h => h) dX1_init_21 (fun H locs hM => ?_)
  refine lv_aload_n hx hb dX1_init_24 rfl (lv_at hl 0 rfl) ?_
  obtain ⟨r7, er7, hF⟩ := obn hF
  refine cno (ci := 2) S hX hM er7 (by decide) q243 q244 q108 dX1_init_25 (fun H cs ss hM => ?_)
  refine lv_dup hx hb dX1_init_28 rfl ?_
  obtain ⟨r8, er8, hF⟩ := obn hF
  refine ccr (rest := [.ref r7.1, .ref x0]) (st1 := [.ref r7.1, .ref x0]) S hX hM (metX3_init l F D r7.2 r7.1 r8 er8) (ci_IN (As := []) (rest := [.ref r7.1, .ref x0]) S rfl (uq245 hX) q246 q247 hyX3_init hlX3_init rfl dX1_init_29) q247 q108 (Nat.le_of_ble_eq_true rfl) (Nat.le_of_ble_eq_true rfl) hl.1 (Nat.le_of_ble_eq_true rfl) rfl (fun H locs cs ss hM => ?_)
  refine lv_aload_n hx hb dX1_init_32 rfl (lv_at hl 0 rfl) ?_
  obtain ⟨a9, ea9, hF⟩ := obn hF
  refine cgn S hX hM ea9 ck_1_1_3 q327 (fun _ h => h) dX1_init_33 ?_
  obtain ⟨z10, hF⟩ := gTe hF
  obtain ⟨r10, er10, hF⟩ := obn hF
  refine ccr (rest := [.ref x0]) (st1 := [.ref r10.1, .ref x0]) S hX hM (metX3_begin l F D r8 r7.1 a9 r10 er10) (ci_V (C := "RugReader$Rug") (As := [.ref a9]) (rest := [.ref x0]) S q289 q290 q291 q292 hyX3_begin (HI.cell (ci := 2) hX hM (by decide) (by omega)) hlX3_begin rfl dX1_init_36) q292 q108 (Nat.le_of_ble_eq_true rfl) (Nat.le_of_ble_eq_true rfl) hl.1 (Nat.le_of_ble_eq_true rfl) rfl (fun H locs cs ss hM => ?_)
  obtain ⟨σ11, eσ11, hF⟩ := obn hF
  refine cprF (v := (some r10.1)) S hX hM eσ11 ck_1_1_4 cw_1_1_4 rfl q328 hin dX1_init_39 (fun H locs hM => ?_)
  refine lv_aload_n hx hb dX1_init_42 rfl (lv_at hl 0 rfl) ?_
  refine lv_bipush (v := 6) hx hb dX1_init_43 rfl ?_
  obtain ⟨r12, er12, hF⟩ := obn hF
  refine cna36 S hX hM er12 q243 dX1_init_45 (fun H cs ss hM => ?_)
  obtain ⟨σ13, eσ13, hF⟩ := obn hF
  refine cprF (v := (some r12.1)) S hX hM eσ13 ck_1_1_6 cw_1_1_6 rfl q330 hin dX1_init_48 (fun H locs hM => ?_)
  refine lv_aload_n hx hb dX1_init_51 rfl (lv_at hl 0 rfl) ?_
  refine lv_bipush (v := 8) hx hb dX1_init_52 rfl ?_
  obtain ⟨r14, er14, hF⟩ := obn hF
  refine cnai S hX hM er14 dX1_init_54 (fun H cs ss hM => ?_)
  obtain ⟨σ15, eσ15, hF⟩ := obn hF
  refine cprF (v := (some r14.1)) S hX hM eσ15 ck_1_1_8 cw_1_1_8 rfl q332 hin dX1_init_56 (fun H locs hM => ?_)
  refine lv_aload_n hx hb dX1_init_59 rfl (lv_at hl 0 rfl) ?_
  refine lv_bipush (v := 8) hx hb dX1_init_60 rfl ?_
  obtain ⟨r16, er16, hF⟩ := obn hF
  refine cnai S hX hM er16 dX1_init_62 (fun H cs ss hM => ?_)
  obtain ⟨σ17, eσ17, hF⟩ := obn hF
  refine cprF (v := (some r16.1)) S hX hM eσ17 ck_1_1_9 cw_1_1_9 rfl q333 hin dX1_init_64 (fun H locs hM => ?_)
  refine lv_aload_n hx hb dX1_init_67 rfl (lv_at hl 0 rfl) ?_
  refine lv_bipush (v := 8) hx hb dX1_init_68 rfl ?_
  obtain ⟨r18, er18, hF⟩ := obn hF
  refine cnai S hX hM er18 dX1_init_70 (fun H cs ss hM => ?_)
  obtain ⟨σ19, eσ19, hF⟩ := obn hF
  refine cprF (v := (some r18.1)) S hX hM eσ19 ck_1_1_10 cw_1_1_10 rfl q334 hin dX1_init_72 (fun H locs hM => ?_)
  refine lv_aload_n hx hb dX1_init_75 rfl (lv_at hl 0 rfl) ?_
  refine lv_bipush (v := 6) hx hb dX1_init_76 rfl ?_
  obtain ⟨r20, er20, hF⟩ := obn hF
  refine cnai S hX hM er20 dX1_init_78 (fun H cs ss hM => ?_)
  obtain ⟨σ21, eσ21, hF⟩ := obn hF
  refine cprF (v := (some r20.1)) S hX hM eσ21 ck_1_1_11 cw_1_1_11 rfl q335 hin dX1_init_80 (fun H locs hM => ?_)
  refine lv_aload_n hx hb dX1_init_83 rfl (lv_at hl 0 rfl) ?_
  refine lv_bipush (v := 6) hx hb dX1_init_84 rfl ?_
  obtain ⟨r22, er22, hF⟩ := obn hF
  refine cnai S hX hM er22 dX1_init_86 (fun H cs ss hM => ?_)
  obtain ⟨σ23, eσ23, hF⟩ := obn hF
  refine cprF (v := (some r22.1)) S hX hM eσ23 ck_1_1_12 cw_1_1_12 rfl q336 hin dX1_init_88 (fun H locs hM => ?_)
  refine lv_aload_n hx hb dX1_init_91 rfl (lv_at hl 0 rfl) ?_
  refine lv_bipush (v := 6) hx hb dX1_init_92 rfl ?_
  obtain ⟨r24, er24, hF⟩ := obn hF
  refine cnai S hX hM er24 dX1_init_94 (fun H cs ss hM => ?_)
  obtain ⟨σ25, eσ25, hF⟩ := obn hF
  refine cprF (v := (some r24.1)) S hX hM eσ25 ck_1_1_13 cw_1_1_13 rfl q337 hin dX1_init_96 (fun H locs hM => ?_)
  refine lv_aload_n hx hb dX1_init_99 rfl (lv_at hl 0 rfl) ?_
  refine lv_bipush (v := 6) hx hb dX1_init_100 rfl ?_
  refine lv_bipush (v := 8) hx hb dX1_init_102 rfl ?_
  obtain ⟨r26, er26, hF⟩ := obn hF
  refine cmI S hX hM er26 q301 dX1_init_104 (fun H cs ss hM => ?_)
  obtain ⟨σ27, eσ27, hF⟩ := obn hF
  refine cprF (v := (some r26.1)) S hX hM eσ27 ck_1_1_14 cw_1_1_14 rfl q338 hin dX1_init_108 (fun H locs hM => ?_)
  refine lv_aload_n hx hb dX1_init_111 rfl (lv_at hl 0 rfl) ?_
  refine lv_iconst (v := (-1)) hx hb dX1_init_112 rfl ?_
  obtain ⟨σ28, eσ28, hF⟩ := obn hF
  refine cpi S hX hM eσ28 ck_1_1_16 cw_1_1_16 rfl rfl q340 (fun _ h => h) dX1_init_113 (fun H locs hM => ?_)
  refine lv_aload_n hx hb dX1_init_116 rfl (lv_at hl 0 rfl) ?_
  refine lv_sipush (v := 144) hx hb dX1_init_117 rfl ?_
  obtain ⟨r29, er29, hF⟩ := obn hF
  refine cnai S hX hM er29 dX1_init_120 (fun H cs ss hM => ?_)
  obtain ⟨σ30, eσ30, hF⟩ := obn hF
  refine cprF (v := (some r29.1)) S hX hM eσ30 ck_1_1_19 cw_1_1_19 rfl q343 hin dX1_init_122 (fun H locs hM => ?_)
  refine lv_aload_n hx hb dX1_init_125 rfl (lv_at hl 0 rfl) ?_
  refine lv_sipush (v := 144) hx hb dX1_init_126 rfl ?_
  obtain ⟨r31, er31, hF⟩ := obn hF
  refine cnaz S hX hM er31 dX1_init_129 (fun H cs ss hM => ?_)
  obtain ⟨σ32, eσ32, hF⟩ := obn hF
  refine cprF (v := (some r31.1)) S hX hM eσ32 ck_1_1_20 cw_1_1_20 rfl q344 hin dX1_init_131 (fun H locs hM => ?_)
  refine lv_aload_n hx hb dX1_init_134 rfl (lv_at hl 0 rfl) ?_
  refine lv_iconst (v := 4) hx hb dX1_init_135 rfl ?_
  obtain ⟨r33, er33, hF⟩ := obn hF
  refine cnai S hX hM er33 dX1_init_136 (fun H cs ss hM => ?_)
  refine lv_dup hx hb dX1_init_138 rfl ?_
  refine lv_iconst (v := 0) hx hb dX1_init_139 rfl ?_
  refine lv_iconst (v := (-1)) hx hb dX1_init_140 rfl ?_
  obtain ⟨σ34, eσ34, hF⟩ := obn hF
  refine cwi S hX hM eσ34 dX1_init_141 (fun H locs hM => ?_)
  refine lv_dup hx hb dX1_init_142 rfl ?_
  refine lv_iconst (v := 1) hx hb dX1_init_143 rfl ?_
  refine lv_iconst (v := (-1)) hx hb dX1_init_144 rfl ?_
  obtain ⟨σ35, eσ35, hF⟩ := obn hF
  refine cwi S hX hM eσ35 dX1_init_145 (fun H locs hM => ?_)
  refine lv_dup hx hb dX1_init_146 rfl ?_
  refine lv_iconst (v := 2) hx hb dX1_init_147 rfl ?_
  refine lv_iconst (v := (-1)) hx hb dX1_init_148 rfl ?_
  obtain ⟨σ36, eσ36, hF⟩ := obn hF
  refine cwi S hX hM eσ36 dX1_init_149 (fun H locs hM => ?_)
  refine lv_dup hx hb dX1_init_150 rfl ?_
  refine lv_iconst (v := 3) hx hb dX1_init_151 rfl ?_
  refine lv_iconst (v := (-1)) hx hb dX1_init_152 rfl ?_
  obtain ⟨σ37, eσ37, hF⟩ := obn hF
  refine cwi S hX hM eσ37 dX1_init_153 (fun H locs hM => ?_)
  obtain ⟨σ38, eσ38, hF⟩ := obn hF
  refine cprF (v := (some r33.1)) S hX hM eσ38 ck_1_1_21 cw_1_1_21 rfl q345 hin dX1_init_154 (fun H locs hM => ?_)
  refine lv_aload_n hx hb dX1_init_157 rfl (lv_at hl 0 rfl) ?_
  refine lv_sipush (v := 144) hx hb dX1_init_158 rfl ?_
  obtain ⟨r39, er39, hF⟩ := obn hF
  refine cnaz S hX hM er39 dX1_init_161 (fun H cs ss hM => ?_)
  obtain ⟨σ40, eσ40, hF⟩ := obn hF
  refine cprF (v := (some r39.1)) S hX hM eσ40 ck_1_1_22 cw_1_1_22 rfl q346 hin dX1_init_163 (fun H locs hM => ?_)
  refine lv_aload_n hx hb dX1_init_166 rfl (lv_at hl 0 rfl) ?_
  refine lv_sipush (v := 144) hx hb dX1_init_167 rfl ?_
  obtain ⟨r41, er41, hF⟩ := obn hF
  refine cnaz S hX hM er41 dX1_init_170 (fun H cs ss hM => ?_)
  obtain ⟨σ42, eσ42, hF⟩ := obn hF
  refine cprF (v := (some r41.1)) S hX hM eσ42 ck_1_1_23 cw_1_1_23 rfl q347 hin dX1_init_172 (fun H locs hM => ?_)
  refine lv_aload_n hx hb dX1_init_175 rfl (lv_at hl 0 rfl) ?_
  refine lv_sipush (v := 144) hx hb dX1_init_176 rfl ?_
  refine lv_iconst (v := 4) hx hb dX1_init_179 rfl ?_
  obtain ⟨r43, er43, hF⟩ := obn hF
  refine cmZ S hX hM er43 q302 dX1_init_180 (fun H cs ss hM => ?_)
  obtain ⟨σ44, eσ44, hF⟩ := obn hF
  refine cprF (v := (some r43.1)) S hX hM eσ44 ck_1_1_24 cw_1_1_24 rfl q348 hin dX1_init_184 (fun H locs hM => ?_)
  refine lv_aload_n hx hb dX1_init_187 rfl (lv_at hl 0 rfl) ?_
  refine lv_sipush (v := 288) hx hb dX1_init_188 rfl ?_
  obtain ⟨r45, er45, hF⟩ := obn hF
  refine cnai S hX hM er45 dX1_init_191 (fun H cs ss hM => ?_)
  obtain ⟨σ46, eσ46, hF⟩ := obn hF
  refine cprF (v := (some r45.1)) S hX hM eσ46 ck_1_1_25 cw_1_1_25 rfl q349 hin dX1_init_193 (fun H locs hM => ?_)
  refine lv_aload_n hx hb dX1_init_196 rfl (lv_at hl 0 rfl) ?_
  refine lv_sipush (v := 288) hx hb dX1_init_197 rfl ?_
  obtain ⟨r47, er47, hF⟩ := obn hF
  refine cnai S hX hM er47 dX1_init_200 (fun H cs ss hM => ?_)
  obtain ⟨σ48, eσ48, hF⟩ := obn hF
  refine cprF (v := (some r47.1)) S hX hM eσ48 ck_1_1_26 cw_1_1_26 rfl q350 hin dX1_init_202 (fun H locs hM => ?_)
  refine lv_aload_n hx hb dX1_init_205 rfl (lv_at hl 0 rfl) ?_
  refine lv_iconst (v := 4) hx hb dX1_init_206 rfl ?_
  obtain ⟨r49, er49, hF⟩ := obn hF
  refine cnai S hX hM er49 dX1_init_207 (fun H cs ss hM => ?_)
  obtain ⟨σ50, eσ50, hF⟩ := obn hF
  refine cprF (v := (some r49.1)) S hX hM eσ50 ck_1_1_28 cw_1_1_28 rfl q352 hin dX1_init_209 (fun H locs hM => ?_)
  refine lv_aload_n hx hb dX1_init_212 rfl (lv_at hl 0 rfl) ?_
  refine lv_iconst (v := 2) hx hb dX1_init_213 rfl ?_
  obtain ⟨r51, er51, hF⟩ := obn hF
  refine cna37 S hX hM er51 q304 dX1_init_214 (fun H cs ss hM => ?_)
  refine lv_dup hx hb dX1_init_217 rfl ?_
  refine lv_iconst (v := 0) hx hb dX1_init_218 rfl ?_
  obtain ⟨r52, er52, hF⟩ := obn hF
  refine cno (ci := 3) S hX hM er52 (by decide) q304 q306 q110 dX1_init_219 (fun H cs ss hM => ?_)
  refine lv_dup hx hb dX1_init_222 rfl ?_
  obtain ⟨r53, er53, hF⟩ := obn hF
  refine ccr (rest := [.ref r52.1, .int 0, .ref r51.1, .ref r51.1, .ref x0]) (st1 := [.ref r52.1, .int 0, .ref r51.1, .ref r51.1, .ref x0]) S hX hM (metX4_init l F D r52.2 r52.1 r53 er53) (ci_IN (As := []) (rest := [.ref r52.1, .int 0, .ref r51.1, .ref r51.1, .ref x0]) S rfl (uq307 hX) q308 q309 hyX4_init hlX4_init rfl dX1_init_223) q309 q110 (Nat.le_of_ble_eq_true rfl) (Nat.le_of_ble_eq_true rfl) hl.1 (Nat.le_of_ble_eq_true rfl) rfl (fun H locs cs ss hM => ?_)
  obtain ⟨σ54, eσ54, hF⟩ := obn hF
  refine cwr37 S hX hM eσ54 dX1_init_226 (fun H locs hM => ?_)
  refine lv_dup hx hb dX1_init_227 rfl ?_
  refine lv_iconst (v := 1) hx hb dX1_init_228 rfl ?_
  obtain ⟨r55, er55, hF⟩ := obn hF
  refine cno (ci := 3) S hX hM er55 (by decide) q304 q306 q110 dX1_init_229 (fun H cs ss hM => ?_)
  refine lv_dup hx hb dX1_init_232 rfl ?_
  obtain ⟨r56, er56, hF⟩ := obn hF
  refine ccr (rest := [.ref r55.1, .int 1, .ref r51.1, .ref r51.1, .ref x0]) (st1 := [.ref r55.1, .int 1, .ref r51.1, .ref r51.1, .ref x0]) S hX hM (metX4_init l F D r55.2 r55.1 r56 er56) (ci_IN (As := []) (rest := [.ref r55.1, .int 1, .ref r51.1, .ref r51.1, .ref x0]) S rfl (uq307 hX) q308 q309 hyX4_init hlX4_init rfl dX1_init_233) q309 q110 (Nat.le_of_ble_eq_true rfl) (Nat.le_of_ble_eq_true rfl) hl.1 (Nat.le_of_ble_eq_true rfl) rfl (fun H locs cs ss hM => ?_)
  obtain ⟨σ57, eσ57, hF⟩ := obn hF
  refine cwr37 S hX hM eσ57 dX1_init_236 (fun H locs hM => ?_)
  obtain ⟨σ58, eσ58, hF⟩ := obn hF
  refine cprF (v := (some r51.1)) S hX hM eσ58 ck_1_1_31 cw_1_1_31 rfl q355 hin dX1_init_237 (fun H locs hM => ?_)
  refine lv_iconst (v := 0) hx hb dX1_init_240 rfl ?_
  refine lv_istore_n (lv' := [(1, .int 0), (0, .ref x0)]) hx hb dX1_init_241 rfl hl (by decide) rfl (fun ls hl => ?_)
  obtain ⟨q64, hq64, hF⟩ := obn hF
  refine wlX1_init_242 S hX F  F _ _ _ q64 hq64 (fun H locs cs ss ls hM hl => ?_) _ _ _ _ _ hM (lv_sub hl [1, 0] rfl)
  have hz := (Option.some.inj hF)
  subst hz
  exact crv S hM hr hlocks dX1_init_267
def lX1_come_3 (F : Nat) : Nat → HS → Nat → Int32 → Int32 → Option (HS)
  | 0, _, _, _, _ => none
  | n + 1, σ, y0, y1, y2 => (if y2 < 0 then (some σ) else ((fR σ y0 1 1 0).bind fun a2 => ((oI σ y0 1 1 1).bind fun v3 => ((wI σ a2 32 v3 (vp_nar .byte ((y1 >>> (y2 &&& 31)).toInt8.toInt32))).bind fun σ4 => ((oI σ4 y0 1 1 1).bind fun v5 => ((pI σ4 y0 1 1 1 (v5 + 1)).bind fun σ6 => lX1_come_3 F n σ6 y0 y1 (y2 + (-8))))))))
def fX1_come (F : Nat) (h0 : HS) (x0 : Nat) (x1 : Int32) : Option (HS) := ((lX1_come_3 F F h0 x0 x1 24).bind fun q7 => some q7)
theorem hyX1_come : yX1_come.cls ≠ "java/lang/invoke/MethodHandle" ∧ yX1_come.cls ≠ "java/lang/invoke/VarHandle" := by decide +kernel
theorem hlX1_come : (parseMethodDescriptor yX1_come.desc).map (fun d => d.parameters.length) = some 1 := by decide +kernel
set_option maxHeartbeats 4000000 in
set_option maxRecDepth 100000 in
theorem wlX1_come_3 {p : Program} {l : Launch} [NoTr l] {e : Env} {s : State} {m : MethodId} {args : Array Value} {below : List Frame} {meth : Method} {c : Code} {D : va_G} {h0 : HS} (S : CallFix p m c cX1_come 3 s args lw_all RX1) (hX : CX D (kG h0) s) (F : Nat) {Q : State → Prop} : ∀ (n : Nat) (σ : HS) (y0 : Nat) (y1 : Int32) (y2 : Int32) (out : HS), lX1_come_3 F n σ y0 y1 y2 = some out → (∀ (H : Heap) (locs : List Loc) (cs ss : Nat) (ls : Array Slot), HI D h0 out s.heap H locs cs ss → lv_has ls 3 [] → W p l e (cR 0 0 h0) s m args below meth c H locs cs ss Q (F0 m 36 ls [])) → ∀ (H : Heap) (locs : List Loc) (cs ss : Nat) (ls : Array Slot), HI D h0 σ s.heap H locs cs ss → lv_has ls 3 [(0, .ref y0), (1, .int y1), (2, .int y2)] → W p l e (cR 0 0 h0) s m args below meth c H locs cs ss Q (F0 m 3 ls []) := by
  intro n
  induction n with
  | zero =>
    intro σ y0 y1 y2 out hF
    cases (show (none : Option _) = some out from hF)
  | succ n ih =>
    intro σ y0 y1 y2 out hF hk H locs cs ss ls hM hl
    rw [lX1_come_3] at hF
    obtain ⟨hx, hb, hml, hown, hts⟩ := id S
    refine lv_iload_n hx hb dX1_come_3 rfl (lv_at hl 2 rfl) ?_
    refine lv_if_lt (tgt := 36) hx hb dX1_come_4 (by decide) (fun c1 => ?_) (fun c1 => ?_)
    · have hF := ifp hF c1
      cases hF
      exact hk _ _ _ _ _ hM (lv_sub hl [] rfl)
    · have hF := ifn hF c1
      refine lv_aload_n hx hb dX1_come_7 rfl (lv_at hl 0 rfl) ?_
      obtain ⟨a2, ea2, hF⟩ := obn hF
      refine cgn S hX hM ea2 ck_1_1_0 q324 (fun _ h => h) dX1_come_8 ?_
      refine lv_aload_n hx hb dX1_come_11 rfl (lv_at hl 0 rfl) ?_
      obtain ⟨v3, ev3, hF⟩ := obn hF
      refine cgi S hX hM ev3 ck_1_1_1 q325 (fun _ h => h) dX1_come_12 ?_
      refine lv_iload_n hx hb dX1_come_15 rfl (lv_at hl 1 rfl) ?_
      refine lv_iload_n hx hb dX1_come_16 rfl (lv_at hl 2 rfl) ?_
      refine lv_ishr hx hb dX1_come_17 ?_
      refine lv_i2b hx hb dX1_come_18 rfl ?_
      obtain ⟨σ4, eσ4, hF⟩ := obn hF
      refine cwb S hX hM eσ4 dX1_come_19 (fun H locs hM => ?_)
      refine lv_aload_n hx hb dX1_come_20 rfl (lv_at hl 0 rfl) ?_
      refine lv_dup hx hb dX1_come_21 rfl ?_
      obtain ⟨v5, ev5, hF⟩ := obn hF
      refine cgi S hX hM ev5 ck_1_1_1 q325 (fun _ h => h) dX1_come_22 ?_
      refine lv_iconst (v := 1) hx hb dX1_come_25 rfl ?_
      refine lv_iadd hx hb dX1_come_26 ?_
      obtain ⟨σ6, eσ6, hF⟩ := obn hF
      refine cpi S hX hM eσ6 ck_1_1_1 cw_1_1_1 rfl rfl q325 (fun _ h => h) dX1_come_27 (fun H locs hM => ?_)
      refine lv_iinc (v := y2 + (-8)) (lv' := [(2, .int (y2 + (-8))), (0, .ref y0), (1, .int y1)]) hx hb dX1_come_30 hl (k := 2) rfl rfl (by decide) rfl (fun ls hl => ?_)
      refine lv_goto (tgt := 3) hx hb dX1_come_33 (by decide) ?_
      exact ih _ _ _ _ out hF hk _ _ _ _ _ hM (lv_sub hl [1, 2, 0] rfl)
set_option maxHeartbeats 4000000 in
set_option maxRecDepth 100000 in
theorem metX1_come (l : Launch) [NoTr l] (F : Nat) (D : va_G) (h0 : HS) (x0 : Nat) (x1 : Int32) (r : HS) (hF : fX1_come F h0 x0 x1 = some r) : CMet l yX1_come (ws_ yX1_come cX1_come 3 none) 0 0 D [.ref x0, .int x1] h0 r (.inr none) := by
  refine CMet.ofW (by decide) ?_
  intro p e s m below meth c s₁ B S hX hM hr hlocks hnt hin
  obtain ⟨hx, hb, hml, hown, hts⟩ := id S
  have hl := lv_entry ([.ref x0, .int x1]) (n := 3) (Nat.le_of_ble_eq_true rfl)
  rw [lg_entry_eq]
  generalize (lg_sl ([.ref x0, .int x1]) ++ List.replicate (3 - (lg_sl ([.ref x0, .int x1])).length) Slot.unset).toArray = ls at hl ⊢
  have hl : lv_has ls 3 [(0, .ref x0), (1, .int x1)] := hl
  unfold fX1_come at hF
  refine lv_bipush (v := 24) hx hb dX1_come_0 rfl ?_
  refine lv_istore_n (lv' := [(2, .int 24), (0, .ref x0), (1, .int x1)]) hx hb dX1_come_2 rfl hl (by decide) rfl (fun ls hl => ?_)
  obtain ⟨q7, hq7, hF⟩ := obn hF
  refine wlX1_come_3 S hX F  F _ _ _ _ q7 hq7 (fun H locs cs ss ls hM hl => ?_) _ _ _ _ _ hM (lv_sub hl [1, 2, 0] rfl)
  have hz := (Option.some.inj hF)
  subst hz
  exact crv S hM hr hlocks dX1_come_36
def fX1_feed (F : Nat) (h0 : HS) (x0 : Nat) (x1 : Int32) (x2 : Int32) (x3 : Int32) (x4 : Int32) (x5 : Int32) : Option (Int32 × HS) := ((oI h0 x0 1 1 1).bind fun v1 => (if (v1 + 20) ≤ 940 then (gT h0 x0 1 1 (((fX1_come F h0 x0 x1).bind fun r3 => gT r3 x0 1 1 (((fX1_come F r3 x0 x2).bind fun r4 => gT r4 x0 1 1 (((fX1_come F r4 x0 x3).bind fun r5 => gT r5 x0 1 1 (((fX1_come F r5 x0 x4).bind fun r6 => gT r6 x0 1 1 (((fX1_come F r6 x0 x5).bind fun r7 => ((oI r7 x0 1 1 1).bind fun v8 => some (v8, r7))))))))))))) else (some ((-1), h0))))
theorem hyX1_feed : yX1_feed.cls ≠ "java/lang/invoke/MethodHandle" ∧ yX1_feed.cls ≠ "java/lang/invoke/VarHandle" := by decide +kernel
theorem hlX1_feed : (parseMethodDescriptor yX1_feed.desc).map (fun d => d.parameters.length) = some 5 := by decide +kernel
set_option maxHeartbeats 4000000 in
set_option maxRecDepth 100000 in
theorem metX1_feed (l : Launch) [NoTr l] (F : Nat) (D : va_G) (h0 : HS) (x0 : Nat) (x1 : Int32) (x2 : Int32) (x3 : Int32) (x4 : Int32) (x5 : Int32) (r : Int32 × HS) (hF : fX1_feed F h0 x0 x1 x2 x3 x4 x5 = some r) : CMet l yX1_feed (ws_ yX1_feed cX1_feed 6 (some .int)) 1 22 D [.ref x0, .int x1, .int x2, .int x3, .int x4, .int x5] h0 r.2 (.inr (some (.int r.1))) := by
  refine CMet.ofW (by decide) ?_
  intro p e s m below meth c s₁ B S hX hM hr hlocks hnt hin
  obtain ⟨hx, hb, hml, hown, hts⟩ := id S
  have hl := lv_entry ([.ref x0, .int x1, .int x2, .int x3, .int x4, .int x5]) (n := 6) (Nat.le_of_ble_eq_true rfl)
  rw [lg_entry_eq]
  generalize (lg_sl ([.ref x0, .int x1, .int x2, .int x3, .int x4, .int x5]) ++ List.replicate (6 - (lg_sl ([.ref x0, .int x1, .int x2, .int x3, .int x4, .int x5])).length) Slot.unset).toArray = ls at hl ⊢
  have hl : lv_has ls 6 [(0, .ref x0), (1, .int x1), (2, .int x2), (3, .int x3), (4, .int x4), (5, .int x5)] := hl
  unfold fX1_feed at hF
  refine lv_aload_n hx hb dX1_feed_0 rfl (lv_at hl 0 rfl) ?_
  obtain ⟨v1, ev1, hF⟩ := obn hF
  refine cgi S hX hM ev1 ck_1_1_1 q325 (fun _ h => h) dX1_feed_1 ?_
  refine lv_bipush (v := 20) hx hb dX1_feed_4 rfl ?_
  refine lv_iadd hx hb dX1_feed_6 ?_
  refine lv_sipush (v := 940) hx hb dX1_feed_7 rfl ?_
  refine lv_icmp_le (tgt := 15) hx hb dX1_feed_10 (by decide) (fun c2 => ?_) (fun c2 => ?_)
  · have hF := ifp hF c2
    refine lv_aload_n hx hb dX1_feed_15 rfl (lv_at hl 0 rfl) ?_
    refine lv_iload_n hx hb dX1_feed_16 rfl (lv_at hl 1 rfl) ?_
    obtain ⟨z3, hF⟩ := gTe hF
    obtain ⟨r3, er3, hF⟩ := obn hF
    refine ccr (rest := []) (st1 := []) S hX hM (metX1_come l F D h0 x0 x1 r3 er3) (ci_V (C := "RugReader") (As := [.int x1]) (rest := []) S q425 q427 qs0 q428 hyX1_come (HI.cell (ci := 0) hX hM (by decide) (by omega)) hlX1_come rfl dX1_feed_17) q428 q103 (Nat.le_of_ble_eq_true rfl) (Nat.le_of_ble_eq_true rfl) hl.1 (Nat.le_of_ble_eq_true rfl) rfl (fun H locs cs ss hM => ?_)
    refine lv_aload_n hx hb dX1_feed_20 rfl (lv_at hl 0 rfl) ?_
    refine lv_iload_n hx hb dX1_feed_21 rfl (lv_at hl 2 rfl) ?_
    obtain ⟨z4, hF⟩ := gTe hF
    obtain ⟨r4, er4, hF⟩ := obn hF
    refine ccr (rest := []) (st1 := []) S hX hM (metX1_come l F D r3 x0 x2 r4 er4) (ci_V (C := "RugReader") (As := [.int x2]) (rest := []) S q425 q427 qs0 q428 hyX1_come (HI.cell (ci := 0) hX hM (by decide) (by omega)) hlX1_come rfl dX1_feed_22) q428 q103 (Nat.le_of_ble_eq_true rfl) (Nat.le_of_ble_eq_true rfl) hl.1 (Nat.le_of_ble_eq_true rfl) rfl (fun H locs cs ss hM => ?_)
    refine lv_aload_n hx hb dX1_feed_25 rfl (lv_at hl 0 rfl) ?_
    refine lv_iload_n hx hb dX1_feed_26 rfl (lv_at hl 3 rfl) ?_
    obtain ⟨z5, hF⟩ := gTe hF
    obtain ⟨r5, er5, hF⟩ := obn hF
    refine ccr (rest := []) (st1 := []) S hX hM (metX1_come l F D r4 x0 x3 r5 er5) (ci_V (C := "RugReader") (As := [.int x3]) (rest := []) S q425 q427 qs0 q428 hyX1_come (HI.cell (ci := 0) hX hM (by decide) (by omega)) hlX1_come rfl dX1_feed_27) q428 q103 (Nat.le_of_ble_eq_true rfl) (Nat.le_of_ble_eq_true rfl) hl.1 (Nat.le_of_ble_eq_true rfl) rfl (fun H locs cs ss hM => ?_)
    refine lv_aload_n hx hb dX1_feed_30 rfl (lv_at hl 0 rfl) ?_
    refine lv_iload hx hb dX1_feed_31 (lv_at hl 4 rfl) ?_
    obtain ⟨z6, hF⟩ := gTe hF
    obtain ⟨r6, er6, hF⟩ := obn hF
    refine ccr (rest := []) (st1 := []) S hX hM (metX1_come l F D r5 x0 x4 r6 er6) (ci_V (C := "RugReader") (As := [.int x4]) (rest := []) S q425 q427 qs0 q428 hyX1_come (HI.cell (ci := 0) hX hM (by decide) (by omega)) hlX1_come rfl dX1_feed_33) q428 q103 (Nat.le_of_ble_eq_true rfl) (Nat.le_of_ble_eq_true rfl) hl.1 (Nat.le_of_ble_eq_true rfl) rfl (fun H locs cs ss hM => ?_)
    refine lv_aload_n hx hb dX1_feed_36 rfl (lv_at hl 0 rfl) ?_
    refine lv_iload hx hb dX1_feed_37 (lv_at hl 5 rfl) ?_
    obtain ⟨z7, hF⟩ := gTe hF
    obtain ⟨r7, er7, hF⟩ := obn hF
    refine ccr (rest := []) (st1 := []) S hX hM (metX1_come l F D r6 x0 x5 r7 er7) (ci_V (C := "RugReader") (As := [.int x5]) (rest := []) S q425 q427 qs0 q428 hyX1_come (HI.cell (ci := 0) hX hM (by decide) (by omega)) hlX1_come rfl dX1_feed_39) q428 q103 (Nat.le_of_ble_eq_true rfl) (Nat.le_of_ble_eq_true rfl) hl.1 (Nat.le_of_ble_eq_true rfl) rfl (fun H locs cs ss hM => ?_)
    refine lv_aload_n hx hb dX1_feed_42 rfl (lv_at hl 0 rfl) ?_
    obtain ⟨v8, ev8, hF⟩ := obn hF
    refine cgi S hX hM ev8 ck_1_1_1 q325 (fun _ h => h) dX1_feed_43 ?_
    have hz := (Option.some.inj hF)
    subst hz
    exact cri S hM hr hlocks dX1_feed_46
  · have hF := ifn hF c2
    refine lv_iconst (v := (-1)) hx hb dX1_feed_13 rfl ?_
    have hz := (Option.some.inj hF)
    subst hz
    exact cri S hM hr hlocks dX1_feed_14
def fX1_end (F : Nat) (h0 : HS) (x0 : Nat) (x1 : Int32) : Option (Int32 × HS) := (if x1 < 0 then (some (0, h0)) else ((oI h0 x0 1 1 1).bind fun v2 => (if x1 ≤ v2 then ((pI h0 x0 1 1 1 x1).bind fun σ4 => some (1, σ4)) else (some (0, h0)))))
theorem hyX1_end : yX1_end.cls ≠ "java/lang/invoke/MethodHandle" ∧ yX1_end.cls ≠ "java/lang/invoke/VarHandle" := by decide +kernel
theorem hlX1_end : (parseMethodDescriptor yX1_end.desc).map (fun d => d.parameters.length) = some 1 := by decide +kernel
set_option maxHeartbeats 4000000 in
set_option maxRecDepth 100000 in
theorem metX1_end (l : Launch) [NoTr l] (F : Nat) (D : va_G) (h0 : HS) (x0 : Nat) (x1 : Int32) (r : Int32 × HS) (hF : fX1_end F h0 x0 x1 = some r) : CMet l yX1_end (ws_ yX1_end cX1_end 2 (some .boolean)) 0 0 D [.ref x0, .int x1] h0 r.2 (.inr (some (.int r.1))) := by
  refine CMet.ofW (by decide) ?_
  intro p e s m below meth c s₁ B S hX hM hr hlocks hnt hin
  obtain ⟨hx, hb, hml, hown, hts⟩ := id S
  have hl := lv_entry ([.ref x0, .int x1]) (n := 2) (Nat.le_of_ble_eq_true rfl)
  rw [lg_entry_eq]
  generalize (lg_sl ([.ref x0, .int x1]) ++ List.replicate (2 - (lg_sl ([.ref x0, .int x1])).length) Slot.unset).toArray = ls at hl ⊢
  have hl : lv_has ls 2 [(0, .ref x0), (1, .int x1)] := hl
  unfold fX1_end at hF
  refine lv_iload_n hx hb dX1_end_0 rfl (lv_at hl 1 rfl) ?_
  refine lv_if_lt (tgt := 12) hx hb dX1_end_1 (by decide) (fun c1 => ?_) (fun c1 => ?_)
  · have hF := ifp hF c1
    refine lv_iconst (v := 0) hx hb dX1_end_12 rfl ?_
    have hz := (Option.some.inj hF)
    subst hz
    exact crz S hM hr hlocks (gBn gB0) dX1_end_13
  · have hF := ifn hF c1
    refine lv_iload_n hx hb dX1_end_4 rfl (lv_at hl 1 rfl) ?_
    refine lv_aload_n hx hb dX1_end_5 rfl (lv_at hl 0 rfl) ?_
    obtain ⟨v2, ev2, hF⟩ := obn hF
    refine cgi S hX hM ev2 ck_1_1_1 q325 (fun _ h => h) dX1_end_6 ?_
    refine lv_icmp_le (tgt := 14) hx hb dX1_end_9 (by decide) (fun c3 => ?_) (fun c3 => ?_)
    · have hF := ifp hF c3
      refine lv_aload_n hx hb dX1_end_14 rfl (lv_at hl 0 rfl) ?_
      refine lv_iload_n hx hb dX1_end_15 rfl (lv_at hl 1 rfl) ?_
      obtain ⟨σ4, eσ4, hF⟩ := obn hF
      refine cpi S hX hM eσ4 ck_1_1_1 cw_1_1_1 rfl rfl q325 (fun _ h => h) dX1_end_16 (fun H locs hM => ?_)
      refine lv_iconst (v := 1) hx hb dX1_end_19 rfl ?_
      have hz := (Option.some.inj hF)
      subst hz
      exact crz S hM hr hlocks (gBn gB1) dX1_end_20
    · have hF := ifn hF c3
      refine lv_iconst (v := 0) hx hb dX1_end_12 rfl ?_
      have hz := (Option.some.inj hF)
      subst hz
      exact crz S hM hr hlocks (gBn gB0) dX1_end_13
def fX1_take (F : Nat) (h0 : HS) (x0 : Nat) : Option (Int32 × HS) := ((oI h0 x0 1 1 1).bind fun v1 => ((pI h0 x0 1 1 1 0).bind fun σ2 => some (v1, σ2)))
theorem hyX1_take : yX1_take.cls ≠ "java/lang/invoke/MethodHandle" ∧ yX1_take.cls ≠ "java/lang/invoke/VarHandle" := by decide +kernel
theorem hlX1_take : (parseMethodDescriptor yX1_take.desc).map (fun d => d.parameters.length) = some 0 := by decide +kernel
set_option maxHeartbeats 4000000 in
set_option maxRecDepth 100000 in
theorem metX1_take (l : Launch) [NoTr l] (F : Nat) (D : va_G) (h0 : HS) (x0 : Nat) (r : Int32 × HS) (hF : fX1_take F h0 x0 = some r) : CMet l yX1_take (ws_ yX1_take cX1_take 2 (some .int)) 0 0 D [.ref x0] h0 r.2 (.inr (some (.int r.1))) := by
  refine CMet.ofW (by decide) ?_
  intro p e s m below meth c s₁ B S hX hM hr hlocks hnt hin
  obtain ⟨hx, hb, hml, hown, hts⟩ := id S
  have hl := lv_entry ([.ref x0]) (n := 2) (Nat.le_of_ble_eq_true rfl)
  rw [lg_entry_eq]
  generalize (lg_sl ([.ref x0]) ++ List.replicate (2 - (lg_sl ([.ref x0])).length) Slot.unset).toArray = ls at hl ⊢
  have hl : lv_has ls 2 [(0, .ref x0)] := hl
  unfold fX1_take at hF
  refine lv_aload_n hx hb dX1_take_0 rfl (lv_at hl 0 rfl) ?_
  obtain ⟨v1, ev1, hF⟩ := obn hF
  refine cgi S hX hM ev1 ck_1_1_1 q325 (fun _ h => h) dX1_take_1 ?_
  refine lv_istore_n (lv' := [(1, .int v1), (0, .ref x0)]) hx hb dX1_take_4 rfl hl (by decide) rfl (fun ls hl => ?_)
  refine lv_aload_n hx hb dX1_take_5 rfl (lv_at hl 1 rfl) ?_
  refine lv_iconst (v := 0) hx hb dX1_take_6 rfl ?_
  obtain ⟨σ2, eσ2, hF⟩ := obn hF
  refine cpi S hX hM eσ2 ck_1_1_1 cw_1_1_1 rfl rfl q325 (fun _ h => h) dX1_take_7 (fun H locs hM => ?_)
  refine lv_iload_n hx hb dX1_take_10 rfl (lv_at hl 0 rfl) ?_
  have hz := (Option.some.inj hF)
  subst hz
  exact cri S hM hr hlocks dX1_take_11
def fX6_init (F : Nat) (h0 : HS) (x0 : Nat) (x1 : Nat) (x2 : Int32) (x3 : Int32) : Option (HS) := ((pR h0 x0 5 7 8 (some (kG h0 30))).bind fun σ2 => ((pR σ2 x0 5 7 0 (some x1)).bind fun σ3 => ((pI σ3 x0 5 7 1 x2).bind fun σ4 => ((pI σ4 x0 5 7 2 x3).bind fun σ5 => some σ5))))
theorem hyX6_init : yX6_init.cls ≠ "java/lang/invoke/MethodHandle" ∧ yX6_init.cls ≠ "java/lang/invoke/VarHandle" := by decide +kernel
theorem hlX6_init : (parseMethodDescriptor yX6_init.desc).map (fun d => d.parameters.length) = some 3 := by decide +kernel
set_option maxHeartbeats 4000000 in
set_option maxRecDepth 100000 in
theorem metX6_init (l : Launch) [NoTr l] (F : Nat) (D : va_G) (h0 : HS) (x0 : Nat) (x1 : Nat) (x2 : Int32) (x3 : Int32) (r : HS) (hF : fX6_init F h0 x0 x1 x2 x3 = some r) : CMet l yX6_init (ws_ yX6_init cX6_init 4 none) 1 20 D [.ref x0, .ref x1, .int x2, .int x3] h0 r (.inr none) := by
  refine CMet.ofW (by decide) ?_
  intro p e s m below meth c s₁ B S hX hM hr hlocks hnt hin
  obtain ⟨hx, hb, hml, hown, hts⟩ := id S
  have hl := lv_entry ([.ref x0, .ref x1, .int x2, .int x3]) (n := 4) (Nat.le_of_ble_eq_true rfl)
  rw [lg_entry_eq]
  generalize (lg_sl ([.ref x0, .ref x1, .int x2, .int x3]) ++ List.replicate (4 - (lg_sl ([.ref x0, .ref x1, .int x2, .int x3])).length) Slot.unset).toArray = ls at hl ⊢
  have hl : lv_has ls 4 [(0, .ref x0), (1, .ref x1), (2, .int x2), (3, .int x3)] := hl
  unfold fX6_init at hF
  refine lv_aload_n hx hb dX6_init_0 rfl (lv_at hl 0 rfl) ?_
  refine cobj S q450 q148 q149 hl.1 (Nat.le_of_ble_eq_true rfl) dX6_init_1 (Nat.le_of_ble_eq_true rfl) (Nat.le_of_ble_eq_true rfl) ?_
  refine lv_aload_n hx hb dX6_init_4 rfl (lv_at hl 0 rfl) ?_
  refine cldc S hM (uq451 hX) dX6_init_5 ?_
  obtain ⟨σ2, eσ2, hF⟩ := obn hF
  refine cpr (v := (some (kG h0 30))) S hX hM eσ2 ck_5_7_8 cw_5_7_8 rfl q472 (fun _ h => h) dX6_init_7 (fun H locs hM => ?_)
  refine lv_aload_n hx hb dX6_init_10 rfl (lv_at hl 0 rfl) ?_
  refine lv_aload_n hx hb dX6_init_11 rfl (lv_at hl 1 rfl) ?_
  obtain ⟨σ3, eσ3, hF⟩ := obn hF
  refine cprF (v := (some x1)) S hX hM eσ3 ck_5_7_0 cw_5_7_0 rfl q456 hin dX6_init_12 (fun H locs hM => ?_)
  refine lv_aload_n hx hb dX6_init_15 rfl (lv_at hl 0 rfl) ?_
  refine lv_iload_n hx hb dX6_init_16 rfl (lv_at hl 2 rfl) ?_
  obtain ⟨σ4, eσ4, hF⟩ := obn hF
  refine cpiF S hX hM eσ4 ck_5_7_1 cw_5_7_1 rfl rfl q457 hin dX6_init_17 (fun H locs hM => ?_)
  refine lv_aload_n hx hb dX6_init_20 rfl (lv_at hl 0 rfl) ?_
  refine lv_iload_n hx hb dX6_init_21 rfl (lv_at hl 3 rfl) ?_
  obtain ⟨σ5, eσ5, hF⟩ := obn hF
  refine cpiF S hX hM eσ5 ck_5_7_2 cw_5_7_2 rfl rfl q458 hin dX6_init_22 (fun H locs hM => ?_)
  have hz := (Option.some.inj hF)
  subst hz
  exact crv S hM hr hlocks dX6_init_25
def fX7_init (F : Nat) (h0 : HS) (x0 : Nat) (x1 : Nat) (x2 : Int32) : Option (HS) := ((fX6_init F h0 x0 x1 x2 900).bind fun r1 => ((nO r1 2 10).bind fun r2 => ((fX2_init F r2.2 r2.1).bind fun r3 => ((pR r3 x0 5 5 9 (some r2.1)).bind fun σ4 => some σ4))))
theorem hyX7_init : yX7_init.cls ≠ "java/lang/invoke/MethodHandle" ∧ yX7_init.cls ≠ "java/lang/invoke/VarHandle" := by decide +kernel
theorem hlX7_init : (parseMethodDescriptor yX7_init.desc).map (fun d => d.parameters.length) = some 2 := by decide +kernel
set_option maxHeartbeats 4000000 in
set_option maxRecDepth 100000 in
theorem metX7_init (l : Launch) [NoTr l] (F : Nat) (D : va_G) (h0 : HS) (x0 : Nat) (x1 : Nat) (x2 : Int32) (r : HS) (hF : fX7_init F h0 x0 x1 x2 = some r) : CMet l yX7_init (ws_ yX7_init cX7_init 3 none) 5 100 D [.ref x0, .ref x1, .int x2] h0 r (.inr none) := by
  refine CMet.ofW (by decide) ?_
  intro p e s m below meth c s₁ B S hX hM hr hlocks hnt hin
  obtain ⟨hx, hb, hml, hown, hts⟩ := id S
  have hl := lv_entry ([.ref x0, .ref x1, .int x2]) (n := 3) (Nat.le_of_ble_eq_true rfl)
  rw [lg_entry_eq]
  generalize (lg_sl ([.ref x0, .ref x1, .int x2]) ++ List.replicate (3 - (lg_sl ([.ref x0, .ref x1, .int x2])).length) Slot.unset).toArray = ls at hl ⊢
  have hl : lv_has ls 3 [(0, .ref x0), (1, .ref x1), (2, .int x2)] := hl
  unfold fX7_init at hF
  refine lv_aload_n hx hb dX7_init_0 rfl (lv_at hl 0 rfl) ?_
  refine lv_aload_n hx hb dX7_init_1 rfl (lv_at hl 1 rfl) ?_
  refine lv_iload_n hx hb dX7_init_2 rfl (lv_at hl 2 rfl) ?_
  refine lv_sipush (v := 900) hx hb dX7_init_3 rfl ?_
  obtain ⟨r1, er1, hF⟩ := obn hF
  refine ccr (rest := []) (st1 := []) S hX hM (metX6_init l F D h0 x0 x1 x2 900 r1 er1) (ci_I (As := [.ref x1, .int x2, .int 900]) (rest := []) S rfl q447 q448 q449 hyX6_init hlX6_init rfl dX7_init_6) q449 q112 (Nat.le_of_ble_eq_true rfl) (Nat.le_of_ble_eq_true rfl) hl.1 (Nat.le_of_ble_eq_true rfl) rfl (fun H locs cs ss hM => ?_)
  refine lv_aload_n hx hb dX7_init_9 rfl (lv_at hl 0 rfl) ?_
  obtain ⟨r2, er2, hF⟩ := obn hF
  refine cno (ci := 1) S hX hM er2 (by decide) q452 q151 q104 dX7_init_10 (fun H cs ss hM => ?_)
  refine lv_dup hx hb dX7_init_13 rfl ?_
  obtain ⟨r3, er3, hF⟩ := obn hF
  refine ccr (rest := [.ref r2.1, .ref x0]) (st1 := [.ref r2.1, .ref x0]) S hX hM (metX2_init l F D r2.2 r2.1 r3 er3) (ci_IN (As := []) (rest := [.ref r2.1, .ref x0]) S rfl (uq453 hX) q153 q154 hyX2_init hlX2_init rfl dX7_init_14) q154 q104 (Nat.le_of_ble_eq_true rfl) (Nat.le_of_ble_eq_true rfl) hl.1 (Nat.le_of_ble_eq_true rfl) rfl (fun H locs cs ss hM => ?_)
  obtain ⟨σ4, eσ4, hF⟩ := obn hF
  refine cprF (v := (some r2.1)) S hX hM eσ4 ck_5_5_9 cw_5_5_9 rfl q454 hin dX7_init_17 (fun H locs hM => ?_)
  have hz := (Option.some.inj hF)
  subst hz
  exact crv S hM hr hlocks dX7_init_20
def fX6_byteAt (F : Nat) (h0 : HS) (x0 : Nat) (x1 : Int32) : Option (Int32) := ((oI h0 x0 5 7 1).bind fun v1 => (if v1 ≤ x1 then (some 0) else ((fR h0 x0 5 7 0).bind fun a3 => ((aI h0 a3 32 x1).bind fun v4 => some (v4 &&& 255)))))
theorem hyX6_byteAt : yX6_byteAt.cls ≠ "java/lang/invoke/MethodHandle" ∧ yX6_byteAt.cls ≠ "java/lang/invoke/VarHandle" := by decide +kernel
theorem hlX6_byteAt : (parseMethodDescriptor yX6_byteAt.desc).map (fun d => d.parameters.length) = some 1 := by decide +kernel
set_option maxHeartbeats 4000000 in
set_option maxRecDepth 100000 in
theorem metX6_byteAt (l : Launch) [NoTr l] (F : Nat) (D : va_G) (h0 : HS) (x0 : Nat) (x1 : Int32) (r : Int32) (hF : fX6_byteAt F h0 x0 x1 = some r) : CMet l yX6_byteAt (ws_ yX6_byteAt cX6_byteAt 2 (some .int)) 0 0 D [.ref x0, .int x1] h0 h0 (.inr (some (.int r))) := by
  refine CMet.ofW (by decide) ?_
  intro p e s m below meth c s₁ B S hX hM hr hlocks hnt hin
  obtain ⟨hx, hb, hml, hown, hts⟩ := id S
  have hl := lv_entry ([.ref x0, .int x1]) (n := 2) (Nat.le_of_ble_eq_true rfl)
  rw [lg_entry_eq]
  generalize (lg_sl ([.ref x0, .int x1]) ++ List.replicate (2 - (lg_sl ([.ref x0, .int x1])).length) Slot.unset).toArray = ls at hl ⊢
  have hl : lv_has ls 2 [(0, .ref x0), (1, .int x1)] := hl
  unfold fX6_byteAt at hF
  refine lv_iload_n hx hb dX6_byteAt_0 rfl (lv_at hl 1 rfl) ?_
  refine lv_aload_n hx hb dX6_byteAt_1 rfl (lv_at hl 0 rfl) ?_
  obtain ⟨v1, ev1, hF⟩ := obn hF
  refine cgi S hX hM ev1 ck_5_7_1 q457 (fun _ h => h) dX6_byteAt_2 ?_
  refine lv_icmp_ge (tgt := 21) hx hb dX6_byteAt_5 (by decide) (fun c2 => ?_) (fun c2 => ?_)
  · have hF := ifp hF c2
    refine lv_iconst (v := 0) hx hb dX6_byteAt_21 rfl ?_
    have hz := (Option.some.inj hF)
    subst hz
    exact cri S hM hr hlocks dX6_byteAt_22
  · have hF := ifn hF c2
    refine lv_aload_n hx hb dX6_byteAt_8 rfl (lv_at hl 0 rfl) ?_
    obtain ⟨a3, ea3, hF⟩ := obn hF
    refine cgn S hX hM ea3 ck_5_7_0 q456 (fun _ h => h) dX6_byteAt_9 ?_
    refine lv_iload_n hx hb dX6_byteAt_12 rfl (lv_at hl 1 rfl) ?_
    obtain ⟨v4, ev4, hF⟩ := obn hF
    refine cab S hX hM ev4 dX6_byteAt_13 ?_
    refine lv_sipush (v := 255) hx hb dX6_byteAt_14 rfl ?_
    refine lv_iand hx hb dX6_byteAt_17 ?_
    refine lv_goto (tgt := 22) hx hb dX6_byteAt_18 (by decide) ?_
    have hz := (Option.some.inj hF)
    subst hz
    exact cri S hM hr hlocks dX6_byteAt_22
def fX6_isLetter (x0 : Int32) : Int32 := (if x0 < 97 then 0 else (if 122 < x0 then 0 else 1))
theorem hyX6_isLetter : yX6_isLetter.cls ≠ "java/lang/invoke/MethodHandle" ∧ yX6_isLetter.cls ≠ "java/lang/invoke/VarHandle" := by decide +kernel
theorem hlX6_isLetter : (parseMethodDescriptor yX6_isLetter.desc).map (fun d => d.parameters.length) = some 1 := by decide +kernel
set_option maxHeartbeats 4000000 in
set_option maxRecDepth 100000 in
theorem metX6_isLetter (l : Launch) [NoTr l] (D : va_G) (h0 : HS) (x0 : Int32) (r : Int32) (hF : fX6_isLetter x0 = r) : CMet l yX6_isLetter (ws_ yX6_isLetter cX6_isLetter 1 (some .boolean)) 0 0 D [.int x0] h0 h0 (.inr (some (.int r))) := by
  refine CMet.ofW (by decide) ?_
  intro p e s m below meth c s₁ B S hX hM hr hlocks hnt hin
  obtain ⟨hx, hb, hml, hown, hts⟩ := id S
  have hl := lv_entry ([.int x0]) (n := 1) (Nat.le_of_ble_eq_true rfl)
  rw [lg_entry_eq]
  generalize (lg_sl ([.int x0]) ++ List.replicate (1 - (lg_sl ([.int x0])).length) Slot.unset).toArray = ls at hl ⊢
  have hl : lv_has ls 1 [(0, .int x0)] := hl
  unfold fX6_isLetter at hF
  refine lv_iload_n hx hb dX6_isLetter_0 rfl (lv_at hl 0 rfl) ?_
  refine lv_bipush (v := 97) hx hb dX6_isLetter_1 rfl ?_
  refine lv_icmp_lt (tgt := 16) hx hb dX6_isLetter_3 (by decide) (fun c1 => ?_) (fun c1 => ?_)
  · have hF := ifp hF c1
    refine lv_iconst (v := 0) hx hb dX6_isLetter_16 rfl ?_
    have hz := hF
    subst hz
    exact crz S hM hr hlocks (gBn gB0) dX6_isLetter_17
  · have hF := ifn hF c1
    refine lv_iload_n hx hb dX6_isLetter_6 rfl (lv_at hl 0 rfl) ?_
    refine lv_bipush (v := 122) hx hb dX6_isLetter_7 rfl ?_
    refine lv_icmp_gt (tgt := 16) hx hb dX6_isLetter_9 (by decide) (fun c2 => ?_) (fun c2 => ?_)
    · have hF := ifp hF c2
      refine lv_iconst (v := 0) hx hb dX6_isLetter_16 rfl ?_
      have hz := hF
      subst hz
      exact crz S hM hr hlocks (gBn gB0) dX6_isLetter_17
    · have hF := ifn hF c2
      refine lv_iconst (v := 1) hx hb dX6_isLetter_12 rfl ?_
      refine lv_goto (tgt := 17) hx hb dX6_isLetter_13 (by decide) ?_
      have hz := hF
      subst hz
      exact crz S hM hr hlocks (gBn gB1) dX6_isLetter_17
def fX6_isDigit (x0 : Int32) : Int32 := (if x0 < 48 then 0 else (if 57 < x0 then 0 else 1))
theorem hyX6_isDigit : yX6_isDigit.cls ≠ "java/lang/invoke/MethodHandle" ∧ yX6_isDigit.cls ≠ "java/lang/invoke/VarHandle" := by decide +kernel
theorem hlX6_isDigit : (parseMethodDescriptor yX6_isDigit.desc).map (fun d => d.parameters.length) = some 1 := by decide +kernel
set_option maxHeartbeats 4000000 in
set_option maxRecDepth 100000 in
theorem metX6_isDigit (l : Launch) [NoTr l] (D : va_G) (h0 : HS) (x0 : Int32) (r : Int32) (hF : fX6_isDigit x0 = r) : CMet l yX6_isDigit (ws_ yX6_isDigit cX6_isDigit 1 (some .boolean)) 0 0 D [.int x0] h0 h0 (.inr (some (.int r))) := by
  refine CMet.ofW (by decide) ?_
  intro p e s m below meth c s₁ B S hX hM hr hlocks hnt hin
  obtain ⟨hx, hb, hml, hown, hts⟩ := id S
  have hl := lv_entry ([.int x0]) (n := 1) (Nat.le_of_ble_eq_true rfl)
  rw [lg_entry_eq]
  generalize (lg_sl ([.int x0]) ++ List.replicate (1 - (lg_sl ([.int x0])).length) Slot.unset).toArray = ls at hl ⊢
  have hl : lv_has ls 1 [(0, .int x0)] := hl
  unfold fX6_isDigit at hF
  refine lv_iload_n hx hb dX6_isDigit_0 rfl (lv_at hl 0 rfl) ?_
  refine lv_bipush (v := 48) hx hb dX6_isDigit_1 rfl ?_
  refine lv_icmp_lt (tgt := 16) hx hb dX6_isDigit_3 (by decide) (fun c1 => ?_) (fun c1 => ?_)
  · have hF := ifp hF c1
    refine lv_iconst (v := 0) hx hb dX6_isDigit_16 rfl ?_
    have hz := hF
    subst hz
    exact crz S hM hr hlocks (gBn gB0) dX6_isDigit_17
  · have hF := ifn hF c1
    refine lv_iload_n hx hb dX6_isDigit_6 rfl (lv_at hl 0 rfl) ?_
    refine lv_bipush (v := 57) hx hb dX6_isDigit_7 rfl ?_
    refine lv_icmp_gt (tgt := 16) hx hb dX6_isDigit_9 (by decide) (fun c2 => ?_) (fun c2 => ?_)
    · have hF := ifp hF c2
      refine lv_iconst (v := 0) hx hb dX6_isDigit_16 rfl ?_
      have hz := hF
      subst hz
      exact crz S hM hr hlocks (gBn gB0) dX6_isDigit_17
    · have hF := ifn hF c2
      refine lv_iconst (v := 1) hx hb dX6_isDigit_12 rfl ?_
      refine lv_goto (tgt := 17) hx hb dX6_isDigit_13 (by decide) ?_
      have hz := hF
      subst hz
      exact crz S hM hr hlocks (gBn gB1) dX6_isDigit_17
def fJ4_init (F : Nat) (h0 : HS) (x0 : Nat) (x1 : Int32) : Option (HS) := ((nA h0 32 x1).bind fun r4 => ((pR r4.2 x0 16 16 0 (some r4.1)).bind fun σ5 => ((pI σ5 x0 16 16 1 0).bind fun σ6 => some σ6)))
theorem hyJ4_init : yJ4_init.cls ≠ "java/lang/invoke/MethodHandle" ∧ yJ4_init.cls ≠ "java/lang/invoke/VarHandle" := by decide +kernel
theorem hlJ4_init : (parseMethodDescriptor yJ4_init.desc).map (fun d => d.parameters.length) = some 1 := by decide +kernel
set_option maxHeartbeats 4000000 in
set_option maxRecDepth 100000 in
theorem metJ4_init (l : Launch) [NoTr l] (F : Nat) (D : va_G) (h0 : HS) (x0 : Nat) (x1 : Int32) (r : HS) (hF : fJ4_init F h0 x0 x1 = some r) : CMet l yJ4_init (ws_ yJ4_init cJ4_init 2 none) 1 20 D [.ref x0, .int x1] h0 r (.inr none) := by
  refine CMet.ofW (by decide) ?_
  intro p e s m below meth c s₁ B S hX hM hr hlocks hnt hin
  obtain ⟨hx, hb, hml, hown, hts⟩ := id S
  have hl := lv_entry ([.ref x0, .int x1]) (n := 2) (Nat.le_of_ble_eq_true rfl)
  rw [lg_entry_eq]
  generalize (lg_sl ([.ref x0, .int x1]) ++ List.replicate (2 - (lg_sl ([.ref x0, .int x1])).length) Slot.unset).toArray = ls at hl ⊢
  have hl : lv_has ls 2 [(0, .ref x0), (1, .int x1)] := hl
  unfold fJ4_init at hF
  refine lv_aload_n hx hb dJ4_init_0 rfl (lv_at hl 0 rfl) ?_
  refine cobj S q526 q148 q149 hl.1 (Nat.le_of_ble_eq_true rfl) dJ4_init_1 (Nat.le_of_ble_eq_true rfl) (Nat.le_of_ble_eq_true rfl) ?_
  refine cst (ref := "") S hM (ust3 hX) q527 dJ4_init_4 ?_
  refine lv_if_eq (tgt := 25) hx hb dJ4_init_7 (by decide) (fun c3 => ?_) (fun c3 => ?_)
  · exact absurd c3 (by decide)
  · refine lv_aload_n hx hb dJ4_init_10 rfl (lv_at hl 0 rfl) ?_
    refine lv_iload_n hx hb dJ4_init_11 rfl (lv_at hl 1 rfl) ?_
    obtain ⟨r4, er4, hF⟩ := obn hF
    refine cnab S hX hM er4 dJ4_init_12 (fun H cs ss hM => ?_)
    obtain ⟨σ5, eσ5, hF⟩ := obn hF
    refine cpr (v := (some r4.1)) S hX hM eσ5 ck_16_16_0 cw_16_16_0 rfl q536 (fun _ h => h) dJ4_init_14 (fun H locs hM => ?_)
    refine lv_aload_n hx hb dJ4_init_17 rfl (lv_at hl 0 rfl) ?_
    refine lv_iconst (v := 0) hx hb dJ4_init_18 rfl ?_
    obtain ⟨σ6, eσ6, hF⟩ := obn hF
    refine cpi S hX hM eσ6 ck_16_16_1 cw_16_16_1 rfl rfl q537 (fun _ h => h) dJ4_init_19 (fun H locs hM => ?_)
    refine lv_goto (tgt := 38) hx hb dJ4_init_22 (by decide) ?_
    have hz := (Option.some.inj hF)
    subst hz
    exact crv S hM hr hlocks dJ4_init_38
def fJ5_init (F : Nat) (h0 : HS) (x0 : Nat) : Option (HS) := ((fJ4_init F h0 x0 16).bind fun r1 => some r1)
theorem hyJ5_init : yJ5_init.cls ≠ "java/lang/invoke/MethodHandle" ∧ yJ5_init.cls ≠ "java/lang/invoke/VarHandle" := by decide +kernel
theorem hlJ5_init : (parseMethodDescriptor yJ5_init.desc).map (fun d => d.parameters.length) = some 0 := by decide +kernel
set_option maxHeartbeats 4000000 in
set_option maxRecDepth 100000 in
theorem metJ5_init (l : Launch) [NoTr l] (F : Nat) (D : va_G) (h0 : HS) (x0 : Nat) (r : HS) (hF : fJ5_init F h0 x0 = some r) : CMet l yJ5_init (ws_ yJ5_init cJ5_init 1 none) 2 41 D [.ref x0] h0 r (.inr none) := by
  refine CMet.ofW (by decide) ?_
  intro p e s m below meth c s₁ B S hX hM hr hlocks hnt hin
  obtain ⟨hx, hb, hml, hown, hts⟩ := id S
  have hl := lv_entry ([.ref x0]) (n := 1) (Nat.le_of_ble_eq_true rfl)
  rw [lg_entry_eq]
  generalize (lg_sl ([.ref x0]) ++ List.replicate (1 - (lg_sl ([.ref x0])).length) Slot.unset).toArray = ls at hl ⊢
  have hl : lv_has ls 1 [(0, .ref x0)] := hl
  unfold fJ5_init at hF
  refine lv_aload_n hx hb dJ5_init_0 rfl (lv_at hl 0 rfl) ?_
  refine lv_bipush (v := 16) hx hb dJ5_init_1 rfl ?_
  obtain ⟨r1, er1, hF⟩ := obn hF
  refine ccr (rest := []) (st1 := []) S hX hM (metJ4_init l F D h0 x0 16 r1 er1) (ci_I (As := [.int 16]) (rest := []) S rfl q523 q524 q525 hyJ4_init hlJ4_init rfl dJ5_init_3) q525 q114 (Nat.le_of_ble_eq_true rfl) (Nat.le_of_ble_eq_true rfl) hl.1 (Nat.le_of_ble_eq_true rfl) rfl (fun H locs cs ss hM => ?_)
  have hz := (Option.some.inj hF)
  subst hz
  exact crv S hM hr hlocks dJ5_init_6
def fJ8_hugeLength (F : Nat) (h0 : HS) (x0 : Int32) (x1 : Int32) : Option (Int32) := (if 0 ≤ (x0 + x1) then (if 2147483639 < (x0 + x1) then (some (x0 + x1)) else (some 2147483639)) else none)
theorem hyJ8_hugeLength : yJ8_hugeLength.cls ≠ "java/lang/invoke/MethodHandle" ∧ yJ8_hugeLength.cls ≠ "java/lang/invoke/VarHandle" := by decide +kernel
theorem hlJ8_hugeLength : (parseMethodDescriptor yJ8_hugeLength.desc).map (fun d => d.parameters.length) = some 2 := by decide +kernel
set_option maxHeartbeats 4000000 in
set_option maxRecDepth 100000 in
theorem metJ8_hugeLength (l : Launch) [NoTr l] (F : Nat) (D : va_G) (h0 : HS) (x0 : Int32) (x1 : Int32) (r : Int32) (hF : fJ8_hugeLength F h0 x0 x1 = some r) : CMet l yJ8_hugeLength (ws_ yJ8_hugeLength cJ8_hugeLength 3 (some .int)) 0 0 D [.int x0, .int x1] h0 h0 (.inr (some (.int r))) := by
  refine CMet.ofW (by decide) ?_
  intro p e s m below meth c s₁ B S hX hM hr hlocks hnt hin
  obtain ⟨hx, hb, hml, hown, hts⟩ := id S
  have hl := lv_entry ([.int x0, .int x1]) (n := 3) (Nat.le_of_ble_eq_true rfl)
  rw [lg_entry_eq]
  generalize (lg_sl ([.int x0, .int x1]) ++ List.replicate (3 - (lg_sl ([.int x0, .int x1])).length) Slot.unset).toArray = ls at hl ⊢
  have hl : lv_has ls 3 [(0, .int x0), (1, .int x1)] := hl
  unfold fJ8_hugeLength at hF
  refine lv_iload_n hx hb dJ8_hugeLength_0 rfl (lv_at hl 0 rfl) ?_
  refine lv_iload_n hx hb dJ8_hugeLength_1 rfl (lv_at hl 1 rfl) ?_
  refine lv_iadd hx hb dJ8_hugeLength_2 ?_
  refine lv_istore_n (lv' := [(2, .int (x0 + x1)), (0, .int x0), (1, .int x1)]) hx hb dJ8_hugeLength_3 rfl hl (by decide) rfl (fun ls hl => ?_)
  refine lv_iload_n hx hb dJ8_hugeLength_4 rfl (lv_at hl 0 rfl) ?_
  refine lv_if_ge (tgt := 49) hx hb dJ8_hugeLength_5 (by decide) (fun c1 => ?_) (fun c1 => ?_)
  · have hF := ifp hF c1
    refine lv_iload_n hx hb dJ8_hugeLength_49 rfl (lv_at hl 0 rfl) ?_
    refine lv_ldc hx hb hown (hts _ q570) dJ8_hugeLength_50 ?_
    refine lv_icmp_gt (tgt := 58) hx hb dJ8_hugeLength_52 (by decide) (fun c2 => ?_) (fun c2 => ?_)
    · have hF := ifp hF c2
      refine lv_iload_n hx hb dJ8_hugeLength_58 rfl (lv_at hl 0 rfl) ?_
      have hz := (Option.some.inj hF)
      subst hz
      exact cri S hM hr hlocks dJ8_hugeLength_59
    · have hF := ifn hF c2
      refine lv_ldc hx hb hown (hts _ q570) dJ8_hugeLength_55 ?_
      have hz := (Option.some.inj hF)
      subst hz
      exact cri S hM hr hlocks dJ8_hugeLength_57
  · have hF := ifn hF c1
    cases hF
def fJ8_newLength (F : Nat) (h0 : HS) (x0 : Int32) (x1 : Int32) (x2 : Int32) : Option (Int32) := lt_ (x0 + (imax x1 x2)) fun u2 => (lt_ (if u2 ≤ 0 then true else (if 2147483639 < u2 then true else false)) fun q3 => (if q3 = true then ((fJ8_hugeLength F h0 x0 x1).bind fun r6 => some r6) else (some u2)))
theorem hyJ8_newLength : yJ8_newLength.cls ≠ "java/lang/invoke/MethodHandle" ∧ yJ8_newLength.cls ≠ "java/lang/invoke/VarHandle" := by decide +kernel
theorem hlJ8_newLength : (parseMethodDescriptor yJ8_newLength.desc).map (fun d => d.parameters.length) = some 3 := by decide +kernel
set_option maxHeartbeats 4000000 in
set_option maxRecDepth 100000 in
theorem metJ8_newLength (l : Launch) [NoTr l] (F : Nat) (D : va_G) (h0 : HS) (x0 : Int32) (x1 : Int32) (x2 : Int32) (r : Int32) (hF : fJ8_newLength F h0 x0 x1 x2 = some r) : CMet l yJ8_newLength (ws_ yJ8_newLength cJ8_newLength 4 (some .int)) 2 42 D [.int x0, .int x1, .int x2] h0 h0 (.inr (some (.int r))) := by
  refine CMet.ofW (by decide) ?_
  intro p e s m below meth c s₁ B S hX hM hr hlocks hnt hin
  obtain ⟨hx, hb, hml, hown, hts⟩ := id S
  have hl := lv_entry ([.int x0, .int x1, .int x2]) (n := 4) (Nat.le_of_ble_eq_true rfl)
  rw [lg_entry_eq]
  generalize (lg_sl ([.int x0, .int x1, .int x2]) ++ List.replicate (4 - (lg_sl ([.int x0, .int x1, .int x2])).length) Slot.unset).toArray = ls at hl ⊢
  have hl : lv_has ls 4 [(0, .int x0), (1, .int x1), (2, .int x2)] := hl
  unfold fJ8_newLength at hF
  refine lv_iload_n hx hb dJ8_newLength_0 rfl (lv_at hl 0 rfl) ?_
  refine lv_iload_n hx hb dJ8_newLength_1 rfl (lv_at hl 1 rfl) ?_
  refine lv_iload_n hx hb dJ8_newLength_2 rfl (lv_at hl 2 rfl) ?_
  refine cmmax S hM q567 q568 q119 q569 (Nat.le_of_ble_eq_true rfl) (Nat.le_of_ble_eq_true rfl) hl.1 (Nat.le_of_ble_eq_true rfl) dJ8_newLength_3 ?_
  refine lv_iadd hx hb dJ8_newLength_6 ?_
  obtain ⟨u2, eu2, hF⟩ := lte hF
  refine mr_top eu2 ?_
  refine lv_istore_n (lv' := [(3, .int u2), (0, .int x0), (1, .int x1), (2, .int x2)]) hx hb dJ8_newLength_7 rfl hl (by decide) rfl (fun ls hl => ?_)
  refine lv_iconst (v := 0) hx hb dJ8_newLength_8 rfl ?_
  refine lv_iload_n hx hb dJ8_newLength_9 rfl (lv_at hl 0 rfl) ?_
  obtain ⟨q3, hq3, hF⟩ := lte hF
  refine cjnc (C := q3 = true) (I := HI D h0 h0 s.heap) (nJ := 4) (lvJ := [(0, .int x0), (1, .int x1)]) (J := 21) (stJ := []) ?_ ?_
  · intro cq3 H locs cs ss ls hM hl
    have hF := ifp hF cq3
    refine lv_iload_n hx hb dJ8_newLength_21 rfl (lv_at hl 0 rfl) ?_
    refine lv_iload_n hx hb dJ8_newLength_22 rfl (lv_at hl 1 rfl) ?_
    obtain ⟨r6, er6, hF⟩ := obn hF
    refine ccr (rest := []) (st1 := [.int r6]) S hX hM (metJ8_hugeLength l F D h0 x0 x1 r6 er6) (ci_S (As := [.int x0, .int x1]) (rest := []) S q571 q572 q118 q573 hyJ8_hugeLength hlJ8_hugeLength rfl dJ8_newLength_23) q573 q118 (Nat.le_of_ble_eq_true rfl) (Nat.le_of_ble_eq_true rfl) hl.1 (Nat.le_of_ble_eq_true rfl) rfl (fun H locs cs ss hM => ?_)
    have hz := (Option.some.inj hF)
    subst hz
    exact cri S hM hr hlocks dJ8_newLength_26
  · intro hAq3
    refine cjnc (C := q3 = false) (I := HI D h0 h0 s.heap) (nJ := 4) (lvJ := [(3, .int u2)]) (J := 19) (stJ := []) ?_ ?_
    · intro cq3 H locs cs ss ls hM hl
      have hF := ifn hF (by rw [cq3]; decide)
      refine lv_iload_n hx hb dJ8_newLength_19 rfl (lv_at hl 0 rfl) ?_
      have hz := (Option.some.inj hF)
      subst hz
      exact cri S hM hr hlocks dJ8_newLength_20
    · intro hBq3
      refine lv_icmp_ge (tgt := 21) hx hb dJ8_newLength_10 (by decide) (fun c4 => ?_) (fun c4 => ?_)
      · have hq3 := ifp hq3 c4
        subst hq3
        exact hAq3 rfl _ _ _ _ _ hM (lv_sub hl [1, 2] rfl)
      · have hq3 := ifn hq3 c4
        refine lv_iload_n hx hb dJ8_newLength_13 rfl (lv_at hl 0 rfl) ?_
        refine lv_ldc hx hb hown (hts _ q570) dJ8_newLength_14 ?_
        refine lv_icmp_gt (tgt := 21) hx hb dJ8_newLength_16 (by decide) (fun c5 => ?_) (fun c5 => ?_)
        · have hq3 := ifp hq3 c5
          subst hq3
          exact hAq3 rfl _ _ _ _ _ hM (lv_sub hl [1, 2] rfl)
        · have hq3 := ifn hq3 c5
          subst hq3
          exact hBq3 rfl _ _ _ _ _ hM (lv_sub hl [0] rfl)
def fJ4_newCapacity (F : Nat) (h0 : HS) (x0 : Nat) (x1 : Int32) : Option (Int32) := ((fR h0 x0 16 16 0).bind fun a1 => ((aL h0 a1 32 32).bind fun v2 => ((oI h0 x0 16 16 1).bind fun v3 => lt_ (x1 <<< (v3 &&& 31)) fun u4 => ((oI h0 x0 16 16 1).bind fun v5 => ((fJ8_newLength F h0 v2 (u4 - v2) (v2 + (2 <<< (v5 &&& 31)))).bind fun r6 => (if r6 = 2147483647 then none else ((oI h0 x0 16 16 1).bind fun v8 => some (r6 >>> (v8 &&& 31)))))))))
theorem hyJ4_newCapacity : yJ4_newCapacity.cls ≠ "java/lang/invoke/MethodHandle" ∧ yJ4_newCapacity.cls ≠ "java/lang/invoke/VarHandle" := by decide +kernel
theorem hlJ4_newCapacity : (parseMethodDescriptor yJ4_newCapacity.desc).map (fun d => d.parameters.length) = some 1 := by decide +kernel
set_option maxHeartbeats 4000000 in
set_option maxRecDepth 100000 in
theorem metJ4_newCapacity (l : Launch) [NoTr l] (F : Nat) (D : va_G) (h0 : HS) (x0 : Nat) (x1 : Int32) (r : Int32) (hF : fJ4_newCapacity F h0 x0 x1 = some r) : CMet l yJ4_newCapacity (ws_ yJ4_newCapacity cJ4_newCapacity 6 (some .int)) 3 65 D [.ref x0, .int x1] h0 h0 (.inr (some (.int r))) := by
  refine CMet.ofW (by decide) ?_
  intro p e s m below meth c s₁ B S hX hM hr hlocks hnt hin
  obtain ⟨hx, hb, hml, hown, hts⟩ := id S
  have hl := lv_entry ([.ref x0, .int x1]) (n := 6) (Nat.le_of_ble_eq_true rfl)
  rw [lg_entry_eq]
  generalize (lg_sl ([.ref x0, .int x1]) ++ List.replicate (6 - (lg_sl ([.ref x0, .int x1])).length) Slot.unset).toArray = ls at hl ⊢
  have hl : lv_has ls 6 [(0, .ref x0), (1, .int x1)] := hl
  unfold fJ4_newCapacity at hF
  refine lv_aload_n hx hb dJ4_newCapacity_0 rfl (lv_at hl 0 rfl) ?_
  obtain ⟨a1, ea1, hF⟩ := obn hF
  refine cgn S hX hM ea1 ck_16_16_0 q536 (fun _ h => h) dJ4_newCapacity_1 ?_
  obtain ⟨v2, ev2, hF⟩ := obn hF
  refine cal S hX hM ev2 (by decide) (by decide) dJ4_newCapacity_4 ?_
  refine lv_istore_n (lv' := [(2, .int v2), (0, .ref x0), (1, .int x1)]) hx hb dJ4_newCapacity_5 rfl hl (by decide) rfl (fun ls hl => ?_)
  refine lv_iload_n hx hb dJ4_newCapacity_6 rfl (lv_at hl 2 rfl) ?_
  refine lv_aload_n hx hb dJ4_newCapacity_7 rfl (lv_at hl 1 rfl) ?_
  obtain ⟨v3, ev3, hF⟩ := obn hF
  refine cgi S hX hM ev3 ck_16_16_1 q537 (fun _ h => h) dJ4_newCapacity_8 ?_
  refine lv_ishl hx hb dJ4_newCapacity_11 ?_
  obtain ⟨u4, eu4, hF⟩ := lte hF
  refine mr_top eu4 ?_
  refine lv_istore_n (lv' := [(3, .int u4), (2, .int v2), (0, .ref x0), (1, .int x1)]) hx hb dJ4_newCapacity_12 rfl hl (by decide) rfl (fun ls hl => ?_)
  refine lv_iload_n hx hb dJ4_newCapacity_13 rfl (lv_at hl 0 rfl) ?_
  refine lv_iload_n hx hb dJ4_newCapacity_14 rfl (lv_at hl 1 rfl) ?_
  refine lv_isub hx hb dJ4_newCapacity_15 ?_
  refine lv_istore (lv' := [(4, .int (u4 - v2)), (3, .int u4), (2, .int v2), (0, .ref x0), (1, .int x1)]) hx hb dJ4_newCapacity_16 hl (by decide) rfl (fun ls hl => ?_)
  refine lv_iload_n hx hb dJ4_newCapacity_18 rfl (lv_at hl 2 rfl) ?_
  refine lv_iload hx hb dJ4_newCapacity_19 (lv_at hl 0 rfl) ?_
  refine lv_iload_n hx hb dJ4_newCapacity_21 rfl (lv_at hl 2 rfl) ?_
  refine lv_iconst (v := 2) hx hb dJ4_newCapacity_22 rfl ?_
  refine lv_aload_n hx hb dJ4_newCapacity_23 rfl (lv_at hl 3 rfl) ?_
  obtain ⟨v5, ev5, hF⟩ := obn hF
  refine cgi S hX hM ev5 ck_16_16_1 q537 (fun _ h => h) dJ4_newCapacity_24 ?_
  refine lv_ishl hx hb dJ4_newCapacity_27 ?_
  refine lv_iadd hx hb dJ4_newCapacity_28 ?_
  obtain ⟨r6, er6, hF⟩ := obn hF
  refine ccr (rest := []) (st1 := [.int r6]) S hX hM (metJ8_newLength l F D h0 v2 (u4 - v2) (v2 + (2 <<< (v5 &&& 31))) r6 er6) (ci_S (As := [.int v2, .int (u4 - v2), .int (v2 + (2 <<< (v5 &&& 31)))]) (rest := []) S q564 q565 q118 q566 hyJ8_newLength hlJ8_newLength rfl dJ4_newCapacity_29) q566 q118 (Nat.le_of_ble_eq_true rfl) (Nat.le_of_ble_eq_true rfl) hl.1 (Nat.le_of_ble_eq_true rfl) rfl (fun H locs cs ss hM => ?_)
  refine lv_istore (lv' := [(5, .int r6), (4, .int (u4 - v2)), (3, .int u4), (2, .int v2), (0, .ref x0), (1, .int x1)]) hx hb dJ4_newCapacity_32 hl (by decide) rfl (fun ls hl => ?_)
  refine lv_iload hx hb dJ4_newCapacity_34 (lv_at hl 0 rfl) ?_
  refine lv_ldc hx hb hown (hts _ q574) dJ4_newCapacity_36 ?_
  refine lv_icmp_ne (tgt := 51) hx hb dJ4_newCapacity_38 (by decide) (fun c7 => ?_) (fun c7 => ?_)
  · have hF := ifn hF c7
    refine lv_iload hx hb dJ4_newCapacity_51 (lv_at hl 0 rfl) ?_
    refine lv_aload_n hx hb dJ4_newCapacity_53 rfl (lv_at hl 4 rfl) ?_
    obtain ⟨v8, ev8, hF⟩ := obn hF
    refine cgi S hX hM ev8 ck_16_16_1 q537 (fun _ h => h) dJ4_newCapacity_54 ?_
    refine lv_ishr hx hb dJ4_newCapacity_57 ?_
    have hz := (Option.some.inj hF)
    subst hz
    exact cri S hM hr hlocks dJ4_newCapacity_58
  · have hF := ifp hF c7
    cases hF
def fJ3_copyOf (F : Nat) (h0 : HS) (x0 : Nat) (x1 : Int32) : Option (Nat × HS) := ((aL h0 x0 32 32).bind fun v1 => (if x1 = v1 then none else ((nA h0 32 x1).bind fun r3 => ((aL r3.2 x0 32 32).bind fun v4 => ((xC r3.2 x0 r3.1 32 0 0 (imin v4 x1)).bind fun σ6 => some (r3.1, σ6))))))
theorem hyJ3_copyOf : yJ3_copyOf.cls ≠ "java/lang/invoke/MethodHandle" ∧ yJ3_copyOf.cls ≠ "java/lang/invoke/VarHandle" := by decide +kernel
theorem hlJ3_copyOf : (parseMethodDescriptor yJ3_copyOf.desc).map (fun d => d.parameters.length) = some 2 := by decide +kernel
set_option maxHeartbeats 4000000 in
set_option maxRecDepth 100000 in
theorem metJ3_copyOf (l : Launch) [NoTr l] (F : Nat) (D : va_G) (h0 : HS) (x0 : Nat) (x1 : Int32) (r : Nat × HS) (hF : fJ3_copyOf F h0 x0 x1 = some r) : CMet l yJ3_copyOf (ws_ yJ3_copyOf cJ3_copyOf 3 (some (.array .byte))) 2 60 D [.ref x0, .int x1] h0 r.2 (.inr (some (.ref r.1))) := by
  refine CMet.ofW (by decide) ?_
  intro p e s m below meth c s₁ B S hX hM hr hlocks hnt hin
  obtain ⟨hx, hb, hml, hown, hts⟩ := id S
  have hl := lv_entry ([.ref x0, .int x1]) (n := 3) (Nat.le_of_ble_eq_true rfl)
  rw [lg_entry_eq]
  generalize (lg_sl ([.ref x0, .int x1]) ++ List.replicate (3 - (lg_sl ([.ref x0, .int x1])).length) Slot.unset).toArray = ls at hl ⊢
  have hl : lv_has ls 3 [(0, .ref x0), (1, .int x1)] := hl
  unfold fJ3_copyOf at hF
  refine lv_iload_n hx hb dJ3_copyOf_0 rfl (lv_at hl 1 rfl) ?_
  refine lv_aload_n hx hb dJ3_copyOf_1 rfl (lv_at hl 0 rfl) ?_
  obtain ⟨v1, ev1, hF⟩ := obn hF
  refine cal S hX hM ev1 (by decide) (by decide) dJ3_copyOf_2 ?_
  refine lv_icmp_ne (tgt := 14) hx hb dJ3_copyOf_3 (by decide) (fun c2 => ?_) (fun c2 => ?_)
  · have hF := ifn hF c2
    refine lv_iload_n hx hb dJ3_copyOf_14 rfl (lv_at hl 1 rfl) ?_
    obtain ⟨r3, er3, hF⟩ := obn hF
    refine cnab S hX hM er3 dJ3_copyOf_15 (fun H cs ss hM => ?_)
    refine lv_astore_n (lv' := [(2, .ref r3.1), (0, .ref x0), (1, .int x1)]) hx hb dJ3_copyOf_17 rfl hl (by decide) rfl (fun ls hl => ?_)
    refine lv_aload_n hx hb dJ3_copyOf_18 rfl (lv_at hl 1 rfl) ?_
    refine lv_iconst (v := 0) hx hb dJ3_copyOf_19 rfl ?_
    refine lv_aload_n hx hb dJ3_copyOf_20 rfl (lv_at hl 0 rfl) ?_
    refine lv_iconst (v := 0) hx hb dJ3_copyOf_21 rfl ?_
    refine lv_aload_n hx hb dJ3_copyOf_22 rfl (lv_at hl 1 rfl) ?_
    obtain ⟨v4, ev4, hF⟩ := obn hF
    refine cal S hX hM ev4 (by decide) (by decide) dJ3_copyOf_23 ?_
    refine lv_iload_n hx hb dJ3_copyOf_24 rfl (lv_at hl 2 rfl) ?_
    refine cmmin S hM q585 q586 q119 q587 (Nat.le_of_ble_eq_true rfl) (Nat.le_of_ble_eq_true rfl) hl.1 (Nat.le_of_ble_eq_true rfl) dJ3_copyOf_25 ?_
    obtain ⟨σ6, eσ6, hF⟩ := obn hF
    refine ccopyb S hX hM eσ6 q588 q590 q589 q120 (Nat.le_of_ble_eq_true rfl) (Nat.le_of_ble_eq_true rfl) hl.1 dJ3_copyOf_28 (fun H locs hM => ?_)
    refine lv_aload_n hx hb dJ3_copyOf_31 rfl (lv_at hl 0 rfl) ?_
    have hz := (Option.some.inj hF)
    subst hz
    exact cra S hM hr (Or.inr ⟨_, rfl⟩) hlocks dJ3_copyOf_32
  · have hF := ifp hF c2
    refine lv_aload_n hx hb dJ3_copyOf_6 rfl (lv_at hl 0 rfl) ?_
    cases hF
def fJ4_ensureCapacityInternal (F : Nat) (h0 : HS) (x0 : Nat) (x1 : Int32) : Option (HS) := ((fR h0 x0 16 16 0).bind fun a1 => ((aL h0 a1 32 32).bind fun v2 => ((oI h0 x0 16 16 1).bind fun v3 => lt_ (v2 >>> (v3 &&& 31)) fun u4 => (if (x1 - u4) ≤ 0 then (some h0) else ((fR h0 x0 16 16 0).bind fun a6 => gT h0 x0 16 16 (((fJ4_newCapacity F h0 x0 x1).bind fun r7 => ((oI h0 x0 16 16 1).bind fun v8 => ((fJ3_copyOf F h0 a6 (r7 <<< (v8 &&& 31))).bind fun r9 => ((pR r9.2 x0 16 16 0 (some r9.1)).bind fun σ10 => some σ10))))))))))
theorem hyJ4_ensureCapacityInternal : yJ4_ensureCapacityInternal.cls ≠ "java/lang/invoke/MethodHandle" ∧ yJ4_ensureCapacityInternal.cls ≠ "java/lang/invoke/VarHandle" := by decide +kernel
theorem hlJ4_ensureCapacityInternal : (parseMethodDescriptor yJ4_ensureCapacityInternal.desc).map (fun d => d.parameters.length) = some 1 := by decide +kernel
set_option maxHeartbeats 4000000 in
set_option maxRecDepth 100000 in
theorem metJ4_ensureCapacityInternal (l : Launch) [NoTr l] (F : Nat) (D : va_G) (h0 : HS) (x0 : Nat) (x1 : Int32) (r : HS) (hF : fJ4_ensureCapacityInternal F h0 x0 x1 = some r) : CMet l yJ4_ensureCapacityInternal (ws_ yJ4_ensureCapacityInternal cJ4_ensureCapacityInternal 3 none) 4 90 D [.ref x0, .int x1] h0 r (.inr none) := by
  refine CMet.ofW (by decide) ?_
  intro p e s m below meth c s₁ B S hX hM hr hlocks hnt hin
  obtain ⟨hx, hb, hml, hown, hts⟩ := id S
  have hl := lv_entry ([.ref x0, .int x1]) (n := 3) (Nat.le_of_ble_eq_true rfl)
  rw [lg_entry_eq]
  generalize (lg_sl ([.ref x0, .int x1]) ++ List.replicate (3 - (lg_sl ([.ref x0, .int x1])).length) Slot.unset).toArray = ls at hl ⊢
  have hl : lv_has ls 3 [(0, .ref x0), (1, .int x1)] := hl
  unfold fJ4_ensureCapacityInternal at hF
  refine lv_aload_n hx hb dJ4_ensureCapacityInternal_0 rfl (lv_at hl 0 rfl) ?_
  obtain ⟨a1, ea1, hF⟩ := obn hF
  refine cgn S hX hM ea1 ck_16_16_0 q536 (fun _ h => h) dJ4_ensureCapacityInternal_1 ?_
  obtain ⟨v2, ev2, hF⟩ := obn hF
  refine cal S hX hM ev2 (by decide) (by decide) dJ4_ensureCapacityInternal_4 ?_
  refine lv_aload_n hx hb dJ4_ensureCapacityInternal_5 rfl (lv_at hl 0 rfl) ?_
  obtain ⟨v3, ev3, hF⟩ := obn hF
  refine cgi S hX hM ev3 ck_16_16_1 q537 (fun _ h => h) dJ4_ensureCapacityInternal_6 ?_
  refine lv_ishr hx hb dJ4_ensureCapacityInternal_9 ?_
  obtain ⟨u4, eu4, hF⟩ := lte hF
  refine mr_top eu4 ?_
  refine lv_istore_n (lv' := [(2, .int u4), (0, .ref x0), (1, .int x1)]) hx hb dJ4_ensureCapacityInternal_10 rfl hl (by decide) rfl (fun ls hl => ?_)
  refine lv_iload_n hx hb dJ4_ensureCapacityInternal_11 rfl (lv_at hl 2 rfl) ?_
  refine lv_iload_n hx hb dJ4_ensureCapacityInternal_12 rfl (lv_at hl 0 rfl) ?_
  refine lv_isub hx hb dJ4_ensureCapacityInternal_13 ?_
  refine lv_if_le (tgt := 38) hx hb dJ4_ensureCapacityInternal_14 (by decide) (fun c5 => ?_) (fun c5 => ?_)
  · have hF := ifp hF c5
    have hz := (Option.some.inj hF)
    subst hz
    exact crv S hM hr hlocks dJ4_ensureCapacityInternal_38
  · have hF := ifn hF c5
    refine lv_aload_n hx hb dJ4_ensureCapacityInternal_17 rfl (lv_at hl 1 rfl) ?_
    refine lv_aload_n hx hb dJ4_ensureCapacityInternal_18 rfl (lv_at hl 1 rfl) ?_
    obtain ⟨a6, ea6, hF⟩ := obn hF
    refine cgn S hX hM ea6 ck_16_16_0 q536 (fun _ h => h) dJ4_ensureCapacityInternal_19 ?_
    refine lv_aload_n hx hb dJ4_ensureCapacityInternal_22 rfl (lv_at hl 1 rfl) ?_
    refine lv_iload_n hx hb dJ4_ensureCapacityInternal_23 rfl (lv_at hl 2 rfl) ?_
    obtain ⟨z7, hF⟩ := gTe hF
    obtain ⟨r7, er7, hF⟩ := obn hF
    refine ccr (rest := [.ref a6, .ref x0]) (st1 := [.int r7, .ref a6, .ref x0]) S hX hM (metJ4_newCapacity l F D h0 x0 x1 r7 er7) (ci_P (C := "java/lang/StringBuilder") (As := [.int x1]) (rest := [.ref a6, .ref x0]) S q560 q2323 q562 (uq561 hX) q563 hyJ4_newCapacity (HI.cell (ci := 15) hX hM (by decide) (by omega)) hlJ4_newCapacity rfl dJ4_ensureCapacityInternal_24) q563 q114 (Nat.le_of_ble_eq_true rfl) (Nat.le_of_ble_eq_true rfl) hl.1 (Nat.le_of_ble_eq_true rfl) rfl (fun H locs cs ss hM => ?_)
    refine lv_aload_n hx hb dJ4_ensureCapacityInternal_27 rfl (lv_at hl 1 rfl) ?_
    obtain ⟨v8, ev8, hF⟩ := obn hF
    refine cgi S hX hM ev8 ck_16_16_1 q537 (fun _ h => h) dJ4_ensureCapacityInternal_28 ?_
    refine lv_ishl hx hb dJ4_ensureCapacityInternal_31 ?_
    obtain ⟨r9, er9, hF⟩ := obn hF
    refine ccr (rest := [.ref x0]) (st1 := [.ref r9.1, .ref x0]) S hX hM (metJ3_copyOf l F D h0 a6 (r7 <<< (v8 &&& 31)) r9 er9) (ci_S (As := [.ref a6, .int (r7 <<< (v8 &&& 31))]) (rest := [.ref x0]) S q575 q576 q109 q577 hyJ3_copyOf hlJ3_copyOf rfl dJ4_ensureCapacityInternal_32) q577 q109 (Nat.le_of_ble_eq_true rfl) (Nat.le_of_ble_eq_true rfl) hl.1 (Nat.le_of_ble_eq_true rfl) rfl (fun H locs cs ss hM => ?_)
    obtain ⟨σ10, eσ10, hF⟩ := obn hF
    refine cpr (v := (some r9.1)) S hX hM eσ10 ck_16_16_0 cw_16_16_0 rfl q536 (fun _ h => h) dJ4_ensureCapacityInternal_35 (fun H locs hM => ?_)
    have hz := (Option.some.inj hF)
    subst hz
    exact crv S hM hr hlocks dJ4_ensureCapacityInternal_38
def fJ4_isLatin1 (F : Nat) (h0 : HS) (x0 : Nat) : Option (Int32) := ((oI h0 x0 16 16 1).bind fun v3 => (if v3 = 0 then (some 1) else (some 0)))
theorem hyJ4_isLatin1 : yJ4_isLatin1.cls ≠ "java/lang/invoke/MethodHandle" ∧ yJ4_isLatin1.cls ≠ "java/lang/invoke/VarHandle" := by decide +kernel
theorem hlJ4_isLatin1 : (parseMethodDescriptor yJ4_isLatin1.desc).map (fun d => d.parameters.length) = some 0 := by decide +kernel
set_option maxHeartbeats 4000000 in
set_option maxRecDepth 100000 in
theorem metJ4_isLatin1 (l : Launch) [NoTr l] (F : Nat) (D : va_G) (h0 : HS) (x0 : Nat) (r : Int32) (hF : fJ4_isLatin1 F h0 x0 = some r) : CMet l yJ4_isLatin1 (ws_ yJ4_isLatin1 cJ4_isLatin1 1 (some .boolean)) 0 0 D [.ref x0] h0 h0 (.inr (some (.int r))) := by
  refine CMet.ofW (by decide) ?_
  intro p e s m below meth c s₁ B S hX hM hr hlocks hnt hin
  obtain ⟨hx, hb, hml, hown, hts⟩ := id S
  have hl := lv_entry ([.ref x0]) (n := 1) (Nat.le_of_ble_eq_true rfl)
  rw [lg_entry_eq]
  generalize (lg_sl ([.ref x0]) ++ List.replicate (1 - (lg_sl ([.ref x0])).length) Slot.unset).toArray = ls at hl ⊢
  have hl : lv_has ls 1 [(0, .ref x0)] := hl
  unfold fJ4_isLatin1 at hF
  refine cst (ref := "") S hM (ust3 hX) q527 dJ4_isLatin1_0 ?_
  refine lv_if_eq (tgt := 17) hx hb dJ4_isLatin1_3 (by decide) (fun c2 => ?_) (fun c2 => ?_)
  · exact absurd c2 (by decide)
  · refine lv_aload_n hx hb dJ4_isLatin1_6 rfl (lv_at hl 0 rfl) ?_
    obtain ⟨v3, ev3, hF⟩ := obn hF
    refine cgi S hX hM ev3 ck_16_16_1 q537 (fun _ h => h) dJ4_isLatin1_7 ?_
    refine lv_if_ne (tgt := 17) hx hb dJ4_isLatin1_10 (by decide) (fun c4 => ?_) (fun c4 => ?_)
    · have hF := ifn hF c4
      refine lv_iconst (v := 0) hx hb dJ4_isLatin1_17 rfl ?_
      have hz := (Option.some.inj hF)
      subst hz
      exact crz S hM hr hlocks (gBn gB0) dJ4_isLatin1_18
    · have hF := ifp hF c4
      refine lv_iconst (v := 1) hx hb dJ4_isLatin1_13 rfl ?_
      refine lv_goto (tgt := 18) hx hb dJ4_isLatin1_14 (by decide) ?_
      have hz := (Option.some.inj hF)
      subst hz
      exact crz S hM hr hlocks (gBn gB1) dJ4_isLatin1_18
def fJ10_canEncode (x0 : Int32) : Int32 := (if 255 < x0 then 0 else 1)
theorem hyJ10_canEncode : yJ10_canEncode.cls ≠ "java/lang/invoke/MethodHandle" ∧ yJ10_canEncode.cls ≠ "java/lang/invoke/VarHandle" := by decide +kernel
theorem hlJ10_canEncode : (parseMethodDescriptor yJ10_canEncode.desc).map (fun d => d.parameters.length) = some 1 := by decide +kernel
set_option maxHeartbeats 4000000 in
set_option maxRecDepth 100000 in
theorem metJ10_canEncode (l : Launch) [NoTr l] (D : va_G) (h0 : HS) (x0 : Int32) (r : Int32) (hF : fJ10_canEncode x0 = r) : CMet l yJ10_canEncode (ws_ yJ10_canEncode cJ10_canEncode 1 (some .boolean)) 0 0 D [.int x0] h0 h0 (.inr (some (.int r))) := by
  refine CMet.ofW (by decide) ?_
  intro p e s m below meth c s₁ B S hX hM hr hlocks hnt hin
  obtain ⟨hx, hb, hml, hown, hts⟩ := id S
  have hl := lv_entry ([.int x0]) (n := 1) (Nat.le_of_ble_eq_true rfl)
  rw [lg_entry_eq]
  generalize (lg_sl ([.int x0]) ++ List.replicate (1 - (lg_sl ([.int x0])).length) Slot.unset).toArray = ls at hl ⊢
  have hl : lv_has ls 1 [(0, .int x0)] := hl
  unfold fJ10_canEncode at hF
  refine lv_iload_n hx hb dJ10_canEncode_0 rfl (lv_at hl 0 rfl) ?_
  refine lv_sipush (v := 255) hx hb dJ10_canEncode_1 rfl ?_
  refine lv_icmp_gt (tgt := 11) hx hb dJ10_canEncode_4 (by decide) (fun c1 => ?_) (fun c1 => ?_)
  · have hF := ifp hF c1
    refine lv_iconst (v := 0) hx hb dJ10_canEncode_11 rfl ?_
    have hz := hF
    subst hz
    exact crz S hM hr hlocks (gBn gB0) dJ10_canEncode_12
  · have hF := ifn hF c1
    refine lv_iconst (v := 1) hx hb dJ10_canEncode_7 rfl ?_
    refine lv_goto (tgt := 12) hx hb dJ10_canEncode_8 (by decide) ?_
    have hz := hF
    subst hz
    exact crz S hM hr hlocks (gBn gB1) dJ10_canEncode_12
def fJ10_inflate (F : Nat) (h0 : HS) (x0 : Nat) (x1 : Int32) (x2 : Nat) (x3 : Int32) (x4 : Int32) : Option (Unit) := none
theorem hyJ10_inflate : yJ10_inflate.cls ≠ "java/lang/invoke/MethodHandle" ∧ yJ10_inflate.cls ≠ "java/lang/invoke/VarHandle" := by decide +kernel
theorem hlJ10_inflate : (parseMethodDescriptor yJ10_inflate.desc).map (fun d => d.parameters.length) = some 5 := by decide +kernel
set_option maxHeartbeats 4000000 in
set_option maxRecDepth 100000 in
theorem metJ10_inflate (l : Launch) [NoTr l] (F : Nat) (D : va_G) (h0 : HS) (x0 : Nat) (x1 : Int32) (x2 : Nat) (x3 : Int32) (x4 : Int32) (r : Unit) (hF : fJ10_inflate F h0 x0 x1 x2 x3 x4 = some r) : CMet l yJ10_inflate (ws_ yJ10_inflate cJ10_inflate 5 none) 0 0 D [.ref x0, .int x1, .ref x2, .int x3, .int x4] h0 h0 (.inr none) := by
  refine CMet.ofW (by decide) ?_
  intro p e s m below meth c s₁ B S hX hM hr hlocks hnt hin
  obtain ⟨hx, hb, hml, hown, hts⟩ := id S
  have hl := lv_entry ([.ref x0, .int x1, .ref x2, .int x3, .int x4]) (n := 5) (Nat.le_of_ble_eq_true rfl)
  rw [lg_entry_eq]
  generalize (lg_sl ([.ref x0, .int x1, .ref x2, .int x3, .int x4]) ++ List.replicate (5 - (lg_sl ([.ref x0, .int x1, .ref x2, .int x3, .int x4])).length) Slot.unset).toArray = ls at hl ⊢
  have hl : lv_has ls 5 [(0, .ref x0), (1, .int x1), (2, .ref x2), (3, .int x3), (4, .int x4)] := hl
  unfold fJ10_inflate at hF
  refine lv_aload_n hx hb dJ10_inflate_0 rfl (lv_at hl 0 rfl) ?_
  refine lv_iload_n hx hb dJ10_inflate_1 rfl (lv_at hl 1 rfl) ?_
  refine lv_aload_n hx hb dJ10_inflate_2 rfl (lv_at hl 2 rfl) ?_
  refine lv_iload_n hx hb dJ10_inflate_3 rfl (lv_at hl 3 rfl) ?_
  refine lv_iload hx hb dJ10_inflate_4 (lv_at hl 4 rfl) ?_
  cases hF
def fJ4_inflate (F : Nat) (h0 : HS) (x0 : Nat) : Option (Unit) := gT h0 x0 16 16 (((fJ4_isLatin1 F h0 x0).bind fun r1 => (if r1 = 0 then (some ()) else ((fR h0 x0 16 16 0).bind fun a3 => ((aL h0 a3 32 32).bind fun v4 => none)))))
theorem hyJ4_inflate : yJ4_inflate.cls ≠ "java/lang/invoke/MethodHandle" ∧ yJ4_inflate.cls ≠ "java/lang/invoke/VarHandle" := by decide +kernel
theorem hlJ4_inflate : (parseMethodDescriptor yJ4_inflate.desc).map (fun d => d.parameters.length) = some 0 := by decide +kernel
set_option maxHeartbeats 4000000 in
set_option maxRecDepth 100000 in
theorem metJ4_inflate (l : Launch) [NoTr l] (F : Nat) (D : va_G) (h0 : HS) (x0 : Nat) (r : Unit) (hF : fJ4_inflate F h0 x0 = some r) : CMet l yJ4_inflate (ws_ yJ4_inflate cJ4_inflate 2 none) 1 24 D [.ref x0] h0 h0 (.inr none) := by
  refine CMet.ofW (by decide) ?_
  intro p e s m below meth c s₁ B S hX hM hr hlocks hnt hin
  obtain ⟨hx, hb, hml, hown, hts⟩ := id S
  have hl := lv_entry ([.ref x0]) (n := 2) (Nat.le_of_ble_eq_true rfl)
  rw [lg_entry_eq]
  generalize (lg_sl ([.ref x0]) ++ List.replicate (2 - (lg_sl ([.ref x0])).length) Slot.unset).toArray = ls at hl ⊢
  have hl : lv_has ls 2 [(0, .ref x0)] := hl
  unfold fJ4_inflate at hF
  refine lv_aload_n hx hb dJ4_inflate_0 rfl (lv_at hl 0 rfl) ?_
  obtain ⟨z1, hF⟩ := gTe hF
  obtain ⟨r1, er1, hF⟩ := obn hF
  refine ccr (rest := []) (st1 := [.int r1]) S hX hM (metJ4_isLatin1 l F D h0 x0 r1 er1) (ci_V (C := "java/lang/StringBuilder") (As := []) (rest := []) S q591 q592 q594 q595 hyJ4_isLatin1 (HI.cell (ci := 15) hX hM (by decide) (by omega)) hlJ4_isLatin1 rfl dJ4_inflate_1) q595 q114 (Nat.le_of_ble_eq_true rfl) (Nat.le_of_ble_eq_true rfl) hl.1 (Nat.le_of_ble_eq_true rfl) rfl (fun H locs cs ss hM => ?_)
  refine lv_if_ne (tgt := 8) hx hb dJ4_inflate_4 (by decide) (fun c2 => ?_) (fun c2 => ?_)
  · have hF := ifn hF c2
    refine lv_aload_n hx hb dJ4_inflate_8 rfl (lv_at hl 0 rfl) ?_
    obtain ⟨a3, ea3, hF⟩ := obn hF
    refine cgn S hX hM ea3 ck_16_16_0 q536 (fun _ h => h) dJ4_inflate_9 ?_
    obtain ⟨v4, ev4, hF⟩ := obn hF
    refine cal S hX hM ev4 (by decide) (by decide) dJ4_inflate_12 ?_
    cases hF
  · have hF := ifp hF c2
    have hz := (Option.some.inj hF)
    subst hz
    exact crv S hM hr hlocks dJ4_inflate_7
def fJ4_append (F : Nat) (h0 : HS) (x0 : Nat) (x1 : Int32) : Option (Nat × HS) := ((oI h0 x0 16 16 3).bind fun v1 => gT h0 x0 16 16 (((fJ4_ensureCapacityInternal F h0 x0 (v1 + 1)).bind fun r2 => gT r2 x0 16 16 (((fJ4_isLatin1 F r2 x0).bind fun r3 => (lt_ (if r3 = 0 then true else (if (fJ10_canEncode x1) = 0 then true else false)) fun q4 => (if q4 = true then (gT r2 x0 16 16 (((fJ4_isLatin1 F r2 x0).bind fun r8 => (if r8 = 0 then ((fR r2 x0 16 16 0).bind fun a10 => ((oI r2 x0 16 16 3).bind fun v11 => ((pI r2 x0 16 16 3 (v11 + 1)).bind fun σ12 => none))) else (gT r2 x0 16 16 (((fJ4_inflate F r2 x0).bind fun r13 => ((fR r2 x0 16 16 0).bind fun a14 => ((oI r2 x0 16 16 3).bind fun v15 => ((pI r2 x0 16 16 3 (v15 + 1)).bind fun σ16 => none)))))))))) else ((fR r2 x0 16 16 0).bind fun a17 => ((oI r2 x0 16 16 3).bind fun v18 => ((pI r2 x0 16 16 3 (v18 + 1)).bind fun σ19 => ((wI σ19 a17 32 v18 (vp_nar .byte (x1.toInt8.toInt32))).bind fun σ20 => some (x0, σ20))))))))))))
theorem hyJ4_append : yJ4_append.cls ≠ "java/lang/invoke/MethodHandle" ∧ yJ4_append.cls ≠ "java/lang/invoke/VarHandle" := by decide +kernel
theorem hlJ4_append : (parseMethodDescriptor yJ4_append.desc).map (fun d => d.parameters.length) = some 1 := by decide +kernel
set_option maxHeartbeats 4000000 in
set_option maxRecDepth 100000 in
theorem metJ4_append (l : Launch) [NoTr l] (F : Nat) (D : va_G) (h0 : HS) (x0 : Nat) (x1 : Int32) (r : Nat × HS) (hF : fJ4_append F h0 x0 x1 = some r) : CMet l yJ4_append (ws_ yJ4_append cJ4_append 2 (some (.object "java/lang/AbstractStringBuilder"))) 5 112 D [.ref x0, .int x1] h0 r.2 (.inr (some (.ref r.1))) := by
  refine CMet.ofW (by decide) ?_
  intro p e s m below meth c s₁ B S hX hM hr hlocks hnt hin
  obtain ⟨hx, hb, hml, hown, hts⟩ := id S
  have hl := lv_entry ([.ref x0, .int x1]) (n := 2) (Nat.le_of_ble_eq_true rfl)
  rw [lg_entry_eq]
  generalize (lg_sl ([.ref x0, .int x1]) ++ List.replicate (2 - (lg_sl ([.ref x0, .int x1])).length) Slot.unset).toArray = ls at hl ⊢
  have hl : lv_has ls 2 [(0, .ref x0), (1, .int x1)] := hl
  unfold fJ4_append at hF
  refine lv_aload_n hx hb dJ4_append_0 rfl (lv_at hl 0 rfl) ?_
  refine lv_aload_n hx hb dJ4_append_1 rfl (lv_at hl 0 rfl) ?_
  obtain ⟨v1, ev1, hF⟩ := obn hF
  refine cgi S hX hM ev1 ck_16_16_3 q539 (fun _ h => h) dJ4_append_2 ?_
  refine lv_iconst (v := 1) hx hb dJ4_append_5 rfl ?_
  refine lv_iadd hx hb dJ4_append_6 ?_
  obtain ⟨z2, hF⟩ := gTe hF
  obtain ⟨r2, er2, hF⟩ := obn hF
  refine ccr (rest := []) (st1 := []) S hX hM (metJ4_ensureCapacityInternal l F D h0 x0 (v1 + 1) r2 er2) (ci_P (C := "java/lang/StringBuilder") (As := [.int (v1 + 1)]) (rest := []) S q556 q2322 q558 (uq557 hX) q559 hyJ4_ensureCapacityInternal (HI.cell (ci := 15) hX hM (by decide) (by omega)) hlJ4_ensureCapacityInternal rfl dJ4_append_7) q559 q114 (Nat.le_of_ble_eq_true rfl) (Nat.le_of_ble_eq_true rfl) hl.1 (Nat.le_of_ble_eq_true rfl) rfl (fun H locs cs ss hM => ?_)
  refine lv_aload_n hx hb dJ4_append_10 rfl (lv_at hl 0 rfl) ?_
  obtain ⟨z3, hF⟩ := gTe hF
  obtain ⟨r3, er3, hF⟩ := obn hF
  refine ccr (rest := []) (st1 := [.int r3]) S hX hM (metJ4_isLatin1 l F D r2 x0 r3 er3) (ci_V (C := "java/lang/StringBuilder") (As := []) (rest := []) S q591 q592 q594 q595 hyJ4_isLatin1 (HI.cell (ci := 15) hX hM (by decide) (by omega)) hlJ4_isLatin1 rfl dJ4_append_11) q595 q114 (Nat.le_of_ble_eq_true rfl) (Nat.le_of_ble_eq_true rfl) hl.1 (Nat.le_of_ble_eq_true rfl) rfl (fun H locs cs ss hM => ?_)
  obtain ⟨q4, hq4, hF⟩ := lte hF
  refine cjnc (C := q4 = true) (I := HI D h0 r2 s.heap) (nJ := 2) (lvJ := [(0, .ref x0), (1, .int x1)]) (J := 45) (stJ := []) ?_ ?_
  · intro cq4 H locs cs ss ls hM hl
    have hF := ifp hF cq4
    refine lv_aload_n hx hb dJ4_append_45 rfl (lv_at hl 0 rfl) ?_
    obtain ⟨z8, hF⟩ := gTe hF
    obtain ⟨r8, er8, hF⟩ := obn hF
    refine ccr (rest := []) (st1 := [.int r8]) S hX hM (metJ4_isLatin1 l F D r2 x0 r8 er8) (ci_V (C := "java/lang/StringBuilder") (As := []) (rest := []) S q591 q592 q594 q595 hyJ4_isLatin1 (HI.cell (ci := 15) hX hM (by decide) (by omega)) hlJ4_isLatin1 rfl dJ4_append_46) q595 q114 (Nat.le_of_ble_eq_true rfl) (Nat.le_of_ble_eq_true rfl) hl.1 (Nat.le_of_ble_eq_true rfl) rfl (fun H locs cs ss hM => ?_)
    refine lv_if_eq (tgt := 56) hx hb dJ4_append_49 (by decide) (fun c9 => ?_) (fun c9 => ?_)
    · have hF := ifp hF c9
      refine lv_aload_n hx hb dJ4_append_56 rfl (lv_at hl 0 rfl) ?_
      obtain ⟨a10, ea10, hF⟩ := obn hF
      refine cgn S hX hM ea10 ck_16_16_0 q536 (fun _ h => h) dJ4_append_57 ?_
      refine lv_aload_n hx hb dJ4_append_60 rfl (lv_at hl 0 rfl) ?_
      refine lv_dup hx hb dJ4_append_61 rfl ?_
      obtain ⟨v11, ev11, hF⟩ := obn hF
      refine cgi S hX hM ev11 ck_16_16_3 q539 (fun _ h => h) dJ4_append_62 ?_
      refine lv_dup_x1 hx hb dJ4_append_65 rfl rfl ?_
      refine lv_iconst (v := 1) hx hb dJ4_append_66 rfl ?_
      refine lv_iadd hx hb dJ4_append_67 ?_
      obtain ⟨σ12, eσ12, hF⟩ := obn hF
      refine cpi S hX hM eσ12 ck_16_16_3 cw_16_16_3 rfl rfl q539 (fun _ h => h) dJ4_append_68 (fun H locs hM => ?_)
      refine lv_iload_n hx hb dJ4_append_71 rfl (lv_at hl 1 rfl) ?_
      cases hF
    · have hF := ifn hF c9
      refine lv_aload_n hx hb dJ4_append_52 rfl (lv_at hl 0 rfl) ?_
      obtain ⟨z13, hF⟩ := gTe hF
      obtain ⟨r13, er13, hF⟩ := obn hF
      refine ccr (rest := []) (st1 := []) S hX hM (metJ4_inflate l F D r2 x0 r13 er13) (ci_P (C := "java/lang/StringBuilder") (As := []) (rest := []) S q599 q2324 q601 (uq600 hX) q602 hyJ4_inflate (HI.cell (ci := 15) hX hM (by decide) (by omega)) hlJ4_inflate rfl dJ4_append_53) q602 q114 (Nat.le_of_ble_eq_true rfl) (Nat.le_of_ble_eq_true rfl) hl.1 (Nat.le_of_ble_eq_true rfl) rfl (fun H locs cs ss hM => ?_)
      refine lv_aload_n hx hb dJ4_append_56 rfl (lv_at hl 0 rfl) ?_
      obtain ⟨a14, ea14, hF⟩ := obn hF
      refine cgn S hX hM ea14 ck_16_16_0 q536 (fun _ h => h) dJ4_append_57 ?_
      refine lv_aload_n hx hb dJ4_append_60 rfl (lv_at hl 0 rfl) ?_
      refine lv_dup hx hb dJ4_append_61 rfl ?_
      obtain ⟨v15, ev15, hF⟩ := obn hF
      refine cgi S hX hM ev15 ck_16_16_3 q539 (fun _ h => h) dJ4_append_62 ?_
      refine lv_dup_x1 hx hb dJ4_append_65 rfl rfl ?_
      refine lv_iconst (v := 1) hx hb dJ4_append_66 rfl ?_
      refine lv_iadd hx hb dJ4_append_67 ?_
      obtain ⟨σ16, eσ16, hF⟩ := obn hF
      refine cpi S hX hM eσ16 ck_16_16_3 cw_16_16_3 rfl rfl q539 (fun _ h => h) dJ4_append_68 (fun H locs hM => ?_)
      refine lv_iload_n hx hb dJ4_append_71 rfl (lv_at hl 1 rfl) ?_
      cases hF
  · intro hAq4
    refine cjnc (C := q4 = false) (I := HI D h0 r2 s.heap) (nJ := 2) (lvJ := [(0, .ref x0), (1, .int x1)]) (J := 24) (stJ := []) ?_ ?_
    · intro cq4 H locs cs ss ls hM hl
      have hF := ifn hF (by rw [cq4]; decide)
      refine lv_aload_n hx hb dJ4_append_24 rfl (lv_at hl 0 rfl) ?_
      obtain ⟨a17, ea17, hF⟩ := obn hF
      refine cgn S hX hM ea17 ck_16_16_0 q536 (fun _ h => h) dJ4_append_25 ?_
      refine lv_aload_n hx hb dJ4_append_28 rfl (lv_at hl 0 rfl) ?_
      refine lv_dup hx hb dJ4_append_29 rfl ?_
      obtain ⟨v18, ev18, hF⟩ := obn hF
      refine cgi S hX hM ev18 ck_16_16_3 q539 (fun _ h => h) dJ4_append_30 ?_
      refine lv_dup_x1 hx hb dJ4_append_33 rfl rfl ?_
      refine lv_iconst (v := 1) hx hb dJ4_append_34 rfl ?_
      refine lv_iadd hx hb dJ4_append_35 ?_
      obtain ⟨σ19, eσ19, hF⟩ := obn hF
      refine cpi S hX hM eσ19 ck_16_16_3 cw_16_16_3 rfl rfl q539 (fun _ h => h) dJ4_append_36 (fun H locs hM => ?_)
      refine lv_iload_n hx hb dJ4_append_39 rfl (lv_at hl 1 rfl) ?_
      refine lv_i2b hx hb dJ4_append_40 rfl ?_
      obtain ⟨σ20, eσ20, hF⟩ := obn hF
      refine cwb S hX hM eσ20 dJ4_append_41 (fun H locs hM => ?_)
      refine lv_goto (tgt := 75) hx hb dJ4_append_42 (by decide) ?_
      refine lv_aload_n hx hb dJ4_append_75 rfl (lv_at hl 0 rfl) ?_
      have hz := (Option.some.inj hF)
      subst hz
      exact cra S hM hr (Or.inl ⟨_, rfl⟩) hlocks dJ4_append_76
    · intro hBq4
      refine lv_if_eq (tgt := 45) hx hb dJ4_append_14 (by decide) (fun c5 => ?_) (fun c5 => ?_)
      · have hq4 := ifp hq4 c5
        subst hq4
        exact hAq4 rfl _ _ _ _ _ hM (lv_sub hl [0, 1] rfl)
      · have hq4 := ifn hq4 c5
        refine lv_iload_n hx hb dJ4_append_17 rfl (lv_at hl 1 rfl) ?_
        refine ccr (rest := []) (st1 := [.int (fJ10_canEncode x1)]) S hX hM (metJ10_canEncode l D r2 x1 _ rfl) (ci_S (As := [.int x1]) (rest := []) S q596 q597 q121 q598 hyJ10_canEncode hlJ10_canEncode rfl dJ4_append_18) q598 q121 (Nat.le_of_ble_eq_true rfl) (Nat.le_of_ble_eq_true rfl) hl.1 (Nat.le_of_ble_eq_true rfl) rfl (fun H locs cs ss hM => ?_)
        refine lv_if_eq (tgt := 45) hx hb dJ4_append_21 (by decide) (fun c7 => ?_) (fun c7 => ?_)
        · have hq4 := ifp hq4 c7
          subst hq4
          exact hAq4 rfl _ _ _ _ _ hM (lv_sub hl [0, 1] rfl)
        · have hq4 := ifn hq4 c7
          subst hq4
          exact hBq4 rfl _ _ _ _ _ hM (lv_sub hl [0, 1] rfl)
def fJ5_append (F : Nat) (h0 : HS) (x0 : Nat) (x1 : Int32) : Option (Nat × HS) := gT h0 x0 16 16 (((fJ4_append F h0 x0 x1).bind fun r1 => some (x0, r1.2)))
theorem hyJ5_append : yJ5_append.cls ≠ "java/lang/invoke/MethodHandle" ∧ yJ5_append.cls ≠ "java/lang/invoke/VarHandle" := by decide +kernel
theorem hlJ5_append : (parseMethodDescriptor yJ5_append.desc).map (fun d => d.parameters.length) = some 1 := by decide +kernel
set_option maxHeartbeats 4000000 in
set_option maxRecDepth 100000 in
theorem metJ5_append (l : Launch) [NoTr l] (F : Nat) (D : va_G) (h0 : HS) (x0 : Nat) (x1 : Int32) (r : Nat × HS) (hF : fJ5_append F h0 x0 x1 = some r) : CMet l yJ5_append (ws_ yJ5_append cJ5_append 2 (some (.object "java/lang/StringBuilder"))) 6 133 D [.ref x0, .int x1] h0 r.2 (.inr (some (.ref r.1))) := by
  refine CMet.ofW (by decide) ?_
  intro p e s m below meth c s₁ B S hX hM hr hlocks hnt hin
  obtain ⟨hx, hb, hml, hown, hts⟩ := id S
  have hl := lv_entry ([.ref x0, .int x1]) (n := 2) (Nat.le_of_ble_eq_true rfl)
  rw [lg_entry_eq]
  generalize (lg_sl ([.ref x0, .int x1]) ++ List.replicate (2 - (lg_sl ([.ref x0, .int x1])).length) Slot.unset).toArray = ls at hl ⊢
  have hl : lv_has ls 2 [(0, .ref x0), (1, .int x1)] := hl
  unfold fJ5_append at hF
  refine lv_aload_n hx hb dJ5_append_0 rfl (lv_at hl 0 rfl) ?_
  refine lv_iload_n hx hb dJ5_append_1 rfl (lv_at hl 1 rfl) ?_
  obtain ⟨z1, hF⟩ := gTe hF
  obtain ⟨r1, er1, hF⟩ := obn hF
  refine ccr (rest := []) (st1 := [.ref r1.1]) S hX hM (metJ4_append l F D h0 x0 x1 r1 er1) (ci_SU (C := "java/lang/StringBuilder") (As := [.int x1]) (rest := []) S q553 q2321 q548 q554 q555 (by decide +kernel) (HI.cell (ci := 15) hX hM (by decide) (by omega)) hlJ4_append rfl dJ5_append_2) q555 q114 (Nat.le_of_ble_eq_true rfl) (Nat.le_of_ble_eq_true rfl) hl.1 (Nat.le_of_ble_eq_true rfl) rfl (fun H locs cs ss hM => ?_)
  refine lv_pop hx hb dJ5_append_5 rfl ?_
  refine lv_aload_n hx hb dJ5_append_6 rfl (lv_at hl 0 rfl) ?_
  have hz := (Option.some.inj hF)
  subst hz
  exact cra S hM hr (Or.inl ⟨_, rfl⟩) hlocks dJ5_append_7
def fJ4_getValue (F : Nat) (h0 : HS) (x0 : Nat) : Option (Nat) := ((fR h0 x0 16 16 0).bind fun a1 => some a1)
theorem hyJ4_getValue : yJ4_getValue.cls ≠ "java/lang/invoke/MethodHandle" ∧ yJ4_getValue.cls ≠ "java/lang/invoke/VarHandle" := by decide +kernel
theorem hlJ4_getValue : (parseMethodDescriptor yJ4_getValue.desc).map (fun d => d.parameters.length) = some 0 := by decide +kernel
set_option maxHeartbeats 4000000 in
set_option maxRecDepth 100000 in
theorem metJ4_getValue (l : Launch) [NoTr l] (F : Nat) (D : va_G) (h0 : HS) (x0 : Nat) (r : Nat) (hF : fJ4_getValue F h0 x0 = some r) : CMet l yJ4_getValue (ws_ yJ4_getValue cJ4_getValue 1 (some (.array .byte))) 0 0 D [.ref x0] h0 h0 (.inr (some (.ref r))) := by
  refine CMet.ofW (by decide) ?_
  intro p e s m below meth c s₁ B S hX hM hr hlocks hnt hin
  obtain ⟨hx, hb, hml, hown, hts⟩ := id S
  have hl := lv_entry ([.ref x0]) (n := 1) (Nat.le_of_ble_eq_true rfl)
  rw [lg_entry_eq]
  generalize (lg_sl ([.ref x0]) ++ List.replicate (1 - (lg_sl ([.ref x0])).length) Slot.unset).toArray = ls at hl ⊢
  have hl : lv_has ls 1 [(0, .ref x0)] := hl
  unfold fJ4_getValue at hF
  refine lv_aload_n hx hb dJ4_getValue_0 rfl (lv_at hl 0 rfl) ?_
  obtain ⟨a1, ea1, hF⟩ := obn hF
  refine cgn S hX hM ea1 ck_16_16_0 q536 (fun _ h => h) dJ4_getValue_1 ?_
  have hz := (Option.some.inj hF)
  subst hz
  exact cra S hM hr (Or.inr ⟨_, rfl⟩) hlocks dJ4_getValue_4
def fJ4_length (F : Nat) (h0 : HS) (x0 : Nat) : Option (Int32) := ((oI h0 x0 16 16 3).bind fun v1 => some v1)
theorem hyJ4_length : yJ4_length.cls ≠ "java/lang/invoke/MethodHandle" ∧ yJ4_length.cls ≠ "java/lang/invoke/VarHandle" := by decide +kernel
theorem hlJ4_length : (parseMethodDescriptor yJ4_length.desc).map (fun d => d.parameters.length) = some 0 := by decide +kernel
set_option maxHeartbeats 4000000 in
set_option maxRecDepth 100000 in
theorem metJ4_length (l : Launch) [NoTr l] (F : Nat) (D : va_G) (h0 : HS) (x0 : Nat) (r : Int32) (hF : fJ4_length F h0 x0 = some r) : CMet l yJ4_length (ws_ yJ4_length cJ4_length 1 (some .int)) 0 0 D [.ref x0] h0 h0 (.inr (some (.int r))) := by
  refine CMet.ofW (by decide) ?_
  intro p e s m below meth c s₁ B S hX hM hr hlocks hnt hin
  obtain ⟨hx, hb, hml, hown, hts⟩ := id S
  have hl := lv_entry ([.ref x0]) (n := 1) (Nat.le_of_ble_eq_true rfl)
  rw [lg_entry_eq]
  generalize (lg_sl ([.ref x0]) ++ List.replicate (1 - (lg_sl ([.ref x0])).length) Slot.unset).toArray = ls at hl ⊢
  have hl : lv_has ls 1 [(0, .ref x0)] := hl
  unfold fJ4_length at hF
  refine lv_aload_n hx hb dJ4_length_0 rfl (lv_at hl 0 rfl) ?_
  obtain ⟨v1, ev1, hF⟩ := obn hF
  refine cgi S hX hM ev1 ck_16_16_3 q539 (fun _ h => h) dJ4_length_1 ?_
  have hz := (Option.some.inj hF)
  subst hz
  exact cri S hM hr hlocks dJ4_length_4
def fJ5_length (F : Nat) (h0 : HS) (x0 : Nat) : Option (Int32) := gT h0 x0 16 16 (((fJ4_length F h0 x0).bind fun r1 => some r1))
theorem hyJ5_length : yJ5_length.cls ≠ "java/lang/invoke/MethodHandle" ∧ yJ5_length.cls ≠ "java/lang/invoke/VarHandle" := by decide +kernel
theorem hlJ5_length : (parseMethodDescriptor yJ5_length.desc).map (fun d => d.parameters.length) = some 0 := by decide +kernel
set_option maxHeartbeats 4000000 in
set_option maxRecDepth 100000 in
theorem metJ5_length (l : Launch) [NoTr l] (F : Nat) (D : va_G) (h0 : HS) (x0 : Nat) (r : Int32) (hF : fJ5_length F h0 x0 = some r) : CMet l yJ5_length (ws_ yJ5_length cJ5_length 1 (some .int)) 1 20 D [.ref x0] h0 h0 (.inr (some (.int r))) := by
  refine CMet.ofW (by decide) ?_
  intro p e s m below meth c s₁ B S hX hM hr hlocks hnt hin
  obtain ⟨hx, hb, hml, hown, hts⟩ := id S
  have hl := lv_entry ([.ref x0]) (n := 1) (Nat.le_of_ble_eq_true rfl)
  rw [lg_entry_eq]
  generalize (lg_sl ([.ref x0]) ++ List.replicate (1 - (lg_sl ([.ref x0])).length) Slot.unset).toArray = ls at hl ⊢
  have hl : lv_has ls 1 [(0, .ref x0)] := hl
  unfold fJ5_length at hF
  refine lv_aload_n hx hb dJ5_length_0 rfl (lv_at hl 0 rfl) ?_
  obtain ⟨z1, hF⟩ := gTe hF
  obtain ⟨r1, er1, hF⟩ := obn hF
  refine ccr (rest := []) (st1 := [.int r1]) S hX hM (metJ4_length l F D h0 x0 r1 er1) (ci_SU (C := "java/lang/StringBuilder") (As := []) (rest := []) S q668 q664 q548 q663 q669 (by decide +kernel) (HI.cell (ci := 15) hX hM (by decide) (by omega)) hlJ4_length rfl dJ5_length_1) q669 q114 (Nat.le_of_ble_eq_true rfl) (Nat.le_of_ble_eq_true rfl) hl.1 (Nat.le_of_ble_eq_true rfl) rfl (fun H locs cs ss hM => ?_)
  have hz := (Option.some.inj hF)
  subst hz
  exact cri S hM hr hlocks dJ5_length_4
def fJ3_checkLength (F : Nat) (h0 : HS) (x0 : Int32) (x1 : Int32) : Option (Unit) := (if x0 ≤ x1 then (some ()) else none)
theorem hyJ3_checkLength : yJ3_checkLength.cls ≠ "java/lang/invoke/MethodHandle" ∧ yJ3_checkLength.cls ≠ "java/lang/invoke/VarHandle" := by decide +kernel
theorem hlJ3_checkLength : (parseMethodDescriptor yJ3_checkLength.desc).map (fun d => d.parameters.length) = some 2 := by decide +kernel
set_option maxHeartbeats 4000000 in
set_option maxRecDepth 100000 in
theorem metJ3_checkLength (l : Launch) [NoTr l] (F : Nat) (D : va_G) (h0 : HS) (x0 : Int32) (x1 : Int32) (r : Unit) (hF : fJ3_checkLength F h0 x0 x1 = some r) : CMet l yJ3_checkLength (ws_ yJ3_checkLength cJ3_checkLength 2 none) 0 0 D [.int x0, .int x1] h0 h0 (.inr none) := by
  refine CMet.ofW (by decide) ?_
  intro p e s m below meth c s₁ B S hX hM hr hlocks hnt hin
  obtain ⟨hx, hb, hml, hown, hts⟩ := id S
  have hl := lv_entry ([.int x0, .int x1]) (n := 2) (Nat.le_of_ble_eq_true rfl)
  rw [lg_entry_eq]
  generalize (lg_sl ([.int x0, .int x1]) ++ List.replicate (2 - (lg_sl ([.int x0, .int x1])).length) Slot.unset).toArray = ls at hl ⊢
  have hl : lv_has ls 2 [(0, .int x0), (1, .int x1)] := hl
  unfold fJ3_checkLength at hF
  refine lv_iload_n hx hb dJ3_checkLength_0 rfl (lv_at hl 1 rfl) ?_
  refine lv_iload_n hx hb dJ3_checkLength_1 rfl (lv_at hl 0 rfl) ?_
  refine lv_icmp_ge (tgt := 37) hx hb dJ3_checkLength_2 (by decide) (fun c1 => ?_) (fun c1 => ?_)
  · have hF := ifp hF c1
    have hz := (Option.some.inj hF)
    subst hz
    exact crv S hM hr hlocks dJ3_checkLength_37
  · have hF := ifn hF c1
    cases hF
def fJ3_copyOfRangeByte (F : Nat) (h0 : HS) (x0 : Nat) (x1 : Int32) (x2 : Int32) : Option (Nat × HS) := ((fJ3_checkLength F h0 x1 x2).bind fun r1 => ((nA h0 32 (x2 - x1)).bind fun r2 => ((aL r2.2 x0 32 32).bind fun v3 => ((xC r2.2 x0 r2.1 32 x1 0 (imin (v3 - x1) (x2 - x1))).bind fun σ5 => some (r2.1, σ5)))))
theorem hyJ3_copyOfRangeByte : yJ3_copyOfRangeByte.cls ≠ "java/lang/invoke/MethodHandle" ∧ yJ3_copyOfRangeByte.cls ≠ "java/lang/invoke/VarHandle" := by decide +kernel
theorem hlJ3_copyOfRangeByte : (parseMethodDescriptor yJ3_copyOfRangeByte.desc).map (fun d => d.parameters.length) = some 3 := by decide +kernel
set_option maxHeartbeats 4000000 in
set_option maxRecDepth 100000 in
theorem metJ3_copyOfRangeByte (l : Launch) [NoTr l] (F : Nat) (D : va_G) (h0 : HS) (x0 : Nat) (x1 : Int32) (x2 : Int32) (r : Nat × HS) (hF : fJ3_copyOfRangeByte F h0 x0 x1 x2 = some r) : CMet l yJ3_copyOfRangeByte (ws_ yJ3_copyOfRangeByte cJ3_copyOfRangeByte 5 (some (.array .byte))) 2 60 D [.ref x0, .int x1, .int x2] h0 r.2 (.inr (some (.ref r.1))) := by
  refine CMet.ofW (by decide) ?_
  intro p e s m below meth c s₁ B S hX hM hr hlocks hnt hin
  obtain ⟨hx, hb, hml, hown, hts⟩ := id S
  have hl := lv_entry ([.ref x0, .int x1, .int x2]) (n := 5) (Nat.le_of_ble_eq_true rfl)
  rw [lg_entry_eq]
  generalize (lg_sl ([.ref x0, .int x1, .int x2]) ++ List.replicate (5 - (lg_sl ([.ref x0, .int x1, .int x2])).length) Slot.unset).toArray = ls at hl ⊢
  have hl : lv_has ls 5 [(0, .ref x0), (1, .int x1), (2, .int x2)] := hl
  unfold fJ3_copyOfRangeByte at hF
  refine lv_iload_n hx hb dJ3_copyOfRangeByte_0 rfl (lv_at hl 1 rfl) ?_
  refine lv_iload_n hx hb dJ3_copyOfRangeByte_1 rfl (lv_at hl 2 rfl) ?_
  obtain ⟨r1, er1, hF⟩ := obn hF
  refine ccr (rest := []) (st1 := []) S hX hM (metJ3_checkLength l F D h0 x1 x2 r1 er1) (ci_S (As := [.int x1, .int x2]) (rest := []) S q677 q678 q109 q679 hyJ3_checkLength hlJ3_checkLength rfl dJ3_copyOfRangeByte_2) q679 q109 (Nat.le_of_ble_eq_true rfl) (Nat.le_of_ble_eq_true rfl) hl.1 (Nat.le_of_ble_eq_true rfl) rfl (fun H locs cs ss hM => ?_)
  refine lv_iload_n hx hb dJ3_copyOfRangeByte_5 rfl (lv_at hl 2 rfl) ?_
  refine lv_iload_n hx hb dJ3_copyOfRangeByte_6 rfl (lv_at hl 1 rfl) ?_
  refine lv_isub hx hb dJ3_copyOfRangeByte_7 ?_
  refine lv_istore_n (lv' := [(3, .int (x2 - x1)), (0, .ref x0), (1, .int x1), (2, .int x2)]) hx hb dJ3_copyOfRangeByte_8 rfl hl (by decide) rfl (fun ls hl => ?_)
  refine lv_iload_n hx hb dJ3_copyOfRangeByte_9 rfl (lv_at hl 0 rfl) ?_
  obtain ⟨r2, er2, hF⟩ := obn hF
  refine cnab S hX hM er2 dJ3_copyOfRangeByte_10 (fun H cs ss hM => ?_)
  refine lv_astore (lv' := [(4, .ref r2.1), (3, .int (x2 - x1)), (0, .ref x0), (1, .int x1), (2, .int x2)]) hx hb dJ3_copyOfRangeByte_12 hl (by decide) rfl (fun ls hl => ?_)
  refine lv_aload_n hx hb dJ3_copyOfRangeByte_14 rfl (lv_at hl 2 rfl) ?_
  refine lv_iload_n hx hb dJ3_copyOfRangeByte_15 rfl (lv_at hl 3 rfl) ?_
  refine lv_aload hx hb dJ3_copyOfRangeByte_16 (lv_at hl 0 rfl) ?_
  refine lv_iconst (v := 0) hx hb dJ3_copyOfRangeByte_18 rfl ?_
  refine lv_aload_n hx hb dJ3_copyOfRangeByte_19 rfl (lv_at hl 2 rfl) ?_
  obtain ⟨v3, ev3, hF⟩ := obn hF
  refine cal S hX hM ev3 (by decide) (by decide) dJ3_copyOfRangeByte_20 ?_
  refine lv_iload_n hx hb dJ3_copyOfRangeByte_21 rfl (lv_at hl 3 rfl) ?_
  refine lv_isub hx hb dJ3_copyOfRangeByte_22 ?_
  refine lv_iload_n hx hb dJ3_copyOfRangeByte_23 rfl (lv_at hl 1 rfl) ?_
  refine cmmin S hM q585 q586 q119 q587 (Nat.le_of_ble_eq_true rfl) (Nat.le_of_ble_eq_true rfl) hl.1 (Nat.le_of_ble_eq_true rfl) dJ3_copyOfRangeByte_24 ?_
  obtain ⟨σ5, eσ5, hF⟩ := obn hF
  refine ccopyb S hX hM eσ5 q588 q590 q589 q120 (Nat.le_of_ble_eq_true rfl) (Nat.le_of_ble_eq_true rfl) hl.1 dJ3_copyOfRangeByte_27 (fun H locs hM => ?_)
  refine lv_aload hx hb dJ3_copyOfRangeByte_30 (lv_at hl 0 rfl) ?_
  have hz := (Option.some.inj hF)
  subst hz
  exact cra S hM hr (Or.inr ⟨_, rfl⟩) hlocks dJ3_copyOfRangeByte_32
def fJ3_copyOfRange (F : Nat) (h0 : HS) (x0 : Nat) (x1 : Int32) (x2 : Int32) : Option (Nat × HS) := ((if x1 = 0 then ((aL h0 x0 32 32).bind fun v3 => (if x2 = v3 then (some false) else (some true))) else (some true)).bind fun q1 => (if q1 = true then ((fJ3_copyOfRangeByte F h0 x0 x1 x2).bind fun r5 => some (r5.1, r5.2)) else none))
theorem hyJ3_copyOfRange : yJ3_copyOfRange.cls ≠ "java/lang/invoke/MethodHandle" ∧ yJ3_copyOfRange.cls ≠ "java/lang/invoke/VarHandle" := by decide +kernel
theorem hlJ3_copyOfRange : (parseMethodDescriptor yJ3_copyOfRange.desc).map (fun d => d.parameters.length) = some 3 := by decide +kernel
set_option maxHeartbeats 4000000 in
set_option maxRecDepth 100000 in
theorem metJ3_copyOfRange (l : Launch) [NoTr l] (F : Nat) (D : va_G) (h0 : HS) (x0 : Nat) (x1 : Int32) (x2 : Int32) (r : Nat × HS) (hF : fJ3_copyOfRange F h0 x0 x1 x2 = some r) : CMet l yJ3_copyOfRange (ws_ yJ3_copyOfRange cJ3_copyOfRange 3 (some (.array .byte))) 3 84 D [.ref x0, .int x1, .int x2] h0 r.2 (.inr (some (.ref r.1))) := by
  refine CMet.ofW (by decide) ?_
  intro p e s m below meth c s₁ B S hX hM hr hlocks hnt hin
  obtain ⟨hx, hb, hml, hown, hts⟩ := id S
  have hl := lv_entry ([.ref x0, .int x1, .int x2]) (n := 3) (Nat.le_of_ble_eq_true rfl)
  rw [lg_entry_eq]
  generalize (lg_sl ([.ref x0, .int x1, .int x2]) ++ List.replicate (3 - (lg_sl ([.ref x0, .int x1, .int x2])).length) Slot.unset).toArray = ls at hl ⊢
  have hl : lv_has ls 3 [(0, .ref x0), (1, .int x1), (2, .int x2)] := hl
  unfold fJ3_copyOfRange at hF
  refine lv_iload_n hx hb dJ3_copyOfRange_0 rfl (lv_at hl 1 rfl) ?_
  obtain ⟨q1, hq1, hF⟩ := obn hF
  refine cjnc (C := q1 = true) (I := HI D h0 h0 s.heap) (nJ := 3) (lvJ := [(0, .ref x0), (1, .int x1), (2, .int x2)]) (J := 10) (stJ := []) ?_ ?_
  · intro cq1 H locs cs ss ls hM hl
    have hF := ifp hF cq1
    refine lv_aload_n hx hb dJ3_copyOfRange_10 rfl (lv_at hl 0 rfl) ?_
    refine lv_iload_n hx hb dJ3_copyOfRange_11 rfl (lv_at hl 1 rfl) ?_
    refine lv_iload_n hx hb dJ3_copyOfRange_12 rfl (lv_at hl 2 rfl) ?_
    obtain ⟨r5, er5, hF⟩ := obn hF
    refine ccr (rest := []) (st1 := [.ref r5.1]) S hX hM (metJ3_copyOfRangeByte l F D h0 x0 x1 x2 r5 er5) (ci_S (As := [.ref x0, .int x1, .int x2]) (rest := []) S q674 q675 q109 q676 hyJ3_copyOfRangeByte hlJ3_copyOfRangeByte rfl dJ3_copyOfRange_13) q676 q109 (Nat.le_of_ble_eq_true rfl) (Nat.le_of_ble_eq_true rfl) hl.1 (Nat.le_of_ble_eq_true rfl) rfl (fun H locs cs ss hM => ?_)
    have hz := (Option.some.inj hF)
    subst hz
    exact cra S hM hr (Or.inr ⟨_, rfl⟩) hlocks dJ3_copyOfRange_16
  · intro hAq1
    refine cjnc (C := q1 = false) (I := HI D h0 h0 s.heap) (nJ := 3) (lvJ := [(0, .ref x0)]) (J := 17) (stJ := []) ?_ ?_
    · intro cq1 H locs cs ss ls hM hl
      have hF := ifn hF (by rw [cq1]; decide)
      refine lv_aload_n hx hb dJ3_copyOfRange_17 rfl (lv_at hl 0 rfl) ?_
      cases hF
    · intro hBq1
      refine lv_if_ne (tgt := 10) hx hb dJ3_copyOfRange_1 (by decide) (fun c2 => ?_) (fun c2 => ?_)
      · have hq1 := ifn hq1 c2
        cases hq1
        exact hAq1 rfl _ _ _ _ _ hM (lv_sub hl [0, 1, 2] rfl)
      · have hq1 := ifp hq1 c2
        refine lv_iload_n hx hb dJ3_copyOfRange_4 rfl (lv_at hl 2 rfl) ?_
        refine lv_aload_n hx hb dJ3_copyOfRange_5 rfl (lv_at hl 0 rfl) ?_
        obtain ⟨v3, ev3, hq1⟩ := obn hq1
        refine cal S hX hM ev3 (by decide) (by decide) dJ3_copyOfRange_6 ?_
        refine lv_icmp_eq (tgt := 17) hx hb dJ3_copyOfRange_7 (by decide) (fun c4 => ?_) (fun c4 => ?_)
        · have hq1 := ifp hq1 c4
          cases hq1
          exact hBq1 rfl _ _ _ _ _ hM (lv_sub hl [0] rfl)
        · have hq1 := ifn hq1 c4
          cases hq1
          exact hAq1 rfl _ _ _ _ _ hM (lv_sub hl [0, 1, 2] rfl)
def fJ6_init_2 (F : Nat) (h0 : HS) (x0 : Nat) (x1 : Nat) : Option (HS) := gT h0 x1 16 16 (((fJ4_getValue F h0 x1).bind fun r2 => gT h0 x1 16 16 (((fJ5_length F h0 x1).bind fun r3 => gT h0 x1 16 16 (((fJ4_isLatin1 F h0 x1).bind fun r4 => (if r4 = 0 then ((oI h0 x1 16 16 2).bind fun v8 => (if v8 = 0 then ((pI h0 x0 17 17 1 1).bind fun σ10 => ((fJ3_copyOfRange F σ10 r2 0 (r3 <<< (1 &&& 31))).bind fun r11 => ((pR r11.2 x0 17 17 0 (some r11.1)).bind fun σ12 => some σ12))) else none)) else ((pI h0 x0 17 17 1 0).bind fun σ13 => ((fJ3_copyOfRange F σ13 r2 0 r3).bind fun r14 => ((pR r14.2 x0 17 17 0 (some r14.1)).bind fun σ15 => some σ15))))))))))
theorem hyJ6_init_2 : yJ6_init_2.cls ≠ "java/lang/invoke/MethodHandle" ∧ yJ6_init_2.cls ≠ "java/lang/invoke/VarHandle" := by decide +kernel
theorem hlJ6_init_2 : (parseMethodDescriptor yJ6_init_2.desc).map (fun d => d.parameters.length) = some 2 := by decide +kernel
set_option maxHeartbeats 4000000 in
set_option maxRecDepth 100000 in
theorem metJ6_init_2 (l : Launch) [NoTr l] (F : Nat) (D : va_G) (h0 : HS) (x0 : Nat) (x1 : Nat) (r : HS) (hF : fJ6_init_2 F h0 x0 x1 = some r) : CMet l yJ6_init_2 (ws_ yJ6_init_2 cJ6_init_2 5 none) 4 106 D [.ref x0, .ref x1, .null] h0 r (.inr none) := by
  refine CMet.ofW (by decide) ?_
  intro p e s m below meth c s₁ B S hX hM hr hlocks hnt hin
  obtain ⟨hx, hb, hml, hown, hts⟩ := id S
  have hl := lv_entry ([.ref x0, .ref x1, .null]) (n := 5) (Nat.le_of_ble_eq_true rfl)
  rw [lg_entry_eq]
  generalize (lg_sl ([.ref x0, .ref x1, .null]) ++ List.replicate (5 - (lg_sl ([.ref x0, .ref x1, .null])).length) Slot.unset).toArray = ls at hl ⊢
  have hl : lv_has ls 5 [(0, .ref x0), (1, .ref x1), (2, .null)] := hl
  unfold fJ6_init_2 at hF
  refine lv_aload_n hx hb dJ6_init_2_0 rfl (lv_at hl 0 rfl) ?_
  refine cobj S q656 q148 q149 hl.1 (Nat.le_of_ble_eq_true rfl) dJ6_init_2_1 (Nat.le_of_ble_eq_true rfl) (Nat.le_of_ble_eq_true rfl) ?_
  refine lv_aload_n hx hb dJ6_init_2_4 rfl (lv_at hl 1 rfl) ?_
  obtain ⟨z2, hF⟩ := gTe hF
  obtain ⟨r2, er2, hF⟩ := obn hF
  refine ccr (rest := []) (st1 := [.ref r2]) S hX hM (metJ4_getValue l F D h0 x1 r2 er2) (ci_V (C := "java/lang/StringBuilder") (As := []) (rest := []) S q657 q658 q660 q661 hyJ4_getValue (HI.cell (ci := 15) hX hM (by decide) (by omega)) hlJ4_getValue rfl dJ6_init_2_5) q661 q114 (Nat.le_of_ble_eq_true rfl) (Nat.le_of_ble_eq_true rfl) hl.1 (Nat.le_of_ble_eq_true rfl) rfl (fun H locs cs ss hM => ?_)
  refine lv_astore_n (lv' := [(3, .ref r2), (0, .ref x0), (1, .ref x1), (2, .null)]) hx hb dJ6_init_2_8 rfl hl (by decide) rfl (fun ls hl => ?_)
  refine lv_aload_n hx hb dJ6_init_2_9 rfl (lv_at hl 2 rfl) ?_
  obtain ⟨z3, hF⟩ := gTe hF
  obtain ⟨r3, er3, hF⟩ := obn hF
  refine ccr (rest := []) (st1 := [.int r3]) S hX hM (metJ5_length l F D h0 x1 r3 er3) (ci_A (C := "java/lang/StringBuilder") (As := []) (rest := []) (bytes := cJ5_length) (maxL := 0) (ret := none) S q662 q664 (va_Decl.of (hts _ q663) (hts _ q669)) q666 q665 (by decide +kernel) (HI.cell (ci := 15) hX hM (by decide) (by omega)) (by decide +kernel) rfl dJ6_init_2_10) q667 q115 (Nat.le_of_ble_eq_true rfl) (Nat.le_of_ble_eq_true rfl) hl.1 (Nat.le_of_ble_eq_true rfl) rfl (fun H locs cs ss hM => ?_)
  refine lv_istore (lv' := [(4, .int r3), (3, .ref r2), (0, .ref x0), (1, .ref x1), (2, .null)]) hx hb dJ6_init_2_13 hl (by decide) rfl (fun ls hl => ?_)
  refine lv_aload_n hx hb dJ6_init_2_15 rfl (lv_at hl 3 rfl) ?_
  obtain ⟨z4, hF⟩ := gTe hF
  obtain ⟨r4, er4, hF⟩ := obn hF
  refine ccr (rest := []) (st1 := [.int r4]) S hX hM (metJ4_isLatin1 l F D h0 x1 r4 er4) (ci_V (C := "java/lang/StringBuilder") (As := []) (rest := []) S q670 q592 q594 q595 hyJ4_isLatin1 (HI.cell (ci := 15) hX hM (by decide) (by omega)) hlJ4_isLatin1 rfl dJ6_init_2_16) q595 q114 (Nat.le_of_ble_eq_true rfl) (Nat.le_of_ble_eq_true rfl) hl.1 (Nat.le_of_ble_eq_true rfl) rfl (fun H locs cs ss hM => ?_)
  refine lv_if_eq (tgt := 41) hx hb dJ6_init_2_19 (by decide) (fun c5 => ?_) (fun c5 => ?_)
  · have hF := ifp hF c5
    refine cst (ref := "") S hM (ust3 hX) q680 dJ6_init_2_41 ?_
    refine lv_if_eq (tgt := 79) hx hb dJ6_init_2_44 (by decide) (fun c7 => ?_) (fun c7 => ?_)
    · exact absurd c7 (by decide)
    · refine lv_aload_n hx hb dJ6_init_2_47 rfl (lv_at hl 3 rfl) ?_
      obtain ⟨v8, ev8, hF⟩ := obn hF
      refine cgi S hX hM ev8 ck_16_16_2 q538 (fun _ h => h) dJ6_init_2_48 ?_
      refine lv_if_eq (tgt := 79) hx hb dJ6_init_2_51 (by decide) (fun c9 => ?_) (fun c9 => ?_)
      · have hF := ifp hF c9
        refine lv_aload_n hx hb dJ6_init_2_79 rfl (lv_at hl 2 rfl) ?_
        refine lv_iconst (v := 1) hx hb dJ6_init_2_80 rfl ?_
        obtain ⟨σ10, eσ10, hF⟩ := obn hF
        refine cpiF S hX hM eσ10 ck_17_17_1 cw_17_17_1 rfl rfl q695 hin dJ6_init_2_81 (fun H locs hM => ?_)
        refine lv_aload_n hx hb dJ6_init_2_84 rfl (lv_at hl 2 rfl) ?_
        refine lv_aload_n hx hb dJ6_init_2_85 rfl (lv_at hl 1 rfl) ?_
        refine lv_iconst (v := 0) hx hb dJ6_init_2_86 rfl ?_
        refine lv_iload hx hb dJ6_init_2_87 (lv_at hl 0 rfl) ?_
        refine lv_iconst (v := 1) hx hb dJ6_init_2_89 rfl ?_
        refine lv_ishl hx hb dJ6_init_2_90 ?_
        obtain ⟨r11, er11, hF⟩ := obn hF
        refine ccr (rest := [.ref x0]) (st1 := [.ref r11.1, .ref x0]) S hX hM (metJ3_copyOfRange l F D σ10 r2 0 (r3 <<< (1 &&& 31)) r11 er11) (ci_S (As := [.ref r2, .int 0, .int (r3 <<< (1 &&& 31))]) (rest := [.ref x0]) S q671 q672 q109 q673 hyJ3_copyOfRange hlJ3_copyOfRange rfl dJ6_init_2_91) q673 q109 (Nat.le_of_ble_eq_true rfl) (Nat.le_of_ble_eq_true rfl) hl.1 (Nat.le_of_ble_eq_true rfl) rfl (fun H locs cs ss hM => ?_)
        obtain ⟨σ12, eσ12, hF⟩ := obn hF
        refine cprF (v := (some r11.1)) S hX hM eσ12 ck_17_17_0 cw_17_17_0 rfl q694 hin dJ6_init_2_94 (fun H locs hM => ?_)
        have hz := (Option.some.inj hF)
        subst hz
        exact crv S hM hr hlocks dJ6_init_2_97
      · have hF := ifn hF c9
        refine lv_aload_n hx hb dJ6_init_2_54 rfl (lv_at hl 2 rfl) ?_
        refine lv_aload_n hx hb dJ6_init_2_55 rfl (lv_at hl 1 rfl) ?_
        refine lv_iconst (v := 0) hx hb dJ6_init_2_56 rfl ?_
        refine lv_iload hx hb dJ6_init_2_57 (lv_at hl 0 rfl) ?_
        cases hF
  · have hF := ifn hF c5
    refine lv_aload_n hx hb dJ6_init_2_22 rfl (lv_at hl 2 rfl) ?_
    refine lv_iconst (v := 0) hx hb dJ6_init_2_23 rfl ?_
    obtain ⟨σ13, eσ13, hF⟩ := obn hF
    refine cpiF S hX hM eσ13 ck_17_17_1 cw_17_17_1 rfl rfl q695 hin dJ6_init_2_24 (fun H locs hM => ?_)
    refine lv_aload_n hx hb dJ6_init_2_27 rfl (lv_at hl 2 rfl) ?_
    refine lv_aload_n hx hb dJ6_init_2_28 rfl (lv_at hl 1 rfl) ?_
    refine lv_iconst (v := 0) hx hb dJ6_init_2_29 rfl ?_
    refine lv_iload hx hb dJ6_init_2_30 (lv_at hl 0 rfl) ?_
    obtain ⟨r14, er14, hF⟩ := obn hF
    refine ccr (rest := [.ref x0]) (st1 := [.ref r14.1, .ref x0]) S hX hM (metJ3_copyOfRange l F D σ13 r2 0 r3 r14 er14) (ci_S (As := [.ref r2, .int 0, .int r3]) (rest := [.ref x0]) S q671 q672 q109 q673 hyJ3_copyOfRange hlJ3_copyOfRange rfl dJ6_init_2_32) q673 q109 (Nat.le_of_ble_eq_true rfl) (Nat.le_of_ble_eq_true rfl) hl.1 (Nat.le_of_ble_eq_true rfl) rfl (fun H locs cs ss hM => ?_)
    obtain ⟨σ15, eσ15, hF⟩ := obn hF
    refine cprF (v := (some r14.1)) S hX hM eσ15 ck_17_17_0 cw_17_17_0 rfl q694 hin dJ6_init_2_35 (fun H locs hM => ?_)
    refine lv_goto (tgt := 97) hx hb dJ6_init_2_38 (by decide) ?_
    have hz := (Option.some.inj hF)
    subst hz
    exact crv S hM hr hlocks dJ6_init_2_97
def fJ6_init (F : Nat) (h0 : HS) (x0 : Nat) (x1 : Nat) : Option (HS) := ((fJ6_init_2 F h0 x0 x1).bind fun r2 => some r2)
theorem hyJ6_init : yJ6_init.cls ≠ "java/lang/invoke/MethodHandle" ∧ yJ6_init.cls ≠ "java/lang/invoke/VarHandle" := by decide +kernel
theorem hlJ6_init : (parseMethodDescriptor yJ6_init.desc).map (fun d => d.parameters.length) = some 1 := by decide +kernel
set_option maxHeartbeats 4000000 in
set_option maxRecDepth 100000 in
theorem metJ6_init (l : Launch) [NoTr l] (F : Nat) (D : va_G) (h0 : HS) (x0 : Nat) (x1 : Nat) (r : HS) (hF : fJ6_init F h0 x0 x1 = some r) : CMet l yJ6_init (ws_ yJ6_init cJ6_init 2 none) 5 130 D [.ref x0, .ref x1] h0 r (.inr none) := by
  refine CMet.ofW (by decide) ?_
  intro p e s m below meth c s₁ B S hX hM hr hlocks hnt hin
  obtain ⟨hx, hb, hml, hown, hts⟩ := id S
  have hl := lv_entry ([.ref x0, .ref x1]) (n := 2) (Nat.le_of_ble_eq_true rfl)
  rw [lg_entry_eq]
  generalize (lg_sl ([.ref x0, .ref x1]) ++ List.replicate (2 - (lg_sl ([.ref x0, .ref x1])).length) Slot.unset).toArray = ls at hl ⊢
  have hl : lv_has ls 2 [(0, .ref x0), (1, .ref x1)] := hl
  unfold fJ6_init at hF
  refine lv_aload_n hx hb dJ6_init_0 rfl (lv_at hl 0 rfl) ?_
  refine lv_aload_n hx hb dJ6_init_1 rfl (lv_at hl 1 rfl) ?_
  refine lv_null hx hb dJ6_init_2 ?_
  obtain ⟨r2, er2, hF⟩ := obn hF
  refine ccr (rest := []) (st1 := []) S hX hM (metJ6_init_2 l F D h0 x0 x1 r2 er2) (ci_I (As := [.ref x1, .null]) (rest := []) S rfl q653 q654 q655 hyJ6_init_2 hlJ6_init_2 rfl dJ6_init_3) q655 q116 (Nat.le_of_ble_eq_true rfl) (Nat.le_of_ble_eq_true rfl) hl.1 (Nat.le_of_ble_eq_true rfl) rfl (fun H locs cs ss hM => ?_)
  have hz := (Option.some.inj hF)
  subst hz
  exact crv S hM hr hlocks dJ6_init_6
def fJ5_toString (F : Nat) (h0 : HS) (x0 : Nat) : Option (Nat × HS) := ((nO h0 17 4).bind fun r1 => ((fJ6_init F r1.2 r1.1 x0).bind fun r2 => some (r1.1, r2)))
theorem hyJ5_toString : yJ5_toString.cls ≠ "java/lang/invoke/MethodHandle" ∧ yJ5_toString.cls ≠ "java/lang/invoke/VarHandle" := by decide +kernel
theorem hlJ5_toString : (parseMethodDescriptor yJ5_toString.desc).map (fun d => d.parameters.length) = some 0 := by decide +kernel
set_option maxHeartbeats 4000000 in
set_option maxRecDepth 100000 in
theorem metJ5_toString (l : Launch) [NoTr l] (F : Nat) (D : va_G) (h0 : HS) (x0 : Nat) (r : Nat × HS) (hF : fJ5_toString F h0 x0 = some r) : CMet l yJ5_toString (ws_ yJ5_toString cJ5_toString 1 (some (.object "java/lang/String"))) 6 151 D [.ref x0] h0 r.2 (.inr (some (.ref r.1))) := by
  refine CMet.ofW (by decide) ?_
  intro p e s m below meth c s₁ B S hX hM hr hlocks hnt hin
  obtain ⟨hx, hb, hml, hown, hts⟩ := id S
  have hl := lv_entry ([.ref x0]) (n := 1) (Nat.le_of_ble_eq_true rfl)
  rw [lg_entry_eq]
  generalize (lg_sl ([.ref x0]) ++ List.replicate (1 - (lg_sl ([.ref x0])).length) Slot.unset).toArray = ls at hl ⊢
  have hl : lv_has ls 1 [(0, .ref x0)] := hl
  unfold fJ5_toString at hF
  obtain ⟨r1, er1, hF⟩ := obn hF
  refine cno (ci := 16) S hX hM er1 (by decide) q648 q649 q116 dJ5_toString_0 (fun H cs ss hM => ?_)
  refine lv_dup hx hb dJ5_toString_3 rfl ?_
  refine lv_aload_n hx hb dJ5_toString_4 rfl (lv_at hl 0 rfl) ?_
  obtain ⟨r2, er2, hF⟩ := obn hF
  refine ccr (rest := [.ref r1.1]) (st1 := [.ref r1.1]) S hX hM (metJ6_init l F D r1.2 r1.1 x0 r2 er2) (ci_I (As := [.ref x0]) (rest := [.ref r1.1]) S rfl q650 q651 q652 hyJ6_init hlJ6_init rfl dJ5_toString_5) q652 q116 (Nat.le_of_ble_eq_true rfl) (Nat.le_of_ble_eq_true rfl) hl.1 (Nat.le_of_ble_eq_true rfl) rfl (fun H locs cs ss hM => ?_)
  have hz := (Option.some.inj hF)
  subst hz
  exact cra S hM hr (Or.inl ⟨_, rfl⟩) hlocks dJ5_toString_8
def lX6_go_0 (F : Nat) : Nat → HS → Nat → Option (HS)
  | 0, _, _ => none
  | n + 1, σ, y0 => ((oI σ y0 5 7 3).bind fun v1 => ((oI σ y0 5 7 1).bind fun v2 => (if v2 ≤ v1 then (some σ) else ((oI σ y0 5 7 3).bind fun v4 => gT σ y0 5 7 (((fX6_byteAt F σ y0 v4).bind fun r5 => ((if r5 = 32 then (some true) else ((oI σ y0 5 7 3).bind fun v8 => gT σ y0 5 7 (((fX6_byteAt F σ y0 v8).bind fun r9 => (if r9 = 10 then (some true) else (some false)))))).bind fun q6 => (if q6 = true then ((oI σ y0 5 7 3).bind fun v11 => ((pI σ y0 5 7 3 (v11 + 1)).bind fun σ12 => lX6_go_0 F n σ12 y0)) else (some σ)))))))))
def lX6_go_221 (F : Nat) : Nat → HS → Nat → Int32 → Int32 → Nat → Option (HS × Int32)
  | 0, _, _, _, _, _ => none
  | n + 1, σ, y0, y2, y3, y4 => ((oI σ y0 5 7 3).bind fun v37 => gT σ y0 5 7 (((fX6_byteAt F σ y0 v37).bind fun r38 => ((if (fX6_isLetter r38) = 0 then ((oI σ y0 5 7 3).bind fun v42 => gT σ y0 5 7 (((fX6_byteAt F σ y0 v42).bind fun r43 => (if (fX6_isDigit r43) = 0 then (some false) else (some true))))) else (some true)).bind fun q40 => (if q40 = true then ((if y3 = 0 then (some true) else ((oI σ y0 5 7 3).bind fun v48 => gT σ y0 5 7 (((fX6_byteAt F σ y0 v48).bind fun r49 => (if (fX6_isLetter r49) = y2 then (some false) else (some true)))))).bind fun q46 => (if q46 = true then ((oI σ y0 5 7 3).bind fun v52 => ((oI σ y0 5 7 5).bind fun v53 => ((if 7 ≤ (v52 - v53) then (some σ) else ((oI σ y0 5 7 3).bind fun v56 => gT σ y0 5 7 (((fX6_byteAt F σ y0 v56).bind fun r57 => gT σ y4 16 16 (((fJ5_append F σ y4 ((r57.toUInt32 % 65536).toInt32)).bind fun r58 => some r58.2)))))).bind fun q54 => ((oI q54 y0 5 7 3).bind fun v59 => ((oI q54 y0 5 7 5).bind fun v60 => ((if 3 ≤ (v59 - v60) then (some q54) else ((oI q54 y0 5 7 6).bind fun v63 => ((oI q54 y0 5 7 3).bind fun v64 => gT q54 y0 5 7 (((fX6_byteAt F q54 y0 v64).bind fun r65 => ((pI q54 y0 5 7 6 (((10 * v63) + r65) - 48)).bind fun σ66 => some σ66)))))).bind fun q61 => ((oI q61 y0 5 7 3).bind fun v67 => ((pI q61 y0 5 7 3 (v67 + 1)).bind fun σ68 => lX6_go_221 F n σ68 y0 y2 0 y4)))))))) else ((oI σ y0 5 7 3).bind fun v69 => ((oI σ y0 5 7 5).bind fun v70 => ((if 7 ≤ (v69 - v70) then (some σ) else ((oI σ y0 5 7 3).bind fun v73 => gT σ y0 5 7 (((fX6_byteAt F σ y0 v73).bind fun r74 => gT σ y4 16 16 (((fJ5_append F σ y4 ((r74.toUInt32 % 65536).toInt32)).bind fun r75 => some r75.2)))))).bind fun q71 => ((oI q71 y0 5 7 3).bind fun v76 => ((oI q71 y0 5 7 5).bind fun v77 => ((if 3 ≤ (v76 - v77) then (some q71) else ((oI q71 y0 5 7 6).bind fun v80 => ((oI q71 y0 5 7 3).bind fun v81 => gT q71 y0 5 7 (((fX6_byteAt F q71 y0 v81).bind fun r82 => ((pI q71 y0 5 7 6 (((10 * v80) + r82) - 48)).bind fun σ83 => some σ83)))))).bind fun q78 => ((oI q78 y0 5 7 3).bind fun v84 => ((pI q78 y0 5 7 3 (v84 + 1)).bind fun σ85 => lX6_go_221 F n σ85 y0 y2 1 y4)))))))))) else (some (σ, y3)))))))
def fX6_go (F : Nat) (h0 : HS) (x0 : Nat) : Option (HS) := ((lX6_go_0 F F h0 x0).bind fun q13 => ((oI q13 x0 5 7 3).bind fun v14 => ((pI q13 x0 5 7 5 v14).bind fun σ15 => ((oI σ15 x0 5 7 1).bind fun v16 => ((oI σ15 x0 5 7 2).bind fun v17 => ((if v16 ≤ v17 then (some true) else ((oI σ15 x0 5 7 5).bind fun v20 => ((oI σ15 x0 5 7 2).bind fun v21 => (if v20 < v21 then (some true) else (some false))))).bind fun q18 => (if q18 = true then ((oI σ15 x0 5 7 3).bind fun v23 => ((oI σ15 x0 5 7 1).bind fun v24 => (if v23 < v24 then ((oI σ15 x0 5 7 3).bind fun v26 => gT σ15 x0 5 7 (((fX6_byteAt F σ15 x0 v26).bind fun r27 => (lt_ (if (fX6_isLetter r27) = 0 then (if (fX6_isDigit r27) = 0 then false else true) else true) fun q29 => (if q29 = true then ((pI σ15 x0 5 7 6 0).bind fun σ34 => ((nO σ34 16 4).bind fun r35 => ((fJ5_init F r35.2 r35.1).bind fun r36 => ((lX6_go_221 F F r36 x0 (fX6_isLetter r27) 1 r35.1).bind fun q86 => gT q86.1 r35.1 16 16 (((fJ5_toString F q86.1 r35.1).bind fun r87 => ((pR r87.2 x0 5 7 8 (some r87.1)).bind fun σ88 => (if q86.2 = 0 then ((pI σ88 x0 5 7 4 1).bind fun σ90 => some σ90) else ((oI σ88 x0 5 7 3).bind fun v91 => ((oI σ88 x0 5 7 5).bind fun v92 => (if (fX6_isLetter r27) = 0 then (if (v91 - v92) ≤ 3 then (if (fX6_isLetter r27) = 0 then ((pI σ88 x0 5 7 4 3).bind fun σ96 => some σ96) else ((pI σ88 x0 5 7 4 2).bind fun σ97 => some σ97)) else ((pI σ88 x0 5 7 4 1).bind fun σ98 => some σ98)) else (if (v91 - v92) ≤ 7 then (if (fX6_isLetter r27) = 0 then ((pI σ88 x0 5 7 4 3).bind fun σ101 => some σ101) else ((pI σ88 x0 5 7 4 2).bind fun σ102 => some σ102)) else ((pI σ88 x0 5 7 4 1).bind fun σ103 => some σ103))))))))))))) else (if r27 = 59 then ((pI σ15 x0 5 7 4 4).bind fun σ128 => ((pI σ128 x0 5 7 7 r27).bind fun σ129 => ((oI σ129 x0 5 7 3).bind fun v130 => ((pI σ129 x0 5 7 3 (v130 + 1)).bind fun σ131 => some σ131)))) else (lt_ (if r27 = 60 then true else (if r27 = 61 then true else false)) fun q105 => (if q105 = true then ((pI σ15 x0 5 7 4 6).bind fun σ108 => ((pI σ108 x0 5 7 7 r27).bind fun σ109 => ((oI σ109 x0 5 7 3).bind fun v110 => ((pI σ109 x0 5 7 3 (v110 + 1)).bind fun σ111 => some σ111)))) else (lt_ (if r27 = 62 then true else (if r27 = 40 then true else false)) fun q112 => (if q112 = true then ((pI σ15 x0 5 7 4 6).bind fun σ115 => ((pI σ115 x0 5 7 7 r27).bind fun σ116 => ((oI σ116 x0 5 7 3).bind fun v117 => ((pI σ116 x0 5 7 3 (v117 + 1)).bind fun σ118 => some σ118)))) else (if r27 = 41 then ((pI σ15 x0 5 7 4 6).bind fun σ124 => ((pI σ124 x0 5 7 7 r27).bind fun σ125 => ((oI σ125 x0 5 7 3).bind fun v126 => ((pI σ125 x0 5 7 3 (v126 + 1)).bind fun σ127 => some σ127)))) else ((pI σ15 x0 5 7 4 1).bind fun σ120 => ((pI σ120 x0 5 7 7 r27).bind fun σ121 => ((oI σ121 x0 5 7 3).bind fun v122 => ((pI σ121 x0 5 7 3 (v122 + 1)).bind fun σ123 => some σ123))))))))))))))) else ((pI σ15 x0 5 7 4 0).bind fun σ132 => some σ132)))) else ((oI σ15 x0 5 7 2).bind fun v133 => ((pI σ15 x0 5 7 5 v133).bind fun σ134 => ((pI σ134 x0 5 7 4 5).bind fun σ135 => some σ135))))))))))
theorem hyX6_go : yX6_go.cls ≠ "java/lang/invoke/MethodHandle" ∧ yX6_go.cls ≠ "java/lang/invoke/VarHandle" := by decide +kernel
theorem hlX6_go : (parseMethodDescriptor yX6_go.desc).map (fun d => d.parameters.length) = some 0 := by decide +kernel
set_option maxHeartbeats 4000000 in
set_option maxRecDepth 100000 in
theorem wlX6_go_0 {p : Program} {l : Launch} [NoTr l] {e : Env} {s : State} {m : MethodId} {args : Array Value} {below : List Frame} {meth : Method} {c : Code} {D : va_G} {h0 : HS} (S : CallFix p m c cX6_go 5 s args lw_all RX6) (hX : CX D (kG h0) s) (F : Nat) {Q : State → Prop} : ∀ (n : Nat) (σ : HS) (y0 : Nat) (out : HS), lX6_go_0 F n σ y0 = some out → (∀ (H : Heap) (locs : List Loc) (cs ss : Nat) (ls : Array Slot), HI D h0 out s.heap H locs cs ss → lv_has ls 5 [(0, .ref y0)] → W p l e (cR 7 171 h0) s m args below meth c H locs cs ss Q (F0 m 50 ls [])) → ∀ (H : Heap) (locs : List Loc) (cs ss : Nat) (ls : Array Slot), HI D h0 σ s.heap H locs cs ss → lv_has ls 5 [(0, .ref y0)] → W p l e (cR 7 171 h0) s m args below meth c H locs cs ss Q (F0 m 0 ls []) := by
  intro n
  induction n with
  | zero =>
    intro σ y0 out hF
    cases (show (none : Option _) = some out from hF)
  | succ n ih =>
    intro σ y0 out hF hk H locs cs ss ls hM hl
    rw [lX6_go_0] at hF
    obtain ⟨hx, hb, hml, hown, hts⟩ := id S
    refine lv_aload_n hx hb dX6_go_0 rfl (lv_at hl 0 rfl) ?_
    obtain ⟨v1, ev1, hF⟩ := obn hF
    refine cgi S hX hM ev1 ck_5_7_3 q459 (fun _ h => h) dX6_go_1 ?_
    refine lv_aload_n hx hb dX6_go_4 rfl (lv_at hl 0 rfl) ?_
    obtain ⟨v2, ev2, hF⟩ := obn hF
    refine cgi S hX hM ev2 ck_5_7_1 q457 (fun _ h => h) dX6_go_5 ?_
    refine lv_icmp_ge (tgt := 50) hx hb dX6_go_8 (by decide) (fun c3 => ?_) (fun c3 => ?_)
    · have hF := ifp hF c3
      cases hF
      exact hk _ _ _ _ _ hM (lv_sub hl [0] rfl)
    · have hF := ifn hF c3
      refine lv_aload_n hx hb dX6_go_11 rfl (lv_at hl 0 rfl) ?_
      refine lv_aload_n hx hb dX6_go_12 rfl (lv_at hl 0 rfl) ?_
      obtain ⟨v4, ev4, hF⟩ := obn hF
      refine cgi S hX hM ev4 ck_5_7_3 q459 (fun _ h => h) dX6_go_13 ?_
      obtain ⟨z5, hF⟩ := gTe hF
      obtain ⟨r5, er5, hF⟩ := obn hF
      refine ccr (rest := []) (st1 := [.int r5]) S hX hM (metX6_byteAt l F D σ y0 v4 r5 er5) (by
            have ez : kT σ y0 = 5 ∨ kT σ y0 = 6 ∨ kT σ y0 = 7 := by omega
            rcases ez with ez | ez | ez
            · exact ci_P (C := "RugReader$HouseReader") (As := [.int v4]) (rest := []) S q508 q2320 q510 (uq509 hX) q511 hyX6_byteAt (HI.cell (ci := 4) hX hM (by decide) ez) hlX6_byteAt rfl dX6_go_16
            · exact ci_P (C := "RugReader$WalkReader") (As := [.int v4]) (rest := []) S q508 q2320 q510 (uq509 hX) q511 hyX6_byteAt (HI.cell (ci := 5) hX hM (by decide) ez) hlX6_byteAt rfl dX6_go_16
            · exact ci_P (C := "RugReader$SentenceReader") (As := [.int v4]) (rest := []) S q508 q2320 q510 (uq509 hX) q511 hyX6_byteAt (HI.cell (ci := 6) hX hM (by decide) ez) hlX6_byteAt rfl dX6_go_16) q511 q112 (Nat.le_of_ble_eq_true rfl) (Nat.le_of_ble_eq_true rfl) hl.1 (Nat.le_of_ble_eq_true rfl) rfl (fun H locs cs ss hM => ?_)
      refine lv_bipush (v := 32) hx hb dX6_go_19 rfl ?_
      obtain ⟨q6, hq6, hF⟩ := obn hF
      refine cjnc (C := q6 = true) (I := HI D h0 σ s.heap) (nJ := 5) (lvJ := [(0, .ref y0)]) (J := 37) (stJ := []) ?_ ?_
      · intro cq6 H locs cs ss ls hM hl
        have hF := ifp hF cq6
        refine lv_aload_n hx hb dX6_go_37 rfl (lv_at hl 0 rfl) ?_
        refine lv_dup hx hb dX6_go_38 rfl ?_
        obtain ⟨v11, ev11, hF⟩ := obn hF
        refine cgi S hX hM ev11 ck_5_7_3 q459 (fun _ h => h) dX6_go_39 ?_
        refine lv_iconst (v := 1) hx hb dX6_go_42 rfl ?_
        refine lv_iadd hx hb dX6_go_43 ?_
        obtain ⟨σ12, eσ12, hF⟩ := obn hF
        refine cpi S hX hM eσ12 ck_5_7_3 cw_5_7_3 rfl rfl q459 (fun _ h => h) dX6_go_44 (fun H locs hM => ?_)
        refine lv_goto (tgt := 0) hx hb dX6_go_47 (by decide) ?_
        exact ih _ _ out hF hk _ _ _ _ _ hM (lv_sub hl [0] rfl)
      · intro hAq6
        refine cjnc (C := q6 = false) (I := HI D h0 σ s.heap) (nJ := 5) (lvJ := [(0, .ref y0)]) (J := 50) (stJ := []) ?_ ?_
        · intro cq6 H locs cs ss ls hM hl
          have hF := ifn hF (by rw [cq6]; decide)
          cases hF
          exact hk _ _ _ _ _ hM (lv_sub hl [0] rfl)
        · intro hBq6
          refine lv_icmp_eq (tgt := 37) hx hb dX6_go_21 (by decide) (fun c7 => ?_) (fun c7 => ?_)
          · have hq6 := ifp hq6 c7
            cases hq6
            exact hAq6 rfl _ _ _ _ _ hM (lv_sub hl [0] rfl)
          · have hq6 := ifn hq6 c7
            refine lv_aload_n hx hb dX6_go_24 rfl (lv_at hl 0 rfl) ?_
            refine lv_aload_n hx hb dX6_go_25 rfl (lv_at hl 0 rfl) ?_
            obtain ⟨v8, ev8, hq6⟩ := obn hq6
            refine cgi S hX hM ev8 ck_5_7_3 q459 (fun _ h => h) dX6_go_26 ?_
            obtain ⟨z9, hq6⟩ := gTe hq6
            obtain ⟨r9, er9, hq6⟩ := obn hq6
            refine ccr (rest := []) (st1 := [.int r9]) S hX hM (metX6_byteAt l F D σ y0 v8 r9 er9) (by
                  have ez : kT σ y0 = 5 ∨ kT σ y0 = 6 ∨ kT σ y0 = 7 := by omega
                  rcases ez with ez | ez | ez
                  · exact ci_P (C := "RugReader$HouseReader") (As := [.int v8]) (rest := []) S q508 q2320 q510 (uq509 hX) q511 hyX6_byteAt (HI.cell (ci := 4) hX hM (by decide) ez) hlX6_byteAt rfl dX6_go_29
                  · exact ci_P (C := "RugReader$WalkReader") (As := [.int v8]) (rest := []) S q508 q2320 q510 (uq509 hX) q511 hyX6_byteAt (HI.cell (ci := 5) hX hM (by decide) ez) hlX6_byteAt rfl dX6_go_29
                  · exact ci_P (C := "RugReader$SentenceReader") (As := [.int v8]) (rest := []) S q508 q2320 q510 (uq509 hX) q511 hyX6_byteAt (HI.cell (ci := 6) hX hM (by decide) ez) hlX6_byteAt rfl dX6_go_29) q511 q112 (Nat.le_of_ble_eq_true rfl) (Nat.le_of_ble_eq_true rfl) hl.1 (Nat.le_of_ble_eq_true rfl) rfl (fun H locs cs ss hM => ?_)
            refine lv_bipush (v := 10) hx hb dX6_go_32 rfl ?_
            refine lv_icmp_ne (tgt := 50) hx hb dX6_go_34 (by decide) (fun c10 => ?_) (fun c10 => ?_)
            · have hq6 := ifn hq6 c10
              cases hq6
              exact hBq6 rfl _ _ _ _ _ hM (lv_sub hl [0] rfl)
            · have hq6 := ifp hq6 c10
              cases hq6
              exact hAq6 rfl _ _ _ _ _ hM (lv_sub hl [0] rfl)
set_option maxHeartbeats 4000000 in
set_option maxRecDepth 100000 in
theorem wlX6_go_221 {p : Program} {l : Launch} [NoTr l] {e : Env} {s : State} {m : MethodId} {args : Array Value} {below : List Frame} {meth : Method} {c : Code} {D : va_G} {h0 : HS} (S : CallFix p m c cX6_go 5 s args lw_all RX6) (hX : CX D (kG h0) s) (F : Nat) {Q : State → Prop} : ∀ (n : Nat) (σ : HS) (y0 : Nat) (y2 : Int32) (y3 : Int32) (y4 : Nat) (out : HS × Int32), lX6_go_221 F n σ y0 y2 y3 y4 = some out → (∀ (H : Heap) (locs : List Loc) (cs ss : Nat) (ls : Array Slot), HI D h0 out.1 s.heap H locs cs ss → lv_has ls 5 [(0, .ref y0), (2, .int y2), (3, .int out.2), (4, .ref y4)] → W p l e (cR 7 171 h0) s m args below meth c H locs cs ss Q (F0 m 352 ls [])) → ∀ (H : Heap) (locs : List Loc) (cs ss : Nat) (ls : Array Slot), HI D h0 σ s.heap H locs cs ss → lv_has ls 5 [(0, .ref y0), (2, .int y2), (3, .int y3), (4, .ref y4)] → W p l e (cR 7 171 h0) s m args below meth c H locs cs ss Q (F0 m 221 ls []) := by
  intro n
  induction n with
  | zero =>
    intro σ y0 y2 y3 y4 out hF
    cases (show (none : Option _) = some out from hF)
  | succ n ih =>
    intro σ y0 y2 y3 y4 out hF hk H locs cs ss ls hM hl
    rw [lX6_go_221] at hF
    obtain ⟨hx, hb, hml, hown, hts⟩ := id S
    refine lv_aload_n hx hb dX6_go_221 rfl (lv_at hl 0 rfl) ?_
    refine lv_aload_n hx hb dX6_go_222 rfl (lv_at hl 0 rfl) ?_
    obtain ⟨v37, ev37, hF⟩ := obn hF
    refine cgi S hX hM ev37 ck_5_7_3 q459 (fun _ h => h) dX6_go_223 ?_
    obtain ⟨z38, hF⟩ := gTe hF
    obtain ⟨r38, er38, hF⟩ := obn hF
    refine ccr (rest := []) (st1 := [.int r38]) S hX hM (metX6_byteAt l F D σ y0 v37 r38 er38) (by
          have ez : kT σ y0 = 5 ∨ kT σ y0 = 6 ∨ kT σ y0 = 7 := by omega
          rcases ez with ez | ez | ez
          · exact ci_P (C := "RugReader$HouseReader") (As := [.int v37]) (rest := []) S q508 q2320 q510 (uq509 hX) q511 hyX6_byteAt (HI.cell (ci := 4) hX hM (by decide) ez) hlX6_byteAt rfl dX6_go_226
          · exact ci_P (C := "RugReader$WalkReader") (As := [.int v37]) (rest := []) S q508 q2320 q510 (uq509 hX) q511 hyX6_byteAt (HI.cell (ci := 5) hX hM (by decide) ez) hlX6_byteAt rfl dX6_go_226
          · exact ci_P (C := "RugReader$SentenceReader") (As := [.int v37]) (rest := []) S q508 q2320 q510 (uq509 hX) q511 hyX6_byteAt (HI.cell (ci := 6) hX hM (by decide) ez) hlX6_byteAt rfl dX6_go_226) q511 q112 (Nat.le_of_ble_eq_true rfl) (Nat.le_of_ble_eq_true rfl) hl.1 (Nat.le_of_ble_eq_true rfl) rfl (fun H locs cs ss hM => ?_)
    refine ccr (rest := []) (st1 := [.int (fX6_isLetter r38)]) S hX hM (metX6_isLetter l D σ r38 _ rfl) (ci_S (As := [.int r38]) (rest := []) S q512 q513 q112 q514 hyX6_isLetter hlX6_isLetter rfl dX6_go_229) q514 q112 (Nat.le_of_ble_eq_true rfl) (Nat.le_of_ble_eq_true rfl) hl.1 (Nat.le_of_ble_eq_true rfl) rfl (fun H locs cs ss hM => ?_)
    obtain ⟨q40, hq40, hF⟩ := obn hF
    refine cjnc (C := q40 = true) (I := HI D h0 σ s.heap) (nJ := 5) (lvJ := [(0, .ref y0), (2, .int y2), (3, .int y3), (4, .ref y4)]) (J := 249) (stJ := []) ?_ ?_
    · intro cq40 H locs cs ss ls hM hl
      have hF := ifp hF cq40
      refine lv_iload_n hx hb dX6_go_249 rfl (lv_at hl 2 rfl) ?_
      obtain ⟨q46, hq46, hF⟩ := obn hF
      refine cjnc (C := q46 = true) (I := HI D h0 σ s.heap) (nJ := 5) (lvJ := [(0, .ref y0), (2, .int y2), (4, .ref y4)]) (J := 272) (stJ := []) ?_ ?_
      · intro cq46 H locs cs ss ls hM hl
        have hF := ifp hF cq46
        refine lv_iconst (v := 0) hx hb dX6_go_272 rfl ?_
        refine lv_istore_n (lv' := [(3, .int 0), (0, .ref y0), (2, .int y2), (4, .ref y4)]) hx hb dX6_go_273 rfl hl (by decide) rfl (fun ls hl => ?_)
        refine lv_aload_n hx hb dX6_go_274 rfl (lv_at hl 1 rfl) ?_
        obtain ⟨v52, ev52, hF⟩ := obn hF
        refine cgi S hX hM ev52 ck_5_7_3 q459 (fun _ h => h) dX6_go_275 ?_
        refine lv_aload_n hx hb dX6_go_278 rfl (lv_at hl 1 rfl) ?_
        obtain ⟨v53, ev53, hF⟩ := obn hF
        refine cgi S hX hM ev53 ck_5_7_5 q467 (fun _ h => h) dX6_go_279 ?_
        refine lv_isub hx hb dX6_go_282 ?_
        refine lv_bipush (v := 7) hx hb dX6_go_283 rfl ?_
        obtain ⟨q54, hq54, hF⟩ := obn hF
        refine cjn (I := HI D h0 q54 s.heap) (nJ := 5) (lvJ := [(0, .ref y0), (2, .int y2), (3, .int 0), (4, .ref y4)]) (J := 303) (stJ := []) ?_ ?_
        · intro H locs cs ss ls hM hl
          refine lv_aload_n hx hb dX6_go_303 rfl (lv_at hl 0 rfl) ?_
          obtain ⟨v59, ev59, hF⟩ := obn hF
          refine cgi S hX hM ev59 ck_5_7_3 q459 (fun _ h => h) dX6_go_304 ?_
          refine lv_aload_n hx hb dX6_go_307 rfl (lv_at hl 0 rfl) ?_
          obtain ⟨v60, ev60, hF⟩ := obn hF
          refine cgi S hX hM ev60 ck_5_7_5 q467 (fun _ h => h) dX6_go_308 ?_
          refine lv_isub hx hb dX6_go_311 ?_
          refine lv_iconst (v := 3) hx hb dX6_go_312 rfl ?_
          obtain ⟨q61, hq61, hF⟩ := obn hF
          refine cjn (I := HI D h0 q61 s.heap) (nJ := 5) (lvJ := [(0, .ref y0), (2, .int y2), (3, .int 0), (4, .ref y4)]) (J := 339) (stJ := []) ?_ ?_
          · intro H locs cs ss ls hM hl
            refine lv_aload_n hx hb dX6_go_339 rfl (lv_at hl 0 rfl) ?_
            refine lv_dup hx hb dX6_go_340 rfl ?_
            obtain ⟨v67, ev67, hF⟩ := obn hF
            refine cgi S hX hM ev67 ck_5_7_3 q459 (fun _ h => h) dX6_go_341 ?_
            refine lv_iconst (v := 1) hx hb dX6_go_344 rfl ?_
            refine lv_iadd hx hb dX6_go_345 ?_
            obtain ⟨σ68, eσ68, hF⟩ := obn hF
            refine cpi S hX hM eσ68 ck_5_7_3 cw_5_7_3 rfl rfl q459 (fun _ h => h) dX6_go_346 (fun H locs hM => ?_)
            refine lv_goto (tgt := 221) hx hb dX6_go_349 (by decide) ?_
            exact ih _ _ _ _ _ out hF hk _ _ _ _ _ hM (lv_sub hl [0, 1, 2, 3] rfl)
          · intro hJq61
            refine lv_icmp_ge (tgt := 339) hx hb dX6_go_313 (by decide) (fun c62 => ?_) (fun c62 => ?_)
            · have hq61 := ifp hq61 c62
              cases hq61
              exact hJq61 _ _ _ _ _ hM (lv_sub hl [0, 1, 2, 3] rfl)
            · have hq61 := ifn hq61 c62
              refine lv_aload_n hx hb dX6_go_316 rfl (lv_at hl 0 rfl) ?_
              refine lv_bipush (v := 10) hx hb dX6_go_317 rfl ?_
              refine lv_aload_n hx hb dX6_go_319 rfl (lv_at hl 0 rfl) ?_
              obtain ⟨v63, ev63, hq61⟩ := obn hq61
              refine cgi S hX hM ev63 ck_5_7_6 q468 (fun _ h => h) dX6_go_320 ?_
              refine lv_imul hx hb dX6_go_323 ?_
              refine lv_aload_n hx hb dX6_go_324 rfl (lv_at hl 0 rfl) ?_
              refine lv_aload_n hx hb dX6_go_325 rfl (lv_at hl 0 rfl) ?_
              obtain ⟨v64, ev64, hq61⟩ := obn hq61
              refine cgi S hX hM ev64 ck_5_7_3 q459 (fun _ h => h) dX6_go_326 ?_
              obtain ⟨z65, hq61⟩ := gTe hq61
              obtain ⟨r65, er65, hq61⟩ := obn hq61
              refine ccr (rest := [.int (10 * v63), .ref y0]) (st1 := [.int r65, .int (10 * v63), .ref y0]) S hX hM (metX6_byteAt l F D q54 y0 v64 r65 er65) (by
                    have ez : kT q54 y0 = 5 ∨ kT q54 y0 = 6 ∨ kT q54 y0 = 7 := by omega
                    rcases ez with ez | ez | ez
                    · exact ci_P (C := "RugReader$HouseReader") (As := [.int v64]) (rest := [.int (10 * v63), .ref y0]) S q508 q2320 q510 (uq509 hX) q511 hyX6_byteAt (HI.cell (ci := 4) hX hM (by decide) ez) hlX6_byteAt rfl dX6_go_329
                    · exact ci_P (C := "RugReader$WalkReader") (As := [.int v64]) (rest := [.int (10 * v63), .ref y0]) S q508 q2320 q510 (uq509 hX) q511 hyX6_byteAt (HI.cell (ci := 5) hX hM (by decide) ez) hlX6_byteAt rfl dX6_go_329
                    · exact ci_P (C := "RugReader$SentenceReader") (As := [.int v64]) (rest := [.int (10 * v63), .ref y0]) S q508 q2320 q510 (uq509 hX) q511 hyX6_byteAt (HI.cell (ci := 6) hX hM (by decide) ez) hlX6_byteAt rfl dX6_go_329) q511 q112 (Nat.le_of_ble_eq_true rfl) (Nat.le_of_ble_eq_true rfl) hl.1 (Nat.le_of_ble_eq_true rfl) rfl (fun H locs cs ss hM => ?_)
              refine lv_iadd hx hb dX6_go_332 ?_
              refine lv_bipush (v := 48) hx hb dX6_go_333 rfl ?_
              refine lv_isub hx hb dX6_go_335 ?_
              obtain ⟨σ66, eσ66, hq61⟩ := obn hq61
              refine cpi S hX hM eσ66 ck_5_7_6 cw_5_7_6 rfl rfl q468 (fun _ h => h) dX6_go_336 (fun H locs hM => ?_)
              cases hq61
              exact hJq61 _ _ _ _ _ hM (lv_sub hl [0, 1, 2, 3] rfl)
        · intro hJq54
          refine lv_icmp_ge (tgt := 303) hx hb dX6_go_285 (by decide) (fun c55 => ?_) (fun c55 => ?_)
          · have hq54 := ifp hq54 c55
            cases hq54
            exact hJq54 _ _ _ _ _ hM (lv_sub hl [1, 2, 0, 3] rfl)
          · have hq54 := ifn hq54 c55
            refine lv_aload hx hb dX6_go_288 (lv_at hl 3 rfl) ?_
            refine lv_aload_n hx hb dX6_go_290 rfl (lv_at hl 1 rfl) ?_
            refine lv_aload_n hx hb dX6_go_291 rfl (lv_at hl 1 rfl) ?_
            obtain ⟨v56, ev56, hq54⟩ := obn hq54
            refine cgi S hX hM ev56 ck_5_7_3 q459 (fun _ h => h) dX6_go_292 ?_
            obtain ⟨z57, hq54⟩ := gTe hq54
            obtain ⟨r57, er57, hq54⟩ := obn hq54
            refine ccr (rest := [.ref y4]) (st1 := [.int r57, .ref y4]) S hX hM (metX6_byteAt l F D σ y0 v56 r57 er57) (by
                  have ez : kT σ y0 = 5 ∨ kT σ y0 = 6 ∨ kT σ y0 = 7 := by omega
                  rcases ez with ez | ez | ez
                  · exact ci_P (C := "RugReader$HouseReader") (As := [.int v56]) (rest := [.ref y4]) S q508 q2320 q510 (uq509 hX) q511 hyX6_byteAt (HI.cell (ci := 4) hX hM (by decide) ez) hlX6_byteAt rfl dX6_go_295
                  · exact ci_P (C := "RugReader$WalkReader") (As := [.int v56]) (rest := [.ref y4]) S q508 q2320 q510 (uq509 hX) q511 hyX6_byteAt (HI.cell (ci := 5) hX hM (by decide) ez) hlX6_byteAt rfl dX6_go_295
                  · exact ci_P (C := "RugReader$SentenceReader") (As := [.int v56]) (rest := [.ref y4]) S q508 q2320 q510 (uq509 hX) q511 hyX6_byteAt (HI.cell (ci := 6) hX hM (by decide) ez) hlX6_byteAt rfl dX6_go_295) q511 q112 (Nat.le_of_ble_eq_true rfl) (Nat.le_of_ble_eq_true rfl) hl.1 (Nat.le_of_ble_eq_true rfl) rfl (fun H locs cs ss hM => ?_)
            refine lv_i2c (v := (r57.toUInt32 % 65536).toInt32) hx hb dX6_go_298 rfl ?_
            obtain ⟨z58, hq54⟩ := gTe hq54
            obtain ⟨r58, er58, hq54⟩ := obn hq54
            refine ccr (rest := []) (st1 := [.ref r58.1]) S hX hM (metJ5_append l F D σ y4 ((r57.toUInt32 % 65536).toInt32) r58 er58) (ci_V (C := "java/lang/StringBuilder") (As := [.int ((r57.toUInt32 % 65536).toInt32)]) (rest := []) S q549 q550 q551 q552 hyJ5_append (HI.cell (ci := 15) hX hM (by decide) (by omega)) hlJ5_append rfl dX6_go_299) q552 q115 (Nat.le_of_ble_eq_true rfl) (Nat.le_of_ble_eq_true rfl) hl.1 (Nat.le_of_ble_eq_true rfl) rfl (fun H locs cs ss hM => ?_)
            refine lv_pop hx hb dX6_go_302 rfl ?_
            cases hq54
            exact hJq54 _ _ _ _ _ hM (lv_sub hl [1, 2, 0, 3] rfl)
      · intro hAq46
        refine cjnc (C := q46 = false) (I := HI D h0 σ s.heap) (nJ := 5) (lvJ := [(0, .ref y0), (2, .int y2), (4, .ref y4)]) (J := 268) (stJ := []) ?_ ?_
        · intro cq46 H locs cs ss ls hM hl
          have hF := ifn hF (by rw [cq46]; decide)
          refine lv_iconst (v := 1) hx hb dX6_go_268 rfl ?_
          refine lv_goto (tgt := 273) hx hb dX6_go_269 (by decide) ?_
          refine lv_istore_n (lv' := [(3, .int 1), (0, .ref y0), (2, .int y2), (4, .ref y4)]) hx hb dX6_go_273 rfl hl (by decide) rfl (fun ls hl => ?_)
          refine lv_aload_n hx hb dX6_go_274 rfl (lv_at hl 1 rfl) ?_
          obtain ⟨v69, ev69, hF⟩ := obn hF
          refine cgi S hX hM ev69 ck_5_7_3 q459 (fun _ h => h) dX6_go_275 ?_
          refine lv_aload_n hx hb dX6_go_278 rfl (lv_at hl 1 rfl) ?_
          obtain ⟨v70, ev70, hF⟩ := obn hF
          refine cgi S hX hM ev70 ck_5_7_5 q467 (fun _ h => h) dX6_go_279 ?_
          refine lv_isub hx hb dX6_go_282 ?_
          refine lv_bipush (v := 7) hx hb dX6_go_283 rfl ?_
          obtain ⟨q71, hq71, hF⟩ := obn hF
          refine cjn (I := HI D h0 q71 s.heap) (nJ := 5) (lvJ := [(0, .ref y0), (2, .int y2), (3, .int 1), (4, .ref y4)]) (J := 303) (stJ := []) ?_ ?_
          · intro H locs cs ss ls hM hl
            refine lv_aload_n hx hb dX6_go_303 rfl (lv_at hl 0 rfl) ?_
            obtain ⟨v76, ev76, hF⟩ := obn hF
            refine cgi S hX hM ev76 ck_5_7_3 q459 (fun _ h => h) dX6_go_304 ?_
            refine lv_aload_n hx hb dX6_go_307 rfl (lv_at hl 0 rfl) ?_
            obtain ⟨v77, ev77, hF⟩ := obn hF
            refine cgi S hX hM ev77 ck_5_7_5 q467 (fun _ h => h) dX6_go_308 ?_
            refine lv_isub hx hb dX6_go_311 ?_
            refine lv_iconst (v := 3) hx hb dX6_go_312 rfl ?_
            obtain ⟨q78, hq78, hF⟩ := obn hF
            refine cjn (I := HI D h0 q78 s.heap) (nJ := 5) (lvJ := [(0, .ref y0), (2, .int y2), (3, .int 1), (4, .ref y4)]) (J := 339) (stJ := []) ?_ ?_
            · intro H locs cs ss ls hM hl
              refine lv_aload_n hx hb dX6_go_339 rfl (lv_at hl 0 rfl) ?_
              refine lv_dup hx hb dX6_go_340 rfl ?_
              obtain ⟨v84, ev84, hF⟩ := obn hF
              refine cgi S hX hM ev84 ck_5_7_3 q459 (fun _ h => h) dX6_go_341 ?_
              refine lv_iconst (v := 1) hx hb dX6_go_344 rfl ?_
              refine lv_iadd hx hb dX6_go_345 ?_
              obtain ⟨σ85, eσ85, hF⟩ := obn hF
              refine cpi S hX hM eσ85 ck_5_7_3 cw_5_7_3 rfl rfl q459 (fun _ h => h) dX6_go_346 (fun H locs hM => ?_)
              refine lv_goto (tgt := 221) hx hb dX6_go_349 (by decide) ?_
              exact ih _ _ _ _ _ out hF hk _ _ _ _ _ hM (lv_sub hl [0, 1, 2, 3] rfl)
            · intro hJq78
              refine lv_icmp_ge (tgt := 339) hx hb dX6_go_313 (by decide) (fun c79 => ?_) (fun c79 => ?_)
              · have hq78 := ifp hq78 c79
                cases hq78
                exact hJq78 _ _ _ _ _ hM (lv_sub hl [0, 1, 2, 3] rfl)
              · have hq78 := ifn hq78 c79
                refine lv_aload_n hx hb dX6_go_316 rfl (lv_at hl 0 rfl) ?_
                refine lv_bipush (v := 10) hx hb dX6_go_317 rfl ?_
                refine lv_aload_n hx hb dX6_go_319 rfl (lv_at hl 0 rfl) ?_
                obtain ⟨v80, ev80, hq78⟩ := obn hq78
                refine cgi S hX hM ev80 ck_5_7_6 q468 (fun _ h => h) dX6_go_320 ?_
                refine lv_imul hx hb dX6_go_323 ?_
                refine lv_aload_n hx hb dX6_go_324 rfl (lv_at hl 0 rfl) ?_
                refine lv_aload_n hx hb dX6_go_325 rfl (lv_at hl 0 rfl) ?_
                obtain ⟨v81, ev81, hq78⟩ := obn hq78
                refine cgi S hX hM ev81 ck_5_7_3 q459 (fun _ h => h) dX6_go_326 ?_
                obtain ⟨z82, hq78⟩ := gTe hq78
                obtain ⟨r82, er82, hq78⟩ := obn hq78
                refine ccr (rest := [.int (10 * v80), .ref y0]) (st1 := [.int r82, .int (10 * v80), .ref y0]) S hX hM (metX6_byteAt l F D q71 y0 v81 r82 er82) (by
                      have ez : kT q71 y0 = 5 ∨ kT q71 y0 = 6 ∨ kT q71 y0 = 7 := by omega
                      rcases ez with ez | ez | ez
                      · exact ci_P (C := "RugReader$HouseReader") (As := [.int v81]) (rest := [.int (10 * v80), .ref y0]) S q508 q2320 q510 (uq509 hX) q511 hyX6_byteAt (HI.cell (ci := 4) hX hM (by decide) ez) hlX6_byteAt rfl dX6_go_329
                      · exact ci_P (C := "RugReader$WalkReader") (As := [.int v81]) (rest := [.int (10 * v80), .ref y0]) S q508 q2320 q510 (uq509 hX) q511 hyX6_byteAt (HI.cell (ci := 5) hX hM (by decide) ez) hlX6_byteAt rfl dX6_go_329
                      · exact ci_P (C := "RugReader$SentenceReader") (As := [.int v81]) (rest := [.int (10 * v80), .ref y0]) S q508 q2320 q510 (uq509 hX) q511 hyX6_byteAt (HI.cell (ci := 6) hX hM (by decide) ez) hlX6_byteAt rfl dX6_go_329) q511 q112 (Nat.le_of_ble_eq_true rfl) (Nat.le_of_ble_eq_true rfl) hl.1 (Nat.le_of_ble_eq_true rfl) rfl (fun H locs cs ss hM => ?_)
                refine lv_iadd hx hb dX6_go_332 ?_
                refine lv_bipush (v := 48) hx hb dX6_go_333 rfl ?_
                refine lv_isub hx hb dX6_go_335 ?_
                obtain ⟨σ83, eσ83, hq78⟩ := obn hq78
                refine cpi S hX hM eσ83 ck_5_7_6 cw_5_7_6 rfl rfl q468 (fun _ h => h) dX6_go_336 (fun H locs hM => ?_)
                cases hq78
                exact hJq78 _ _ _ _ _ hM (lv_sub hl [0, 1, 2, 3] rfl)
          · intro hJq71
            refine lv_icmp_ge (tgt := 303) hx hb dX6_go_285 (by decide) (fun c72 => ?_) (fun c72 => ?_)
            · have hq71 := ifp hq71 c72
              cases hq71
              exact hJq71 _ _ _ _ _ hM (lv_sub hl [1, 2, 0, 3] rfl)
            · have hq71 := ifn hq71 c72
              refine lv_aload hx hb dX6_go_288 (lv_at hl 3 rfl) ?_
              refine lv_aload_n hx hb dX6_go_290 rfl (lv_at hl 1 rfl) ?_
              refine lv_aload_n hx hb dX6_go_291 rfl (lv_at hl 1 rfl) ?_
              obtain ⟨v73, ev73, hq71⟩ := obn hq71
              refine cgi S hX hM ev73 ck_5_7_3 q459 (fun _ h => h) dX6_go_292 ?_
              obtain ⟨z74, hq71⟩ := gTe hq71
              obtain ⟨r74, er74, hq71⟩ := obn hq71
              refine ccr (rest := [.ref y4]) (st1 := [.int r74, .ref y4]) S hX hM (metX6_byteAt l F D σ y0 v73 r74 er74) (by
                    have ez : kT σ y0 = 5 ∨ kT σ y0 = 6 ∨ kT σ y0 = 7 := by omega
                    rcases ez with ez | ez | ez
                    · exact ci_P (C := "RugReader$HouseReader") (As := [.int v73]) (rest := [.ref y4]) S q508 q2320 q510 (uq509 hX) q511 hyX6_byteAt (HI.cell (ci := 4) hX hM (by decide) ez) hlX6_byteAt rfl dX6_go_295
                    · exact ci_P (C := "RugReader$WalkReader") (As := [.int v73]) (rest := [.ref y4]) S q508 q2320 q510 (uq509 hX) q511 hyX6_byteAt (HI.cell (ci := 5) hX hM (by decide) ez) hlX6_byteAt rfl dX6_go_295
                    · exact ci_P (C := "RugReader$SentenceReader") (As := [.int v73]) (rest := [.ref y4]) S q508 q2320 q510 (uq509 hX) q511 hyX6_byteAt (HI.cell (ci := 6) hX hM (by decide) ez) hlX6_byteAt rfl dX6_go_295) q511 q112 (Nat.le_of_ble_eq_true rfl) (Nat.le_of_ble_eq_true rfl) hl.1 (Nat.le_of_ble_eq_true rfl) rfl (fun H locs cs ss hM => ?_)
              refine lv_i2c (v := (r74.toUInt32 % 65536).toInt32) hx hb dX6_go_298 rfl ?_
              obtain ⟨z75, hq71⟩ := gTe hq71
              obtain ⟨r75, er75, hq71⟩ := obn hq71
              refine ccr (rest := []) (st1 := [.ref r75.1]) S hX hM (metJ5_append l F D σ y4 ((r74.toUInt32 % 65536).toInt32) r75 er75) (ci_V (C := "java/lang/StringBuilder") (As := [.int ((r74.toUInt32 % 65536).toInt32)]) (rest := []) S q549 q550 q551 q552 hyJ5_append (HI.cell (ci := 15) hX hM (by decide) (by omega)) hlJ5_append rfl dX6_go_299) q552 q115 (Nat.le_of_ble_eq_true rfl) (Nat.le_of_ble_eq_true rfl) hl.1 (Nat.le_of_ble_eq_true rfl) rfl (fun H locs cs ss hM => ?_)
              refine lv_pop hx hb dX6_go_302 rfl ?_
              cases hq71
              exact hJq71 _ _ _ _ _ hM (lv_sub hl [1, 2, 0, 3] rfl)
        · intro hBq46
          refine lv_if_eq (tgt := 272) hx hb dX6_go_250 (by decide) (fun c47 => ?_) (fun c47 => ?_)
          · have hq46 := ifp hq46 c47
            cases hq46
            exact hAq46 rfl _ _ _ _ _ hM (lv_sub hl [0, 1, 3] rfl)
          · have hq46 := ifn hq46 c47
            refine lv_aload_n hx hb dX6_go_253 rfl (lv_at hl 0 rfl) ?_
            refine lv_aload_n hx hb dX6_go_254 rfl (lv_at hl 0 rfl) ?_
            obtain ⟨v48, ev48, hq46⟩ := obn hq46
            refine cgi S hX hM ev48 ck_5_7_3 q459 (fun _ h => h) dX6_go_255 ?_
            obtain ⟨z49, hq46⟩ := gTe hq46
            obtain ⟨r49, er49, hq46⟩ := obn hq46
            refine ccr (rest := []) (st1 := [.int r49]) S hX hM (metX6_byteAt l F D σ y0 v48 r49 er49) (by
                  have ez : kT σ y0 = 5 ∨ kT σ y0 = 6 ∨ kT σ y0 = 7 := by omega
                  rcases ez with ez | ez | ez
                  · exact ci_P (C := "RugReader$HouseReader") (As := [.int v48]) (rest := []) S q508 q2320 q510 (uq509 hX) q511 hyX6_byteAt (HI.cell (ci := 4) hX hM (by decide) ez) hlX6_byteAt rfl dX6_go_258
                  · exact ci_P (C := "RugReader$WalkReader") (As := [.int v48]) (rest := []) S q508 q2320 q510 (uq509 hX) q511 hyX6_byteAt (HI.cell (ci := 5) hX hM (by decide) ez) hlX6_byteAt rfl dX6_go_258
                  · exact ci_P (C := "RugReader$SentenceReader") (As := [.int v48]) (rest := []) S q508 q2320 q510 (uq509 hX) q511 hyX6_byteAt (HI.cell (ci := 6) hX hM (by decide) ez) hlX6_byteAt rfl dX6_go_258) q511 q112 (Nat.le_of_ble_eq_true rfl) (Nat.le_of_ble_eq_true rfl) hl.1 (Nat.le_of_ble_eq_true rfl) rfl (fun H locs cs ss hM => ?_)
            refine ccr (rest := []) (st1 := [.int (fX6_isLetter r49)]) S hX hM (metX6_isLetter l D σ r49 _ rfl) (ci_S (As := [.int r49]) (rest := []) S q512 q513 q112 q514 hyX6_isLetter hlX6_isLetter rfl dX6_go_261) q514 q112 (Nat.le_of_ble_eq_true rfl) (Nat.le_of_ble_eq_true rfl) hl.1 (Nat.le_of_ble_eq_true rfl) rfl (fun H locs cs ss hM => ?_)
            refine lv_iload_n hx hb dX6_go_264 rfl (lv_at hl 1 rfl) ?_
            refine lv_icmp_ne (tgt := 272) hx hb dX6_go_265 (by decide) (fun c51 => ?_) (fun c51 => ?_)
            · have hq46 := ifn hq46 c51
              cases hq46
              exact hAq46 rfl _ _ _ _ _ hM (lv_sub hl [0, 1, 3] rfl)
            · have hq46 := ifp hq46 c51
              cases hq46
              exact hBq46 rfl _ _ _ _ _ hM (lv_sub hl [0, 1, 3] rfl)
    · intro hAq40
      refine cjnc (C := q40 = false) (I := HI D h0 σ s.heap) (nJ := 5) (lvJ := [(0, .ref y0), (2, .int y2), (3, .int y3), (4, .ref y4)]) (J := 352) (stJ := []) ?_ ?_
      · intro cq40 H locs cs ss ls hM hl
        have hF := ifn hF (by rw [cq40]; decide)
        cases hF
        exact hk _ _ _ _ _ hM (lv_sub hl [0, 1, 2, 3] rfl)
      · intro hBq40
        refine lv_if_ne (tgt := 249) hx hb dX6_go_232 (by decide) (fun c41 => ?_) (fun c41 => ?_)
        · have hq40 := ifn hq40 c41
          cases hq40
          exact hAq40 rfl _ _ _ _ _ hM (lv_sub hl [0, 1, 2, 3] rfl)
        · have hq40 := ifp hq40 c41
          refine lv_aload_n hx hb dX6_go_235 rfl (lv_at hl 0 rfl) ?_
          refine lv_aload_n hx hb dX6_go_236 rfl (lv_at hl 0 rfl) ?_
          obtain ⟨v42, ev42, hq40⟩ := obn hq40
          refine cgi S hX hM ev42 ck_5_7_3 q459 (fun _ h => h) dX6_go_237 ?_
          obtain ⟨z43, hq40⟩ := gTe hq40
          obtain ⟨r43, er43, hq40⟩ := obn hq40
          refine ccr (rest := []) (st1 := [.int r43]) S hX hM (metX6_byteAt l F D σ y0 v42 r43 er43) (by
                have ez : kT σ y0 = 5 ∨ kT σ y0 = 6 ∨ kT σ y0 = 7 := by omega
                rcases ez with ez | ez | ez
                · exact ci_P (C := "RugReader$HouseReader") (As := [.int v42]) (rest := []) S q508 q2320 q510 (uq509 hX) q511 hyX6_byteAt (HI.cell (ci := 4) hX hM (by decide) ez) hlX6_byteAt rfl dX6_go_240
                · exact ci_P (C := "RugReader$WalkReader") (As := [.int v42]) (rest := []) S q508 q2320 q510 (uq509 hX) q511 hyX6_byteAt (HI.cell (ci := 5) hX hM (by decide) ez) hlX6_byteAt rfl dX6_go_240
                · exact ci_P (C := "RugReader$SentenceReader") (As := [.int v42]) (rest := []) S q508 q2320 q510 (uq509 hX) q511 hyX6_byteAt (HI.cell (ci := 6) hX hM (by decide) ez) hlX6_byteAt rfl dX6_go_240) q511 q112 (Nat.le_of_ble_eq_true rfl) (Nat.le_of_ble_eq_true rfl) hl.1 (Nat.le_of_ble_eq_true rfl) rfl (fun H locs cs ss hM => ?_)
          refine ccr (rest := []) (st1 := [.int (fX6_isDigit r43)]) S hX hM (metX6_isDigit l D σ r43 _ rfl) (ci_S (As := [.int r43]) (rest := []) S q515 q516 q112 q517 hyX6_isDigit hlX6_isDigit rfl dX6_go_243) q517 q112 (Nat.le_of_ble_eq_true rfl) (Nat.le_of_ble_eq_true rfl) hl.1 (Nat.le_of_ble_eq_true rfl) rfl (fun H locs cs ss hM => ?_)
          refine lv_if_eq (tgt := 352) hx hb dX6_go_246 (by decide) (fun c45 => ?_) (fun c45 => ?_)
          · have hq40 := ifp hq40 c45
            cases hq40
            exact hBq40 rfl _ _ _ _ _ hM (lv_sub hl [0, 1, 2, 3] rfl)
          · have hq40 := ifn hq40 c45
            cases hq40
            exact hAq40 rfl _ _ _ _ _ hM (lv_sub hl [0, 1, 2, 3] rfl)
set_option maxHeartbeats 4000000 in
set_option maxRecDepth 100000 in
theorem metX6_go (l : Launch) [NoTr l] (F : Nat) (D : va_G) (h0 : HS) (x0 : Nat) (r : HS) (hF : fX6_go F h0 x0 = some r) : CMet l yX6_go (ws_ yX6_go cX6_go 5 none) 7 171 D [.ref x0] h0 r (.inr none) := by
  refine CMet.ofW (by decide) ?_
  intro p e s m below meth c s₁ B S hX hM hr hlocks hnt hin
  obtain ⟨hx, hb, hml, hown, hts⟩ := id S
  have hl := lv_entry ([.ref x0]) (n := 5) (Nat.le_of_ble_eq_true rfl)
  rw [lg_entry_eq]
  generalize (lg_sl ([.ref x0]) ++ List.replicate (5 - (lg_sl ([.ref x0])).length) Slot.unset).toArray = ls at hl ⊢
  have hl : lv_has ls 5 [(0, .ref x0)] := hl
  unfold fX6_go at hF
  obtain ⟨q13, hq13, hF⟩ := obn hF
  refine wlX6_go_0 S hX F  F _ _ q13 hq13 (fun H locs cs ss ls hM hl => ?_) _ _ _ _ _ hM (lv_sub hl [0] rfl)
  refine lv_aload_n hx hb dX6_go_50 rfl (lv_at hl 0 rfl) ?_
  refine lv_aload_n hx hb dX6_go_51 rfl (lv_at hl 0 rfl) ?_
  obtain ⟨v14, ev14, hF⟩ := obn hF
  refine cgi S hX hM ev14 ck_5_7_3 q459 (fun _ h => h) dX6_go_52 ?_
  obtain ⟨σ15, eσ15, hF⟩ := obn hF
  refine cpi S hX hM eσ15 ck_5_7_5 cw_5_7_5 rfl rfl q467 (fun _ h => h) dX6_go_55 (fun H locs hM => ?_)
  refine lv_aload_n hx hb dX6_go_58 rfl (lv_at hl 0 rfl) ?_
  obtain ⟨v16, ev16, hF⟩ := obn hF
  refine cgi S hX hM ev16 ck_5_7_1 q457 (fun _ h => h) dX6_go_59 ?_
  refine lv_aload_n hx hb dX6_go_62 rfl (lv_at hl 0 rfl) ?_
  obtain ⟨v17, ev17, hF⟩ := obn hF
  refine cgi S hX hM ev17 ck_5_7_2 q458 (fun _ h => h) dX6_go_63 ?_
  obtain ⟨q18, hq18, hF⟩ := obn hF
  refine cjnc (C := q18 = true) (I := HI D h0 σ15 s.heap) (nJ := 5) (lvJ := [(0, .ref x0)]) (J := 94) (stJ := []) ?_ ?_
  · intro cq18 H locs cs ss ls hM hl
    have hF := ifp hF cq18
    refine lv_aload_n hx hb dX6_go_94 rfl (lv_at hl 0 rfl) ?_
    obtain ⟨v23, ev23, hF⟩ := obn hF
    refine cgi S hX hM ev23 ck_5_7_3 q459 (fun _ h => h) dX6_go_95 ?_
    refine lv_aload_n hx hb dX6_go_98 rfl (lv_at hl 0 rfl) ?_
    obtain ⟨v24, ev24, hF⟩ := obn hF
    refine cgi S hX hM ev24 ck_5_7_1 q457 (fun _ h => h) dX6_go_99 ?_
    refine lv_icmp_lt (tgt := 111) hx hb dX6_go_102 (by decide) (fun c25 => ?_) (fun c25 => ?_)
    · have hF := ifp hF c25
      refine lv_aload_n hx hb dX6_go_111 rfl (lv_at hl 0 rfl) ?_
      refine lv_aload_n hx hb dX6_go_112 rfl (lv_at hl 0 rfl) ?_
      obtain ⟨v26, ev26, hF⟩ := obn hF
      refine cgi S hX hM ev26 ck_5_7_3 q459 (fun _ h => h) dX6_go_113 ?_
      obtain ⟨z27, hF⟩ := gTe hF
      obtain ⟨r27, er27, hF⟩ := obn hF
      refine ccr (rest := []) (st1 := [.int r27]) S hX hM (metX6_byteAt l F D σ15 x0 v26 r27 er27) (by
            have ez : kT σ15 x0 = 5 ∨ kT σ15 x0 = 6 ∨ kT σ15 x0 = 7 := by omega
            rcases ez with ez | ez | ez
            · exact ci_P (C := "RugReader$HouseReader") (As := [.int v26]) (rest := []) S q508 q2320 q510 (uq509 hX) q511 hyX6_byteAt (HI.cell (ci := 4) hX hM (by decide) ez) hlX6_byteAt rfl dX6_go_116
            · exact ci_P (C := "RugReader$WalkReader") (As := [.int v26]) (rest := []) S q508 q2320 q510 (uq509 hX) q511 hyX6_byteAt (HI.cell (ci := 5) hX hM (by decide) ez) hlX6_byteAt rfl dX6_go_116
            · exact ci_P (C := "RugReader$SentenceReader") (As := [.int v26]) (rest := []) S q508 q2320 q510 (uq509 hX) q511 hyX6_byteAt (HI.cell (ci := 6) hX hM (by decide) ez) hlX6_byteAt rfl dX6_go_116) q511 q112 (Nat.le_of_ble_eq_true rfl) (Nat.le_of_ble_eq_true rfl) hl.1 (Nat.le_of_ble_eq_true rfl) rfl (fun H locs cs ss hM => ?_)
      refine lv_istore_n (lv' := [(1, .int r27), (0, .ref x0)]) hx hb dX6_go_119 rfl hl (by decide) rfl (fun ls hl => ?_)
      refine lv_iload_n hx hb dX6_go_120 rfl (lv_at hl 0 rfl) ?_
      refine ccr (rest := []) (st1 := [.int (fX6_isLetter r27)]) S hX hM (metX6_isLetter l D σ15 r27 _ rfl) (ci_S (As := [.int r27]) (rest := []) S q512 q513 q112 q514 hyX6_isLetter hlX6_isLetter rfl dX6_go_121) q514 q112 (Nat.le_of_ble_eq_true rfl) (Nat.le_of_ble_eq_true rfl) hl.1 (Nat.le_of_ble_eq_true rfl) rfl (fun H locs cs ss hM => ?_)
      obtain ⟨q29, hq29, hF⟩ := lte hF
      refine cjnc (C := q29 = true) (I := HI D h0 σ15 s.heap) (nJ := 5) (lvJ := [(0, .ref x0), (1, .int r27)]) (J := 200) (stJ := []) ?_ ?_
      · intro cq29 H locs cs ss ls hM hl
        have hF := ifp hF cq29
        refine lv_iload_n hx hb dX6_go_200 rfl (lv_at hl 1 rfl) ?_
        refine ccr (rest := []) (st1 := [.int (fX6_isLetter r27)]) S hX hM (metX6_isLetter l D σ15 r27 _ rfl) (ci_S (As := [.int r27]) (rest := []) S q512 q513 q112 q514 hyX6_isLetter hlX6_isLetter rfl dX6_go_201) q514 q112 (Nat.le_of_ble_eq_true rfl) (Nat.le_of_ble_eq_true rfl) hl.1 (Nat.le_of_ble_eq_true rfl) rfl (fun H locs cs ss hM => ?_)
        refine lv_istore_n (lv' := [(2, .int (fX6_isLetter r27)), (0, .ref x0), (1, .int r27)]) hx hb dX6_go_204 rfl hl (by decide) rfl (fun ls hl => ?_)
        refine lv_iconst (v := 1) hx hb dX6_go_205 rfl ?_
        refine lv_istore_n (lv' := [(3, .int 1), (2, .int (fX6_isLetter r27)), (0, .ref x0), (1, .int r27)]) hx hb dX6_go_206 rfl hl (by decide) rfl (fun ls hl => ?_)
        refine lv_aload_n hx hb dX6_go_207 rfl (lv_at hl 2 rfl) ?_
        refine lv_iconst (v := 0) hx hb dX6_go_208 rfl ?_
        obtain ⟨σ34, eσ34, hF⟩ := obn hF
        refine cpi S hX hM eσ34 ck_5_7_6 cw_5_7_6 rfl rfl q468 (fun _ h => h) dX6_go_209 (fun H locs hM => ?_)
        obtain ⟨r35, er35, hF⟩ := obn hF
        refine cno (ci := 15) S hX hM er35 (by decide) q518 q519 q115 dX6_go_212 (fun H cs ss hM => ?_)
        refine lv_dup hx hb dX6_go_215 rfl ?_
        obtain ⟨r36, er36, hF⟩ := obn hF
        refine ccr (rest := [.ref r35.1]) (st1 := [.ref r35.1]) S hX hM (metJ5_init l F D r35.2 r35.1 r36 er36) (ci_I (As := []) (rest := [.ref r35.1]) S rfl q520 q521 q522 hyJ5_init hlJ5_init rfl dX6_go_216) q522 q115 (Nat.le_of_ble_eq_true rfl) (Nat.le_of_ble_eq_true rfl) hl.1 (Nat.le_of_ble_eq_true rfl) rfl (fun H locs cs ss hM => ?_)
        refine lv_astore (lv' := [(4, .ref r35.1), (3, .int 1), (2, .int (fX6_isLetter r27)), (0, .ref x0), (1, .int r27)]) hx hb dX6_go_219 hl (by decide) rfl (fun ls hl => ?_)
        obtain ⟨q86, hq86, hF⟩ := obn hF
        refine wlX6_go_221 S hX F  F _ _ _ _ _ q86 hq86 (fun H locs cs ss ls hM hl => ?_) _ _ _ _ _ hM (lv_sub hl [3, 2, 1, 0] rfl)
        refine lv_aload_n hx hb dX6_go_352 rfl (lv_at hl 0 rfl) ?_
        refine lv_aload hx hb dX6_go_353 (lv_at hl 3 rfl) ?_
        obtain ⟨z87, hF⟩ := gTe hF
        obtain ⟨r87, er87, hF⟩ := obn hF
        refine ccr (rest := [.ref x0]) (st1 := [.ref r87.1, .ref x0]) S hX hM (metJ5_toString l F D q86.1 r35.1 r87 er87) (ci_V (C := "java/lang/StringBuilder") (As := []) (rest := [.ref x0]) S q644 q645 q646 q647 hyJ5_toString (HI.cell (ci := 15) hX hM (by decide) (by omega)) hlJ5_toString rfl dX6_go_355) q647 q115 (Nat.le_of_ble_eq_true rfl) (Nat.le_of_ble_eq_true rfl) hl.1 (Nat.le_of_ble_eq_true rfl) rfl (fun H locs cs ss hM => ?_)
        obtain ⟨σ88, eσ88, hF⟩ := obn hF
        refine cpr (v := (some r87.1)) S hX hM eσ88 ck_5_7_8 cw_5_7_8 rfl q472 (fun _ h => h) dX6_go_358 (fun H locs hM => ?_)
        refine lv_aload_n hx hb dX6_go_361 rfl (lv_at hl 0 rfl) ?_
        refine lv_iload_n hx hb dX6_go_362 rfl (lv_at hl 2 rfl) ?_
        refine lv_if_eq (tgt := 388) hx hb dX6_go_363 (by decide) (fun c89 => ?_) (fun c89 => ?_)
        · have hF := ifp hF c89
          refine lv_iconst (v := 1) hx hb dX6_go_388 rfl ?_
          refine lv_goto (tgt := 401) hx hb dX6_go_389 (by decide) ?_
          obtain ⟨σ90, eσ90, hF⟩ := obn hF
          refine cpi S hX hM eσ90 ck_5_7_4 cw_5_7_4 rfl rfl q466 (fun _ h => h) dX6_go_401 (fun H locs hM => ?_)
          have hz := (Option.some.inj hF)
          subst hz
          exact crv S hM hr hlocks dX6_go_404
        · have hF := ifn hF c89
          refine lv_aload_n hx hb dX6_go_366 rfl (lv_at hl 0 rfl) ?_
          obtain ⟨v91, ev91, hF⟩ := obn hF
          refine cgi S hX hM ev91 ck_5_7_3 q459 (fun _ h => h) dX6_go_367 ?_
          refine lv_aload_n hx hb dX6_go_370 rfl (lv_at hl 0 rfl) ?_
          obtain ⟨v92, ev92, hF⟩ := obn hF
          refine cgi S hX hM ev92 ck_5_7_5 q467 (fun _ h => h) dX6_go_371 ?_
          refine lv_isub hx hb dX6_go_374 ?_
          refine lv_iload_n hx hb dX6_go_375 rfl (lv_at hl 1 rfl) ?_
          refine lv_if_eq (tgt := 384) hx hb dX6_go_376 (by decide) (fun c93 => ?_) (fun c93 => ?_)
          · have hF := ifp hF c93
            refine lv_iconst (v := 3) hx hb dX6_go_384 rfl ?_
            refine lv_icmp_le (tgt := 392) hx hb dX6_go_385 (by decide) (fun c94 => ?_) (fun c94 => ?_)
            · have hF := ifp hF c94
              refine lv_iload_n hx hb dX6_go_392 rfl (lv_at hl 1 rfl) ?_
              refine lv_if_eq (tgt := 400) hx hb dX6_go_393 (by decide) (fun c95 => ?_) (fun c95 => ?_)
              · have hF := ifp hF c95
                refine lv_iconst (v := 3) hx hb dX6_go_400 rfl ?_
                obtain ⟨σ96, eσ96, hF⟩ := obn hF
                refine cpi S hX hM eσ96 ck_5_7_4 cw_5_7_4 rfl rfl q466 (fun _ h => h) dX6_go_401 (fun H locs hM => ?_)
                have hz := (Option.some.inj hF)
                subst hz
                exact crv S hM hr hlocks dX6_go_404
              · have hF := ifn hF c95
                refine lv_iconst (v := 2) hx hb dX6_go_396 rfl ?_
                refine lv_goto (tgt := 401) hx hb dX6_go_397 (by decide) ?_
                obtain ⟨σ97, eσ97, hF⟩ := obn hF
                refine cpi S hX hM eσ97 ck_5_7_4 cw_5_7_4 rfl rfl q466 (fun _ h => h) dX6_go_401 (fun H locs hM => ?_)
                have hz := (Option.some.inj hF)
                subst hz
                exact crv S hM hr hlocks dX6_go_404
            · have hF := ifn hF c94
              refine lv_iconst (v := 1) hx hb dX6_go_388 rfl ?_
              refine lv_goto (tgt := 401) hx hb dX6_go_389 (by decide) ?_
              obtain ⟨σ98, eσ98, hF⟩ := obn hF
              refine cpi S hX hM eσ98 ck_5_7_4 cw_5_7_4 rfl rfl q466 (fun _ h => h) dX6_go_401 (fun H locs hM => ?_)
              have hz := (Option.some.inj hF)
              subst hz
              exact crv S hM hr hlocks dX6_go_404
          · have hF := ifn hF c93
            refine lv_bipush (v := 7) hx hb dX6_go_379 rfl ?_
            refine lv_goto (tgt := 385) hx hb dX6_go_381 (by decide) ?_
            refine lv_icmp_le (tgt := 392) hx hb dX6_go_385 (by decide) (fun c99 => ?_) (fun c99 => ?_)
            · have hF := ifp hF c99
              refine lv_iload_n hx hb dX6_go_392 rfl (lv_at hl 1 rfl) ?_
              refine lv_if_eq (tgt := 400) hx hb dX6_go_393 (by decide) (fun c100 => ?_) (fun c100 => ?_)
              · have hF := ifp hF c100
                refine lv_iconst (v := 3) hx hb dX6_go_400 rfl ?_
                obtain ⟨σ101, eσ101, hF⟩ := obn hF
                refine cpi S hX hM eσ101 ck_5_7_4 cw_5_7_4 rfl rfl q466 (fun _ h => h) dX6_go_401 (fun H locs hM => ?_)
                have hz := (Option.some.inj hF)
                subst hz
                exact crv S hM hr hlocks dX6_go_404
              · have hF := ifn hF c100
                refine lv_iconst (v := 2) hx hb dX6_go_396 rfl ?_
                refine lv_goto (tgt := 401) hx hb dX6_go_397 (by decide) ?_
                obtain ⟨σ102, eσ102, hF⟩ := obn hF
                refine cpi S hX hM eσ102 ck_5_7_4 cw_5_7_4 rfl rfl q466 (fun _ h => h) dX6_go_401 (fun H locs hM => ?_)
                have hz := (Option.some.inj hF)
                subst hz
                exact crv S hM hr hlocks dX6_go_404
            · have hF := ifn hF c99
              refine lv_iconst (v := 1) hx hb dX6_go_388 rfl ?_
              refine lv_goto (tgt := 401) hx hb dX6_go_389 (by decide) ?_
              obtain ⟨σ103, eσ103, hF⟩ := obn hF
              refine cpi S hX hM eσ103 ck_5_7_4 cw_5_7_4 rfl rfl q466 (fun _ h => h) dX6_go_401 (fun H locs hM => ?_)
              have hz := (Option.some.inj hF)
              subst hz
              exact crv S hM hr hlocks dX6_go_404
      · intro hAq29
        refine cjnc (C := q29 = false) (I := HI D h0 σ15 s.heap) (nJ := 5) (lvJ := [(0, .ref x0), (1, .int r27)]) (J := 134) (stJ := []) ?_ ?_
        · intro cq29 H locs cs ss ls hM hl
          have hF := ifn hF (by rw [cq29]; decide)
          refine lv_aload_n hx hb dX6_go_134 rfl (lv_at hl 0 rfl) ?_
          refine lv_iload_n hx hb dX6_go_135 rfl (lv_at hl 1 rfl) ?_
          refine lv_bipush (v := 59) hx hb dX6_go_136 rfl ?_
          refine lv_icmp_ne (tgt := 145) hx hb dX6_go_138 (by decide) (fun c104 => ?_) (fun c104 => ?_)
          · have hF := ifn hF c104
            refine lv_iload_n hx hb dX6_go_145 rfl (lv_at hl 1 rfl) ?_
            refine lv_bipush (v := 60) hx hb dX6_go_146 rfl ?_
            obtain ⟨q105, hq105, hF⟩ := lte hF
            refine cjnc (C := q105 = true) (I := HI D h0 σ15 s.heap) (nJ := 5) (lvJ := [(0, .ref x0), (1, .int r27)]) (J := 175) (stJ := [.ref x0]) ?_ ?_
            · intro cq105 H locs cs ss ls hM hl
              have hF := ifp hF cq105
              refine lv_bipush (v := 6) hx hb dX6_go_175 rfl ?_
              refine lv_goto (tgt := 181) hx hb dX6_go_177 (by decide) ?_
              obtain ⟨σ108, eσ108, hF⟩ := obn hF
              refine cpi S hX hM eσ108 ck_5_7_4 cw_5_7_4 rfl rfl q466 (fun _ h => h) dX6_go_181 (fun H locs hM => ?_)
              refine lv_aload_n hx hb dX6_go_184 rfl (lv_at hl 0 rfl) ?_
              refine lv_iload_n hx hb dX6_go_185 rfl (lv_at hl 1 rfl) ?_
              obtain ⟨σ109, eσ109, hF⟩ := obn hF
              refine cpi S hX hM eσ109 ck_5_7_7 cw_5_7_7 rfl rfl q469 (fun _ h => h) dX6_go_186 (fun H locs hM => ?_)
              refine lv_aload_n hx hb dX6_go_189 rfl (lv_at hl 0 rfl) ?_
              refine lv_dup hx hb dX6_go_190 rfl ?_
              obtain ⟨v110, ev110, hF⟩ := obn hF
              refine cgi S hX hM ev110 ck_5_7_3 q459 (fun _ h => h) dX6_go_191 ?_
              refine lv_iconst (v := 1) hx hb dX6_go_194 rfl ?_
              refine lv_iadd hx hb dX6_go_195 ?_
              obtain ⟨σ111, eσ111, hF⟩ := obn hF
              refine cpi S hX hM eσ111 ck_5_7_3 cw_5_7_3 rfl rfl q459 (fun _ h => h) dX6_go_196 (fun H locs hM => ?_)
              have hz := (Option.some.inj hF)
              subst hz
              exact crv S hM hr hlocks dX6_go_199
            · intro hAq105
              refine cjnc (C := q105 = false) (I := HI D h0 σ15 s.heap) (nJ := 5) (lvJ := [(0, .ref x0), (1, .int r27)]) (J := 157) (stJ := [.ref x0]) ?_ ?_
              · intro cq105 H locs cs ss ls hM hl
                have hF := ifn hF (by rw [cq105]; decide)
                refine lv_iload_n hx hb dX6_go_157 rfl (lv_at hl 1 rfl) ?_
                refine lv_bipush (v := 62) hx hb dX6_go_158 rfl ?_
                obtain ⟨q112, hq112, hF⟩ := lte hF
                refine cjnc (C := q112 = true) (I := HI D h0 σ15 s.heap) (nJ := 5) (lvJ := [(0, .ref x0), (1, .int r27)]) (J := 175) (stJ := [.ref x0]) ?_ ?_
                · intro cq112 H locs cs ss ls hM hl
                  have hF := ifp hF cq112
                  refine lv_bipush (v := 6) hx hb dX6_go_175 rfl ?_
                  refine lv_goto (tgt := 181) hx hb dX6_go_177 (by decide) ?_
                  obtain ⟨σ115, eσ115, hF⟩ := obn hF
                  refine cpi S hX hM eσ115 ck_5_7_4 cw_5_7_4 rfl rfl q466 (fun _ h => h) dX6_go_181 (fun H locs hM => ?_)
                  refine lv_aload_n hx hb dX6_go_184 rfl (lv_at hl 0 rfl) ?_
                  refine lv_iload_n hx hb dX6_go_185 rfl (lv_at hl 1 rfl) ?_
                  obtain ⟨σ116, eσ116, hF⟩ := obn hF
                  refine cpi S hX hM eσ116 ck_5_7_7 cw_5_7_7 rfl rfl q469 (fun _ h => h) dX6_go_186 (fun H locs hM => ?_)
                  refine lv_aload_n hx hb dX6_go_189 rfl (lv_at hl 0 rfl) ?_
                  refine lv_dup hx hb dX6_go_190 rfl ?_
                  obtain ⟨v117, ev117, hF⟩ := obn hF
                  refine cgi S hX hM ev117 ck_5_7_3 q459 (fun _ h => h) dX6_go_191 ?_
                  refine lv_iconst (v := 1) hx hb dX6_go_194 rfl ?_
                  refine lv_iadd hx hb dX6_go_195 ?_
                  obtain ⟨σ118, eσ118, hF⟩ := obn hF
                  refine cpi S hX hM eσ118 ck_5_7_3 cw_5_7_3 rfl rfl q459 (fun _ h => h) dX6_go_196 (fun H locs hM => ?_)
                  have hz := (Option.some.inj hF)
                  subst hz
                  exact crv S hM hr hlocks dX6_go_199
                · intro hAq112
                  refine cjnc (C := q112 = false) (I := HI D h0 σ15 s.heap) (nJ := 5) (lvJ := [(0, .ref x0), (1, .int r27)]) (J := 169) (stJ := [.ref x0]) ?_ ?_
                  · intro cq112 H locs cs ss ls hM hl
                    have hF := ifn hF (by rw [cq112]; decide)
                    refine lv_iload_n hx hb dX6_go_169 rfl (lv_at hl 1 rfl) ?_
                    refine lv_bipush (v := 41) hx hb dX6_go_170 rfl ?_
                    refine lv_icmp_ne (tgt := 180) hx hb dX6_go_172 (by decide) (fun c119 => ?_) (fun c119 => ?_)
                    · have hF := ifn hF c119
                      refine lv_iconst (v := 1) hx hb dX6_go_180 rfl ?_
                      obtain ⟨σ120, eσ120, hF⟩ := obn hF
                      refine cpi S hX hM eσ120 ck_5_7_4 cw_5_7_4 rfl rfl q466 (fun _ h => h) dX6_go_181 (fun H locs hM => ?_)
                      refine lv_aload_n hx hb dX6_go_184 rfl (lv_at hl 0 rfl) ?_
                      refine lv_iload_n hx hb dX6_go_185 rfl (lv_at hl 1 rfl) ?_
                      obtain ⟨σ121, eσ121, hF⟩ := obn hF
                      refine cpi S hX hM eσ121 ck_5_7_7 cw_5_7_7 rfl rfl q469 (fun _ h => h) dX6_go_186 (fun H locs hM => ?_)
                      refine lv_aload_n hx hb dX6_go_189 rfl (lv_at hl 0 rfl) ?_
                      refine lv_dup hx hb dX6_go_190 rfl ?_
                      obtain ⟨v122, ev122, hF⟩ := obn hF
                      refine cgi S hX hM ev122 ck_5_7_3 q459 (fun _ h => h) dX6_go_191 ?_
                      refine lv_iconst (v := 1) hx hb dX6_go_194 rfl ?_
                      refine lv_iadd hx hb dX6_go_195 ?_
                      obtain ⟨σ123, eσ123, hF⟩ := obn hF
                      refine cpi S hX hM eσ123 ck_5_7_3 cw_5_7_3 rfl rfl q459 (fun _ h => h) dX6_go_196 (fun H locs hM => ?_)
                      have hz := (Option.some.inj hF)
                      subst hz
                      exact crv S hM hr hlocks dX6_go_199
                    · have hF := ifp hF c119
                      refine lv_bipush (v := 6) hx hb dX6_go_175 rfl ?_
                      refine lv_goto (tgt := 181) hx hb dX6_go_177 (by decide) ?_
                      obtain ⟨σ124, eσ124, hF⟩ := obn hF
                      refine cpi S hX hM eσ124 ck_5_7_4 cw_5_7_4 rfl rfl q466 (fun _ h => h) dX6_go_181 (fun H locs hM => ?_)
                      refine lv_aload_n hx hb dX6_go_184 rfl (lv_at hl 0 rfl) ?_
                      refine lv_iload_n hx hb dX6_go_185 rfl (lv_at hl 1 rfl) ?_
                      obtain ⟨σ125, eσ125, hF⟩ := obn hF
                      refine cpi S hX hM eσ125 ck_5_7_7 cw_5_7_7 rfl rfl q469 (fun _ h => h) dX6_go_186 (fun H locs hM => ?_)
                      refine lv_aload_n hx hb dX6_go_189 rfl (lv_at hl 0 rfl) ?_
                      refine lv_dup hx hb dX6_go_190 rfl ?_
                      obtain ⟨v126, ev126, hF⟩ := obn hF
                      refine cgi S hX hM ev126 ck_5_7_3 q459 (fun _ h => h) dX6_go_191 ?_
                      refine lv_iconst (v := 1) hx hb dX6_go_194 rfl ?_
                      refine lv_iadd hx hb dX6_go_195 ?_
                      obtain ⟨σ127, eσ127, hF⟩ := obn hF
                      refine cpi S hX hM eσ127 ck_5_7_3 cw_5_7_3 rfl rfl q459 (fun _ h => h) dX6_go_196 (fun H locs hM => ?_)
                      have hz := (Option.some.inj hF)
                      subst hz
                      exact crv S hM hr hlocks dX6_go_199
                  · intro hBq112
                    refine lv_icmp_eq (tgt := 175) hx hb dX6_go_160 (by decide) (fun c113 => ?_) (fun c113 => ?_)
                    · have hq112 := ifp hq112 c113
                      subst hq112
                      exact hAq112 rfl _ _ _ _ _ hM (lv_sub hl [0, 1] rfl)
                    · have hq112 := ifn hq112 c113
                      refine lv_iload_n hx hb dX6_go_163 rfl (lv_at hl 1 rfl) ?_
                      refine lv_bipush (v := 40) hx hb dX6_go_164 rfl ?_
                      refine lv_icmp_eq (tgt := 175) hx hb dX6_go_166 (by decide) (fun c114 => ?_) (fun c114 => ?_)
                      · have hq112 := ifp hq112 c114
                        subst hq112
                        exact hAq112 rfl _ _ _ _ _ hM (lv_sub hl [0, 1] rfl)
                      · have hq112 := ifn hq112 c114
                        subst hq112
                        exact hBq112 rfl _ _ _ _ _ hM (lv_sub hl [0, 1] rfl)
              · intro hBq105
                refine lv_icmp_eq (tgt := 175) hx hb dX6_go_148 (by decide) (fun c106 => ?_) (fun c106 => ?_)
                · have hq105 := ifp hq105 c106
                  subst hq105
                  exact hAq105 rfl _ _ _ _ _ hM (lv_sub hl [0, 1] rfl)
                · have hq105 := ifn hq105 c106
                  refine lv_iload_n hx hb dX6_go_151 rfl (lv_at hl 1 rfl) ?_
                  refine lv_bipush (v := 61) hx hb dX6_go_152 rfl ?_
                  refine lv_icmp_eq (tgt := 175) hx hb dX6_go_154 (by decide) (fun c107 => ?_) (fun c107 => ?_)
                  · have hq105 := ifp hq105 c107
                    subst hq105
                    exact hAq105 rfl _ _ _ _ _ hM (lv_sub hl [0, 1] rfl)
                  · have hq105 := ifn hq105 c107
                    subst hq105
                    exact hBq105 rfl _ _ _ _ _ hM (lv_sub hl [0, 1] rfl)
          · have hF := ifp hF c104
            refine lv_iconst (v := 4) hx hb dX6_go_141 rfl ?_
            refine lv_goto (tgt := 181) hx hb dX6_go_142 (by decide) ?_
            obtain ⟨σ128, eσ128, hF⟩ := obn hF
            refine cpi S hX hM eσ128 ck_5_7_4 cw_5_7_4 rfl rfl q466 (fun _ h => h) dX6_go_181 (fun H locs hM => ?_)
            refine lv_aload_n hx hb dX6_go_184 rfl (lv_at hl 0 rfl) ?_
            refine lv_iload_n hx hb dX6_go_185 rfl (lv_at hl 1 rfl) ?_
            obtain ⟨σ129, eσ129, hF⟩ := obn hF
            refine cpi S hX hM eσ129 ck_5_7_7 cw_5_7_7 rfl rfl q469 (fun _ h => h) dX6_go_186 (fun H locs hM => ?_)
            refine lv_aload_n hx hb dX6_go_189 rfl (lv_at hl 0 rfl) ?_
            refine lv_dup hx hb dX6_go_190 rfl ?_
            obtain ⟨v130, ev130, hF⟩ := obn hF
            refine cgi S hX hM ev130 ck_5_7_3 q459 (fun _ h => h) dX6_go_191 ?_
            refine lv_iconst (v := 1) hx hb dX6_go_194 rfl ?_
            refine lv_iadd hx hb dX6_go_195 ?_
            obtain ⟨σ131, eσ131, hF⟩ := obn hF
            refine cpi S hX hM eσ131 ck_5_7_3 cw_5_7_3 rfl rfl q459 (fun _ h => h) dX6_go_196 (fun H locs hM => ?_)
            have hz := (Option.some.inj hF)
            subst hz
            exact crv S hM hr hlocks dX6_go_199
        · intro hBq29
          refine lv_if_ne (tgt := 200) hx hb dX6_go_124 (by decide) (fun c30 => ?_) (fun c30 => ?_)
          · have hq29 := ifn hq29 c30
            subst hq29
            exact hAq29 rfl _ _ _ _ _ hM (lv_sub hl [1, 0] rfl)
          · have hq29 := ifp hq29 c30
            refine lv_iload_n hx hb dX6_go_127 rfl (lv_at hl 0 rfl) ?_
            refine ccr (rest := []) (st1 := [.int (fX6_isDigit r27)]) S hX hM (metX6_isDigit l D σ15 r27 _ rfl) (ci_S (As := [.int r27]) (rest := []) S q515 q516 q112 q517 hyX6_isDigit hlX6_isDigit rfl dX6_go_128) q517 q112 (Nat.le_of_ble_eq_true rfl) (Nat.le_of_ble_eq_true rfl) hl.1 (Nat.le_of_ble_eq_true rfl) rfl (fun H locs cs ss hM => ?_)
            refine lv_if_ne (tgt := 200) hx hb dX6_go_131 (by decide) (fun c32 => ?_) (fun c32 => ?_)
            · have hq29 := ifn hq29 c32
              subst hq29
              exact hAq29 rfl _ _ _ _ _ hM (lv_sub hl [1, 0] rfl)
            · have hq29 := ifp hq29 c32
              subst hq29
              exact hBq29 rfl _ _ _ _ _ hM (lv_sub hl [1, 0] rfl)
    · have hF := ifn hF c25
      refine lv_aload_n hx hb dX6_go_105 rfl (lv_at hl 0 rfl) ?_
      refine lv_iconst (v := 0) hx hb dX6_go_106 rfl ?_
      obtain ⟨σ132, eσ132, hF⟩ := obn hF
      refine cpi S hX hM eσ132 ck_5_7_4 cw_5_7_4 rfl rfl q466 (fun _ h => h) dX6_go_107 (fun H locs hM => ?_)
      have hz := (Option.some.inj hF)
      subst hz
      exact crv S hM hr hlocks dX6_go_110
  · intro hAq18
    refine cjnc (C := q18 = false) (I := HI D h0 σ15 s.heap) (nJ := 5) (lvJ := [(0, .ref x0)]) (J := 80) (stJ := []) ?_ ?_
    · intro cq18 H locs cs ss ls hM hl
      have hF := ifn hF (by rw [cq18]; decide)
      refine lv_aload_n hx hb dX6_go_80 rfl (lv_at hl 0 rfl) ?_
      refine lv_aload_n hx hb dX6_go_81 rfl (lv_at hl 0 rfl) ?_
      obtain ⟨v133, ev133, hF⟩ := obn hF
      refine cgi S hX hM ev133 ck_5_7_2 q458 (fun _ h => h) dX6_go_82 ?_
      obtain ⟨σ134, eσ134, hF⟩ := obn hF
      refine cpi S hX hM eσ134 ck_5_7_5 cw_5_7_5 rfl rfl q467 (fun _ h => h) dX6_go_85 (fun H locs hM => ?_)
      refine lv_aload_n hx hb dX6_go_88 rfl (lv_at hl 0 rfl) ?_
      refine lv_iconst (v := 5) hx hb dX6_go_89 rfl ?_
      obtain ⟨σ135, eσ135, hF⟩ := obn hF
      refine cpi S hX hM eσ135 ck_5_7_4 cw_5_7_4 rfl rfl q466 (fun _ h => h) dX6_go_90 (fun H locs hM => ?_)
      have hz := (Option.some.inj hF)
      subst hz
      exact crv S hM hr hlocks dX6_go_93
    · intro hBq18
      refine lv_icmp_le (tgt := 94) hx hb dX6_go_66 (by decide) (fun c19 => ?_) (fun c19 => ?_)
      · have hq18 := ifp hq18 c19
        cases hq18
        exact hAq18 rfl _ _ _ _ _ hM (lv_sub hl [0] rfl)
      · have hq18 := ifn hq18 c19
        refine lv_aload_n hx hb dX6_go_69 rfl (lv_at hl 0 rfl) ?_
        obtain ⟨v20, ev20, hq18⟩ := obn hq18
        refine cgi S hX hM ev20 ck_5_7_5 q467 (fun _ h => h) dX6_go_70 ?_
        refine lv_aload_n hx hb dX6_go_73 rfl (lv_at hl 0 rfl) ?_
        obtain ⟨v21, ev21, hq18⟩ := obn hq18
        refine cgi S hX hM ev21 ck_5_7_2 q458 (fun _ h => h) dX6_go_74 ?_
        refine lv_icmp_lt (tgt := 94) hx hb dX6_go_77 (by decide) (fun c22 => ?_) (fun c22 => ?_)
        · have hq18 := ifp hq18 c22
          cases hq18
          exact hAq18 rfl _ _ _ _ _ hM (lv_sub hl [0] rfl)
        · have hq18 := ifn hq18 c22
          cases hq18
          exact hBq18 rfl _ _ _ _ _ hM (lv_sub hl [0] rfl)
def lJ10_equals_9 (F : Nat) (σ : HS) : Nat → Nat → Nat → Int32 → Option ((Unit) ⊕ (Int32))
  | 0, _, _, _ => none
  | n + 1, y0, y1, y2 => ((aL σ y0 32 32).bind fun v4 => (if v4 ≤ y2 then (some (.inl ())) else ((aI σ y0 32 y2).bind fun v6 => ((aI σ y1 32 y2).bind fun v7 => (if v6 = v7 then (lJ10_equals_9 F σ n y0 y1 (y2 + 1)) else (some (.inr 0)))))))
def fJ10_equals (F : Nat) (h0 : HS) (x0 : Nat) (x1 : Nat) : Option (Int32) := ((aL h0 x0 32 32).bind fun v1 => ((aL h0 x1 32 32).bind fun v2 => (if v1 = v2 then (osm (lJ10_equals_9 F h0 F x0 x1 0) id fun q9 => some 1) else (some 0))))
theorem hyJ10_equals : yJ10_equals.cls ≠ "java/lang/invoke/MethodHandle" ∧ yJ10_equals.cls ≠ "java/lang/invoke/VarHandle" := by decide +kernel
theorem hlJ10_equals : (parseMethodDescriptor yJ10_equals.desc).map (fun d => d.parameters.length) = some 2 := by decide +kernel
set_option maxHeartbeats 4000000 in
set_option maxRecDepth 100000 in
theorem wlJ10_equals_9 {p : Program} {l : Launch} [NoTr l] {e : Env} {s : State} {m : MethodId} {args : Array Value} {below : List Frame} {meth : Method} {c : Code} {D : va_G} {h0 : HS} (S : CallFix p m c cJ10_equals 3 s args lw_all RJ10) (hX : CX D (kG h0) s) (σ : HS) (hr : meth.sig.returnType = (some .boolean)) (hlocks : meth.locks = false) (hnt : ∀ x ∈ c.exceptionTable.toList, False) (F : Nat) (res : Int32) : ∀ (n : Nat) (y0 : Nat) (y1 : Nat) (y2 : Int32) (out : (Unit) ⊕ (Int32)), lJ10_equals_9 F σ n y0 y1 y2 = some out → (∀ v, out = .inr v → v = res) → (∀ o, out = .inl o → ∀ (H : Heap) (locs : List Loc) (cs ss : Nat) (ls : Array Slot), HI D h0 σ s.heap H locs cs ss → lv_has ls 3 [] → W p l e (cR 0 0 h0) s m args below meth c H locs cs ss (cMQ below D h0 σ (.inr (some (.int res))) args s) (F0 m 32 ls [])) → ∀ (H : Heap) (locs : List Loc) (cs ss : Nat) (ls : Array Slot), HI D h0 σ s.heap H locs cs ss → lv_has ls 3 [(0, .ref y0), (1, .ref y1), (2, .int y2)] → W p l e (cR 0 0 h0) s m args below meth c H locs cs ss (cMQ below D h0 σ (.inr (some (.int res))) args s) (F0 m 9 ls []) := by
  intro n
  induction n with
  | zero =>
    intro y0 y1 y2 out hF
    cases (show (none : Option _) = some out from hF)
  | succ n ih =>
    intro y0 y1 y2 out hF hv hk H locs cs ss ls hM hl
    rw [lJ10_equals_9] at hF
    obtain ⟨hx, hb, hml, hown, hts⟩ := id S
    refine lv_iload_n hx hb dJ10_equals_9 rfl (lv_at hl 2 rfl) ?_
    refine lv_aload_n hx hb dJ10_equals_10 rfl (lv_at hl 0 rfl) ?_
    obtain ⟨v4, ev4, hF⟩ := obn hF
    refine cal S hX hM ev4 (by decide) (by decide) dJ10_equals_11 ?_
    refine lv_icmp_ge (tgt := 32) hx hb dJ10_equals_12 (by decide) (fun c5 => ?_) (fun c5 => ?_)
    · have hF := ifp hF c5
      cases hF
      exact hk _ rfl _ _ _ _ _ hM (lv_sub hl [] rfl)
    · have hF := ifn hF c5
      refine lv_aload_n hx hb dJ10_equals_15 rfl (lv_at hl 0 rfl) ?_
      refine lv_iload_n hx hb dJ10_equals_16 rfl (lv_at hl 2 rfl) ?_
      obtain ⟨v6, ev6, hF⟩ := obn hF
      refine cab S hX hM ev6 dJ10_equals_17 ?_
      refine lv_aload_n hx hb dJ10_equals_18 rfl (lv_at hl 1 rfl) ?_
      refine lv_iload_n hx hb dJ10_equals_19 rfl (lv_at hl 2 rfl) ?_
      obtain ⟨v7, ev7, hF⟩ := obn hF
      refine cab S hX hM ev7 dJ10_equals_20 ?_
      refine lv_icmp_eq (tgt := 26) hx hb dJ10_equals_21 (by decide) (fun c8 => ?_) (fun c8 => ?_)
      · have hF := ifp hF c8
        refine lv_iinc (v := y2 + 1) (lv' := [(2, .int (y2 + 1)), (0, .ref y0), (1, .ref y1)]) hx hb dJ10_equals_26 hl (k := 2) rfl rfl (by decide) rfl (fun ls hl => ?_)
        refine lv_goto (tgt := 9) hx hb dJ10_equals_29 (by decide) ?_
        exact ih _ _ _ out hF hv hk _ _ _ _ _ hM (lv_sub hl [1, 2, 0] rfl)
      · have hF := ifn hF c8
        refine lv_iconst (v := 0) hx hb dJ10_equals_24 rfl ?_
        have hz := (hv _ ((Option.some.inj hF)).symm)
        subst hz
        exact crz S hM hr hlocks (gBn gB0) dJ10_equals_25
set_option maxHeartbeats 4000000 in
set_option maxRecDepth 100000 in
theorem metJ10_equals (l : Launch) [NoTr l] (F : Nat) (D : va_G) (h0 : HS) (x0 : Nat) (x1 : Nat) (r : Int32) (hF : fJ10_equals F h0 x0 x1 = some r) : CMet l yJ10_equals (ws_ yJ10_equals cJ10_equals 3 (some .boolean)) 0 0 D [.ref x0, .ref x1] h0 h0 (.inr (some (.int r))) := by
  refine CMet.ofW (by decide) ?_
  intro p e s m below meth c s₁ B S hX hM hr hlocks hnt hin
  obtain ⟨hx, hb, hml, hown, hts⟩ := id S
  have hl := lv_entry ([.ref x0, .ref x1]) (n := 3) (Nat.le_of_ble_eq_true rfl)
  rw [lg_entry_eq]
  generalize (lg_sl ([.ref x0, .ref x1]) ++ List.replicate (3 - (lg_sl ([.ref x0, .ref x1])).length) Slot.unset).toArray = ls at hl ⊢
  have hl : lv_has ls 3 [(0, .ref x0), (1, .ref x1)] := hl
  unfold fJ10_equals at hF
  refine lv_aload_n hx hb dJ10_equals_0 rfl (lv_at hl 0 rfl) ?_
  obtain ⟨v1, ev1, hF⟩ := obn hF
  refine cal S hX hM ev1 (by decide) (by decide) dJ10_equals_1 ?_
  refine lv_aload_n hx hb dJ10_equals_2 rfl (lv_at hl 1 rfl) ?_
  obtain ⟨v2, ev2, hF⟩ := obn hF
  refine cal S hX hM ev2 (by decide) (by decide) dJ10_equals_3 ?_
  refine lv_icmp_ne (tgt := 34) hx hb dJ10_equals_4 (by decide) (fun c3 => ?_) (fun c3 => ?_)
  · have hF := ifn hF c3
    refine lv_iconst (v := 0) hx hb dJ10_equals_34 rfl ?_
    have hz := (Option.some.inj hF)
    subst hz
    exact crz S hM hr hlocks (gBn gB0) dJ10_equals_35
  · have hF := ifp hF c3
    refine lv_iconst (v := 0) hx hb dJ10_equals_7 rfl ?_
    refine lv_istore_n (lv' := [(2, .int 0), (0, .ref x0), (1, .ref x1)]) hx hb dJ10_equals_8 rfl hl (by decide) rfl (fun ls hl => ?_)
    obtain ⟨oq9, hq9, h1q9, h2q9⟩ := osx hF
    refine wlJ10_equals_9 S hX _ hr hlocks hnt F _  F _ _ _ oq9 hq9 (fun v e => (h2q9 v e)) (fun q9 eq9 H locs cs ss ls hM hl => ?_) _ _ _ _ _ hM (lv_sub hl [1, 2, 0] rfl)
    have hF := h1q9 _ eq9
    refine lv_iconst (v := 1) hx hb dJ10_equals_32 rfl ?_
    have hz := (Option.some.inj hF)
    subst hz
    exact crz S hM hr hlocks (gBn gB1) dJ10_equals_33
def fJ6_equals (F : Nat) (h0 : HS) (x0 : Nat) (x1 : Nat) : Option (Int32) := (if (some x0 : Option Nat) = some x1 then (some 1) else (gT h0 x1 17 17 (gT h0 x1 17 17 (((oI h0 x0 17 17 1).bind fun v7 => ((oI h0 x1 17 17 1).bind fun v8 => (if v7 = v8 then ((fR h0 x0 17 17 0).bind fun a10 => ((fR h0 x1 17 17 0).bind fun a11 => ((fJ10_equals F h0 a10 a11).bind fun r12 => (if r12 = 0 then (some 0) else (some 1))))) else (some 0))))))))
theorem hyJ6_equals : yJ6_equals.cls ≠ "java/lang/invoke/MethodHandle" ∧ yJ6_equals.cls ≠ "java/lang/invoke/VarHandle" := by decide +kernel
theorem hlJ6_equals : (parseMethodDescriptor yJ6_equals.desc).map (fun d => d.parameters.length) = some 1 := by decide +kernel
set_option maxHeartbeats 4000000 in
set_option maxRecDepth 100000 in
theorem metJ6_equals (l : Launch) [NoTr l] (F : Nat) (D : va_G) (h0 : HS) (x0 : Nat) (x1 : Nat) (r : Int32) (hF : fJ6_equals F h0 x0 x1 = some r) : CMet l yJ6_equals (ws_ yJ6_equals cJ6_equals 3 (some .boolean)) 1 22 D [.ref x0, .ref x1] h0 h0 (.inr (some (.int r))) := by
  refine CMet.ofW (by decide) ?_
  intro p e s m below meth c s₁ B S hX hM hr hlocks hnt hin
  obtain ⟨hx, hb, hml, hown, hts⟩ := id S
  have hl := lv_entry ([.ref x0, .ref x1]) (n := 3) (Nat.le_of_ble_eq_true rfl)
  rw [lg_entry_eq]
  generalize (lg_sl ([.ref x0, .ref x1]) ++ List.replicate (3 - (lg_sl ([.ref x0, .ref x1])).length) Slot.unset).toArray = ls at hl ⊢
  have hl : lv_has ls 3 [(0, .ref x0), (1, .ref x1)] := hl
  unfold fJ6_equals at hF
  refine lv_aload_n hx hb dJ6_equals_0 rfl (lv_at hl 0 rfl) ?_
  refine lv_aload_n hx hb dJ6_equals_1 rfl (lv_at hl 1 rfl) ?_
  refine lv_acmp_ne (rx := some x0) (ry := some x1) (tgt := 7) hx hb dJ6_equals_2 (by decide) (fun c1 => ?_) (fun c1 => ?_)
  · have hF := ifn hF c1
    refine lv_aload_n hx hb dJ6_equals_7 rfl (lv_at hl 1 rfl) ?_
    obtain ⟨z2, hF⟩ := gTe hF
    refine ccis (ci := 16) S hX hM (by decide) (by omega) q720 dJ6_equals_8 ?_
    refine lv_if_eq (tgt := 54) hx hb dJ6_equals_11 (by decide) (fun c3 => ?_) (fun c3 => ?_)
    · exact absurd c3 (by decide)
    · refine lv_aload_n hx hb dJ6_equals_14 rfl (lv_at hl 1 rfl) ?_
      obtain ⟨z4, hF⟩ := gTe hF
      refine ccs (ci := 16) S hX hM (by decide) (by omega) q720 dJ6_equals_15 ?_
      refine lv_astore_n (lv' := [(2, .ref x1), (0, .ref x0), (1, .ref x1)]) hx hb dJ6_equals_18 rfl hl (by decide) rfl (fun ls hl => ?_)
      refine cst (ref := "") S hM (ust3 hX) q680 dJ6_equals_19 ?_
      refine lv_if_eq (tgt := 36) hx hb dJ6_equals_22 (by decide) (fun c6 => ?_) (fun c6 => ?_)
      · exact absurd c6 (by decide)
      · refine lv_aload_n hx hb dJ6_equals_25 rfl (lv_at hl 1 rfl) ?_
        obtain ⟨v7, ev7, hF⟩ := obn hF
        refine cgi S hX hM ev7 ck_17_17_1 q695 (fun _ h => h) dJ6_equals_26 ?_
        refine lv_aload_n hx hb dJ6_equals_29 rfl (lv_at hl 0 rfl) ?_
        obtain ⟨v8, ev8, hF⟩ := obn hF
        refine cgi S hX hM ev8 ck_17_17_1 q695 (fun _ h => h) dJ6_equals_30 ?_
        refine lv_icmp_ne (tgt := 54) hx hb dJ6_equals_33 (by decide) (fun c9 => ?_) (fun c9 => ?_)
        · have hF := ifn hF c9
          refine lv_iconst (v := 0) hx hb dJ6_equals_54 rfl ?_
          have hz := (Option.some.inj hF)
          subst hz
          exact crz S hM hr hlocks (gBn gB0) dJ6_equals_55
        · have hF := ifp hF c9
          refine lv_aload_n hx hb dJ6_equals_36 rfl (lv_at hl 1 rfl) ?_
          obtain ⟨a10, ea10, hF⟩ := obn hF
          refine cgn S hX hM ea10 ck_17_17_0 q694 (fun _ h => h) dJ6_equals_37 ?_
          refine lv_aload_n hx hb dJ6_equals_40 rfl (lv_at hl 0 rfl) ?_
          obtain ⟨a11, ea11, hF⟩ := obn hF
          refine cgn S hX hM ea11 ck_17_17_0 q694 (fun _ h => h) dJ6_equals_41 ?_
          obtain ⟨r12, er12, hF⟩ := obn hF
          refine ccr (rest := []) (st1 := [.int r12]) S hX hM (metJ10_equals l F D h0 a10 a11 r12 er12) (ci_S (As := [.ref a10, .ref a11]) (rest := []) S q721 q722 q121 q723 hyJ10_equals hlJ10_equals rfl dJ6_equals_44) q723 q121 (Nat.le_of_ble_eq_true rfl) (Nat.le_of_ble_eq_true rfl) hl.1 (Nat.le_of_ble_eq_true rfl) rfl (fun H locs cs ss hM => ?_)
          refine lv_if_eq (tgt := 54) hx hb dJ6_equals_47 (by decide) (fun c13 => ?_) (fun c13 => ?_)
          · have hF := ifp hF c13
            refine lv_iconst (v := 0) hx hb dJ6_equals_54 rfl ?_
            have hz := (Option.some.inj hF)
            subst hz
            exact crz S hM hr hlocks (gBn gB0) dJ6_equals_55
          · have hF := ifn hF c13
            refine lv_iconst (v := 1) hx hb dJ6_equals_50 rfl ?_
            refine lv_goto (tgt := 55) hx hb dJ6_equals_51 (by decide) ?_
            have hz := (Option.some.inj hF)
            subst hz
            exact crz S hM hr hlocks (gBn gB1) dJ6_equals_55
  · have hF := ifp hF c1
    refine lv_iconst (v := 1) hx hb dJ6_equals_5 rfl ?_
    have hz := (Option.some.inj hF)
    subst hz
    exact crz S hM hr hlocks (gBn gB1) dJ6_equals_6
def fX6_is (F : Nat) (h0 : HS) (x0 : Nat) (x1 : Nat) : Option (Int32) := ((oI h0 x0 5 7 4).bind fun v1 => (if v1 = 2 then ((fR h0 x0 5 7 8).bind fun a3 => gT h0 a3 17 17 (((fJ6_equals F h0 a3 x1).bind fun r4 => (if r4 = 0 then (some 0) else (some 1))))) else (some 0)))
theorem hyX6_is : yX6_is.cls ≠ "java/lang/invoke/MethodHandle" ∧ yX6_is.cls ≠ "java/lang/invoke/VarHandle" := by decide +kernel
theorem hlX6_is : (parseMethodDescriptor yX6_is.desc).map (fun d => d.parameters.length) = some 1 := by decide +kernel
set_option maxHeartbeats 4000000 in
set_option maxRecDepth 100000 in
theorem metX6_is (l : Launch) [NoTr l] (F : Nat) (D : va_G) (h0 : HS) (x0 : Nat) (x1 : Nat) (r : Int32) (hF : fX6_is F h0 x0 x1 = some r) : CMet l yX6_is (ws_ yX6_is cX6_is 2 (some .boolean)) 2 44 D [.ref x0, .ref x1] h0 h0 (.inr (some (.int r))) := by
  refine CMet.ofW (by decide) ?_
  intro p e s m below meth c s₁ B S hX hM hr hlocks hnt hin
  obtain ⟨hx, hb, hml, hown, hts⟩ := id S
  have hl := lv_entry ([.ref x0, .ref x1]) (n := 2) (Nat.le_of_ble_eq_true rfl)
  rw [lg_entry_eq]
  generalize (lg_sl ([.ref x0, .ref x1]) ++ List.replicate (2 - (lg_sl ([.ref x0, .ref x1])).length) Slot.unset).toArray = ls at hl ⊢
  have hl : lv_has ls 2 [(0, .ref x0), (1, .ref x1)] := hl
  unfold fX6_is at hF
  refine lv_aload_n hx hb dX6_is_0 rfl (lv_at hl 0 rfl) ?_
  obtain ⟨v1, ev1, hF⟩ := obn hF
  refine cgi S hX hM ev1 ck_5_7_4 q466 (fun _ h => h) dX6_is_1 ?_
  refine lv_iconst (v := 2) hx hb dX6_is_4 rfl ?_
  refine lv_icmp_ne (tgt := 23) hx hb dX6_is_5 (by decide) (fun c2 => ?_) (fun c2 => ?_)
  · have hF := ifn hF c2
    refine lv_iconst (v := 0) hx hb dX6_is_23 rfl ?_
    have hz := (Option.some.inj hF)
    subst hz
    exact crz S hM hr hlocks (gBn gB0) dX6_is_24
  · have hF := ifp hF c2
    refine lv_aload_n hx hb dX6_is_8 rfl (lv_at hl 0 rfl) ?_
    obtain ⟨a3, ea3, hF⟩ := obn hF
    refine cgn S hX hM ea3 ck_5_7_8 q472 (fun _ h => h) dX6_is_9 ?_
    refine lv_aload_n hx hb dX6_is_12 rfl (lv_at hl 1 rfl) ?_
    obtain ⟨z4, hF⟩ := gTe hF
    obtain ⟨r4, er4, hF⟩ := obn hF
    refine ccr (rest := []) (st1 := [.int r4]) S hX hM (metJ6_equals l F D h0 a3 x1 r4 er4) (ci_V (C := "java/lang/String") (As := [.ref x1]) (rest := []) S q716 q717 q718 q719 hyJ6_equals (HI.cell (ci := 16) hX hM (by decide) (by omega)) hlJ6_equals rfl dX6_is_13) q719 q116 (Nat.le_of_ble_eq_true rfl) (Nat.le_of_ble_eq_true rfl) hl.1 (Nat.le_of_ble_eq_true rfl) rfl (fun H locs cs ss hM => ?_)
    refine lv_if_eq (tgt := 23) hx hb dX6_is_16 (by decide) (fun c5 => ?_) (fun c5 => ?_)
    · have hF := ifp hF c5
      refine lv_iconst (v := 0) hx hb dX6_is_23 rfl ?_
      have hz := (Option.some.inj hF)
      subst hz
      exact crz S hM hr hlocks (gBn gB0) dX6_is_24
    · have hF := ifn hF c5
      refine lv_iconst (v := 1) hx hb dX6_is_19 rfl ?_
      refine lv_goto (tgt := 24) hx hb dX6_is_20 (by decide) ?_
      have hz := (Option.some.inj hF)
      subst hz
      exact crz S hM hr hlocks (gBn gB1) dX6_is_24
def fX1_isOf (x0 : Int32) (x1 : Int32) : Int32 := (if ((x0 >>> (x1 &&& 31)) &&& 1) = 1 then 1 else 0)
theorem hyX1_isOf : yX1_isOf.cls ≠ "java/lang/invoke/MethodHandle" ∧ yX1_isOf.cls ≠ "java/lang/invoke/VarHandle" := by decide +kernel
theorem hlX1_isOf : (parseMethodDescriptor yX1_isOf.desc).map (fun d => d.parameters.length) = some 2 := by decide +kernel
set_option maxHeartbeats 4000000 in
set_option maxRecDepth 100000 in
theorem metX1_isOf (l : Launch) [NoTr l] (D : va_G) (h0 : HS) (x0 : Int32) (x1 : Int32) (r : Int32) (hF : fX1_isOf x0 x1 = r) : CMet l yX1_isOf (ws_ yX1_isOf cX1_isOf 2 (some .boolean)) 0 0 D [.int x0, .int x1] h0 h0 (.inr (some (.int r))) := by
  refine CMet.ofW (by decide) ?_
  intro p e s m below meth c s₁ B S hX hM hr hlocks hnt hin
  obtain ⟨hx, hb, hml, hown, hts⟩ := id S
  have hl := lv_entry ([.int x0, .int x1]) (n := 2) (Nat.le_of_ble_eq_true rfl)
  rw [lg_entry_eq]
  generalize (lg_sl ([.int x0, .int x1]) ++ List.replicate (2 - (lg_sl ([.int x0, .int x1])).length) Slot.unset).toArray = ls at hl ⊢
  have hl : lv_has ls 2 [(0, .int x0), (1, .int x1)] := hl
  unfold fX1_isOf at hF
  refine lv_iload_n hx hb dX1_isOf_0 rfl (lv_at hl 0 rfl) ?_
  refine lv_iload_n hx hb dX1_isOf_1 rfl (lv_at hl 1 rfl) ?_
  refine lv_ishr hx hb dX1_isOf_2 ?_
  refine lv_iconst (v := 1) hx hb dX1_isOf_3 rfl ?_
  refine lv_iand hx hb dX1_isOf_4 ?_
  refine lv_iconst (v := 1) hx hb dX1_isOf_5 rfl ?_
  refine lv_icmp_ne (tgt := 13) hx hb dX1_isOf_6 (by decide) (fun c1 => ?_) (fun c1 => ?_)
  · have hF := ifn hF c1
    refine lv_iconst (v := 0) hx hb dX1_isOf_13 rfl ?_
    have hz := hF
    subst hz
    exact crz S hM hr hlocks (gBn gB0) dX1_isOf_14
  · have hF := ifp hF c1
    refine lv_iconst (v := 1) hx hb dX1_isOf_9 rfl ?_
    refine lv_goto (tgt := 14) hx hb dX1_isOf_10 (by decide) ?_
    have hz := hF
    subst hz
    exact crz S hM hr hlocks (gBn gB1) dX1_isOf_14
def fX6_need (F : Nat) (h0 : HS) (x0 : Nat) (x1 : Int32) (x2 : Int32) : Option ((Nat ⊕ Unit) × HS) := (if x1 = 0 then ((nO h0 20 8).bind fun r2 => ((oI r2.2 x0 5 7 4).bind fun v3 => ((if v3 = 1 then (some true) else ((oI r2.2 x0 5 7 4).bind fun v6 => (if v6 = 5 then (some true) else (some false)))).bind fun q4 => (if q4 = true then ((oI r2.2 x0 5 7 5).bind fun v8 => ((fX8_init F r2.2 r2.1 1 v8).bind fun r9 => some (.inl r2.1, r9))) else ((oI r2.2 x0 5 7 5).bind fun v11 => ((fX8_init F r2.2 r2.1 x2 v11).bind fun r12 => some (.inl r2.1, r12))))))) else (some (.inr (), h0)))
theorem hyX6_need : yX6_need.cls ≠ "java/lang/invoke/MethodHandle" ∧ yX6_need.cls ≠ "java/lang/invoke/VarHandle" := by decide +kernel
theorem hlX6_need : (parseMethodDescriptor yX6_need.desc).map (fun d => d.parameters.length) = some 2 := by decide +kernel
set_option maxHeartbeats 4000000 in
set_option maxRecDepth 100000 in
theorem metX6_need (l : Launch) [NoTr l] (F : Nat) (D : va_G) (h0 : HS) (x0 : Nat) (x1 : Int32) (x2 : Int32) (r : (Nat ⊕ Unit) × HS) (hF : fX6_need F h0 x0 x1 x2 = some r) : CMet l yX6_need (ws_ yX6_need cX6_need 3 none) 9 222 D [.ref x0, .int x1, .int x2] h0 r.2 (xv r.1) := by
  refine CMet.ofW (by decide) ?_
  intro p e s m below meth c s₁ B S hX hM hr hlocks hnt hin
  obtain ⟨hx, hb, hml, hown, hts⟩ := id S
  have hl := lv_entry ([.ref x0, .int x1, .int x2]) (n := 3) (Nat.le_of_ble_eq_true rfl)
  rw [lg_entry_eq]
  generalize (lg_sl ([.ref x0, .int x1, .int x2]) ++ List.replicate (3 - (lg_sl ([.ref x0, .int x1, .int x2])).length) Slot.unset).toArray = ls at hl ⊢
  have hl : lv_has ls 3 [(0, .ref x0), (1, .int x1), (2, .int x2)] := hl
  unfold fX6_need at hF
  refine lv_iload_n hx hb dX6_need_0 rfl (lv_at hl 1 rfl) ?_
  refine lv_if_ne (tgt := 37) hx hb dX6_need_1 (by decide) (fun c1 => ?_) (fun c1 => ?_)
  · have hF := ifn hF c1
    have hz := (Option.some.inj hF)
    subst hz
    exact crv S hM hr hlocks dX6_need_37
  · have hF := ifp hF c1
    obtain ⟨r2, er2, hF⟩ := obn hF
    refine cno (ci := 19) S hX hM er2 (by decide) q741 q742 q125 dX6_need_4 (fun H cs ss hM => ?_)
    refine lv_dup hx hb dX6_need_7 rfl ?_
    refine lv_aload_n hx hb dX6_need_8 rfl (lv_at hl 0 rfl) ?_
    obtain ⟨v3, ev3, hF⟩ := obn hF
    refine cgi S hX hM ev3 ck_5_7_4 q466 (fun _ h => h) dX6_need_9 ?_
    refine lv_iconst (v := 1) hx hb dX6_need_12 rfl ?_
    obtain ⟨q4, hq4, hF⟩ := obn hF
    refine cjnc (C := q4 = true) (I := HI D h0 r2.2 s.heap) (nJ := 3) (lvJ := [(0, .ref x0)]) (J := 24) (stJ := [.ref r2.1, .ref r2.1]) ?_ ?_
    · intro cq4 H locs cs ss ls hM hl
      have hF := ifp hF cq4
      refine lv_iconst (v := 1) hx hb dX6_need_24 rfl ?_
      refine lv_goto (tgt := 29) hx hb dX6_need_25 (by decide) ?_
      refine lv_aload_n hx hb dX6_need_29 rfl (lv_at hl 0 rfl) ?_
      obtain ⟨v8, ev8, hF⟩ := obn hF
      refine cgi S hX hM ev8 ck_5_7_5 q467 (fun _ h => h) dX6_need_30 ?_
      obtain ⟨r9, er9, hF⟩ := obn hF
      refine ccr (rest := [.ref r2.1]) (st1 := [.ref r2.1]) S hX hM (metX8_init l F D r2.2 r2.1 1 v8 r9 er9) (ci_I (As := [.int 1, .int v8]) (rest := [.ref r2.1]) S rfl q779 q780 q781 hyX8_init hlX8_init rfl dX6_need_33) q781 q125 (Nat.le_of_ble_eq_true rfl) (Nat.le_of_ble_eq_true rfl) hl.1 (Nat.le_of_ble_eq_true rfl) rfl (fun H locs cs ss hM => ?_)
      refine cathrow S dX6_need_36 ?_
      have hz := (Option.some.inj hF)
      subst hz
      exact cxout hM (fun x hx => (hnt x hx).elim) hlocks
    · intro hAq4
      refine cjnc (C := q4 = false) (I := HI D h0 r2.2 s.heap) (nJ := 3) (lvJ := [(0, .ref x0), (2, .int x2)]) (J := 28) (stJ := [.ref r2.1, .ref r2.1]) ?_ ?_
      · intro cq4 H locs cs ss ls hM hl
        have hF := ifn hF (by rw [cq4]; decide)
        refine lv_iload_n hx hb dX6_need_28 rfl (lv_at hl 1 rfl) ?_
        refine lv_aload_n hx hb dX6_need_29 rfl (lv_at hl 0 rfl) ?_
        obtain ⟨v11, ev11, hF⟩ := obn hF
        refine cgi S hX hM ev11 ck_5_7_5 q467 (fun _ h => h) dX6_need_30 ?_
        obtain ⟨r12, er12, hF⟩ := obn hF
        refine ccr (rest := [.ref r2.1]) (st1 := [.ref r2.1]) S hX hM (metX8_init l F D r2.2 r2.1 x2 v11 r12 er12) (ci_I (As := [.int x2, .int v11]) (rest := [.ref r2.1]) S rfl q779 q780 q781 hyX8_init hlX8_init rfl dX6_need_33) q781 q125 (Nat.le_of_ble_eq_true rfl) (Nat.le_of_ble_eq_true rfl) hl.1 (Nat.le_of_ble_eq_true rfl) rfl (fun H locs cs ss hM => ?_)
        refine cathrow S dX6_need_36 ?_
        have hz := (Option.some.inj hF)
        subst hz
        exact cxout hM (fun x hx => (hnt x hx).elim) hlocks
      · intro hBq4
        refine lv_icmp_eq (tgt := 24) hx hb dX6_need_13 (by decide) (fun c5 => ?_) (fun c5 => ?_)
        · have hq4 := ifp hq4 c5
          cases hq4
          exact hAq4 rfl _ _ _ _ _ hM (lv_sub hl [0] rfl)
        · have hq4 := ifn hq4 c5
          refine lv_aload_n hx hb dX6_need_16 rfl (lv_at hl 0 rfl) ?_
          obtain ⟨v6, ev6, hq4⟩ := obn hq4
          refine cgi S hX hM ev6 ck_5_7_4 q466 (fun _ h => h) dX6_need_17 ?_
          refine lv_iconst (v := 5) hx hb dX6_need_20 rfl ?_
          refine lv_icmp_ne (tgt := 28) hx hb dX6_need_21 (by decide) (fun c7 => ?_) (fun c7 => ?_)
          · have hq4 := ifn hq4 c7
            cases hq4
            exact hBq4 rfl _ _ _ _ _ hM (lv_sub hl [0, 2] rfl)
          · have hq4 := ifp hq4 c7
            cases hq4
            exact hAq4 rfl _ _ _ _ _ hM (lv_sub hl [0] rfl)
def fX7_once (F : Nat) (h0 : HS) (x0 : Nat) (x1 : Int32) : Option ((Nat ⊕ Unit) × HS) := ((oI h0 x0 5 5 10).bind fun v1 => (if (fX1_isOf v1 x1) = 0 then (gT h0 x0 5 5 (((fX6_need F h0 x0 1 3).bind fun r8 => thr r8.1 (fun b8 => some (.inl b8, r8.2)) fun w8 => ((oI r8.2 x0 5 5 10).bind fun v9 => ((pI r8.2 x0 5 5 10 (v9 ||| (1 <<< (x1 &&& 31)))).bind fun σ10 => gT σ10 x0 5 5 (((fX6_go F σ10 x0).bind fun r11 => some (.inr (), r11)))))))) else (gT h0 x0 5 5 (((fX6_need F h0 x0 0 3).bind fun r4 => thr r4.1 (fun b4 => some (.inl b4, r4.2)) fun w4 => ((oI r4.2 x0 5 5 10).bind fun v5 => ((pI r4.2 x0 5 5 10 (v5 ||| (1 <<< (x1 &&& 31)))).bind fun σ6 => gT σ6 x0 5 5 (((fX6_go F σ6 x0).bind fun r7 => some (.inr (), r7))))))))))
theorem hyX7_once : yX7_once.cls ≠ "java/lang/invoke/MethodHandle" ∧ yX7_once.cls ≠ "java/lang/invoke/VarHandle" := by decide +kernel
theorem hlX7_once : (parseMethodDescriptor yX7_once.desc).map (fun d => d.parameters.length) = some 1 := by decide +kernel
set_option maxHeartbeats 4000000 in
set_option maxRecDepth 100000 in
theorem metX7_once (l : Launch) [NoTr l] (F : Nat) (D : va_G) (h0 : HS) (x0 : Nat) (x1 : Int32) (r : (Nat ⊕ Unit) × HS) (hF : fX7_once F h0 x0 x1 = some r) : CMet l yX7_once (ws_ yX7_once cX7_once 2 none) 10 244 D [.ref x0, .int x1] h0 r.2 (xv r.1) := by
  refine CMet.ofW (by decide) ?_
  intro p e s m below meth c s₁ B S hX hM hr hlocks hnt hin
  obtain ⟨hx, hb, hml, hown, hts⟩ := id S
  have hl := lv_entry ([.ref x0, .int x1]) (n := 2) (Nat.le_of_ble_eq_true rfl)
  rw [lg_entry_eq]
  generalize (lg_sl ([.ref x0, .int x1]) ++ List.replicate (2 - (lg_sl ([.ref x0, .int x1])).length) Slot.unset).toArray = ls at hl ⊢
  have hl : lv_has ls 2 [(0, .ref x0), (1, .int x1)] := hl
  unfold fX7_once at hF
  refine lv_aload_n hx hb dX7_once_0 rfl (lv_at hl 0 rfl) ?_
  refine lv_aload_n hx hb dX7_once_1 rfl (lv_at hl 0 rfl) ?_
  obtain ⟨v1, ev1, hF⟩ := obn hF
  refine cgi S hX hM ev1 ck_5_5_10 q455 (fun _ h => h) dX7_once_2 ?_
  refine lv_iload_n hx hb dX7_once_5 rfl (lv_at hl 1 rfl) ?_
  refine ccr (rest := [.ref x0]) (st1 := [.int (fX1_isOf v1 x1), .ref x0]) S hX hM (metX1_isOf l D h0 v1 x1 _ rfl) (ci_SN (As := [.int v1, .int x1]) (rest := [.ref x0]) S (uq732 hX) q733 q103 q734 hyX1_isOf hlX1_isOf rfl dX7_once_6) q734 q103 (Nat.le_of_ble_eq_true rfl) (Nat.le_of_ble_eq_true rfl) hl.1 (Nat.le_of_ble_eq_true rfl) rfl (fun H locs cs ss hM => ?_)
  refine lv_if_ne (tgt := 16) hx hb dX7_once_9 (by decide) (fun c3 => ?_) (fun c3 => ?_)
  · have hF := ifn hF c3
    refine lv_iconst (v := 0) hx hb dX7_once_16 rfl ?_
    refine lv_iconst (v := 3) hx hb dX7_once_17 rfl ?_
    obtain ⟨z4, hF⟩ := gTe hF
    obtain ⟨r4, er4, hF⟩ := obn hF
    refine cctv (rest := []) S hX hM (metX6_need l F D h0 x0 0 3 r4 er4) (ci_U (C := "RugReader$HouseReader") (As := [.int 0, .int 3]) (rest := []) S q735 q736 rfl q739 q738 q740 hyX6_need (HI.cell (ci := 4) hX hM (by decide) (by omega)) hlX6_need rfl dX7_once_18) q740 q112 (Nat.le_of_ble_eq_true rfl) (Nat.le_of_ble_eq_true rfl) hl.1 (Nat.le_of_ble_eq_true rfl) (fun w4 ew4 H locs cs ss hM => ?_) (fun b4 eb4 H locs cs ss hM => ?_)
    · have hF := thr_r hF ew4
      refine lv_aload_n hx hb dX7_once_21 rfl (lv_at hl 0 rfl) ?_
      refine lv_dup hx hb dX7_once_22 rfl ?_
      obtain ⟨v5, ev5, hF⟩ := obn hF
      refine cgi S hX hM ev5 ck_5_5_10 q455 (fun _ h => h) dX7_once_23 ?_
      refine lv_iconst (v := 1) hx hb dX7_once_26 rfl ?_
      refine lv_iload_n hx hb dX7_once_27 rfl (lv_at hl 1 rfl) ?_
      refine lv_ishl hx hb dX7_once_28 ?_
      refine lv_ior hx hb dX7_once_29 ?_
      obtain ⟨σ6, eσ6, hF⟩ := obn hF
      refine cpi S hX hM eσ6 ck_5_5_10 cw_5_5_10 rfl rfl q455 (fun _ h => h) dX7_once_30 (fun H locs hM => ?_)
      refine lv_aload_n hx hb dX7_once_33 rfl (lv_at hl 0 rfl) ?_
      obtain ⟨z7, hF⟩ := gTe hF
      obtain ⟨r7, er7, hF⟩ := obn hF
      refine ccr (rest := []) (st1 := []) S hX hM (metX6_go l F D σ6 x0 r7 er7) (ci_U (C := "RugReader$HouseReader") (As := []) (rest := []) S q502 q503 rfl q506 q505 q507 hyX6_go (HI.cell (ci := 4) hX hM (by decide) (by omega)) hlX6_go rfl dX7_once_34) q507 q112 (Nat.le_of_ble_eq_true rfl) (Nat.le_of_ble_eq_true rfl) hl.1 (Nat.le_of_ble_eq_true rfl) rfl (fun H locs cs ss hM => ?_)
      have hz := (Option.some.inj hF)
      subst hz
      exact crv S hM hr hlocks dX7_once_37
    · have hF := thr_q hF eb4
      have hz := (Option.some.inj hF)
      subst hz
      exact cxout hM (fun x hx => (hnt x hx).elim) hlocks
  · have hF := ifp hF c3
    refine lv_iconst (v := 1) hx hb dX7_once_12 rfl ?_
    refine lv_goto (tgt := 17) hx hb dX7_once_13 (by decide) ?_
    refine lv_iconst (v := 3) hx hb dX7_once_17 rfl ?_
    obtain ⟨z8, hF⟩ := gTe hF
    obtain ⟨r8, er8, hF⟩ := obn hF
    refine cctv (rest := []) S hX hM (metX6_need l F D h0 x0 1 3 r8 er8) (ci_U (C := "RugReader$HouseReader") (As := [.int 1, .int 3]) (rest := []) S q735 q736 rfl q739 q738 q740 hyX6_need (HI.cell (ci := 4) hX hM (by decide) (by omega)) hlX6_need rfl dX7_once_18) q740 q112 (Nat.le_of_ble_eq_true rfl) (Nat.le_of_ble_eq_true rfl) hl.1 (Nat.le_of_ble_eq_true rfl) (fun w8 ew8 H locs cs ss hM => ?_) (fun b8 eb8 H locs cs ss hM => ?_)
    · have hF := thr_r hF ew8
      refine lv_aload_n hx hb dX7_once_21 rfl (lv_at hl 0 rfl) ?_
      refine lv_dup hx hb dX7_once_22 rfl ?_
      obtain ⟨v9, ev9, hF⟩ := obn hF
      refine cgi S hX hM ev9 ck_5_5_10 q455 (fun _ h => h) dX7_once_23 ?_
      refine lv_iconst (v := 1) hx hb dX7_once_26 rfl ?_
      refine lv_iload_n hx hb dX7_once_27 rfl (lv_at hl 1 rfl) ?_
      refine lv_ishl hx hb dX7_once_28 ?_
      refine lv_ior hx hb dX7_once_29 ?_
      obtain ⟨σ10, eσ10, hF⟩ := obn hF
      refine cpi S hX hM eσ10 ck_5_5_10 cw_5_5_10 rfl rfl q455 (fun _ h => h) dX7_once_30 (fun H locs hM => ?_)
      refine lv_aload_n hx hb dX7_once_33 rfl (lv_at hl 0 rfl) ?_
      obtain ⟨z11, hF⟩ := gTe hF
      obtain ⟨r11, er11, hF⟩ := obn hF
      refine ccr (rest := []) (st1 := []) S hX hM (metX6_go l F D σ10 x0 r11 er11) (ci_U (C := "RugReader$HouseReader") (As := []) (rest := []) S q502 q503 rfl q506 q505 q507 hyX6_go (HI.cell (ci := 4) hX hM (by decide) (by omega)) hlX6_go rfl dX7_once_34) q507 q112 (Nat.le_of_ble_eq_true rfl) (Nat.le_of_ble_eq_true rfl) hl.1 (Nat.le_of_ble_eq_true rfl) rfl (fun H locs cs ss hM => ?_)
      have hz := (Option.some.inj hF)
      subst hz
      exact crv S hM hr hlocks dX7_once_37
    · have hF := thr_q hF eb8
      have hz := (Option.some.inj hF)
      subst hz
      exact cxout hM (fun x hx => (hnt x hx).elim) hlocks
def fX1_isIn (x0 : Int32) (x1 : Int32) (x2 : Int32) : Int32 := (if x0 < x1 then 0 else (if x2 < x0 then 0 else 1))
theorem hyX1_isIn : yX1_isIn.cls ≠ "java/lang/invoke/MethodHandle" ∧ yX1_isIn.cls ≠ "java/lang/invoke/VarHandle" := by decide +kernel
theorem hlX1_isIn : (parseMethodDescriptor yX1_isIn.desc).map (fun d => d.parameters.length) = some 3 := by decide +kernel
set_option maxHeartbeats 4000000 in
set_option maxRecDepth 100000 in
theorem metX1_isIn (l : Launch) [NoTr l] (D : va_G) (h0 : HS) (x0 : Int32) (x1 : Int32) (x2 : Int32) (r : Int32) (hF : fX1_isIn x0 x1 x2 = r) : CMet l yX1_isIn (ws_ yX1_isIn cX1_isIn 3 (some .boolean)) 0 0 D [.int x0, .int x1, .int x2] h0 h0 (.inr (some (.int r))) := by
  refine CMet.ofW (by decide) ?_
  intro p e s m below meth c s₁ B S hX hM hr hlocks hnt hin
  obtain ⟨hx, hb, hml, hown, hts⟩ := id S
  have hl := lv_entry ([.int x0, .int x1, .int x2]) (n := 3) (Nat.le_of_ble_eq_true rfl)
  rw [lg_entry_eq]
  generalize (lg_sl ([.int x0, .int x1, .int x2]) ++ List.replicate (3 - (lg_sl ([.int x0, .int x1, .int x2])).length) Slot.unset).toArray = ls at hl ⊢
  have hl : lv_has ls 3 [(0, .int x0), (1, .int x1), (2, .int x2)] := hl
  unfold fX1_isIn at hF
  refine lv_iload_n hx hb dX1_isIn_0 rfl (lv_at hl 0 rfl) ?_
  refine lv_iload_n hx hb dX1_isIn_1 rfl (lv_at hl 1 rfl) ?_
  refine lv_icmp_lt (tgt := 14) hx hb dX1_isIn_2 (by decide) (fun c1 => ?_) (fun c1 => ?_)
  · have hF := ifp hF c1
    refine lv_iconst (v := 0) hx hb dX1_isIn_14 rfl ?_
    have hz := hF
    subst hz
    exact crz S hM hr hlocks (gBn gB0) dX1_isIn_15
  · have hF := ifn hF c1
    refine lv_iload_n hx hb dX1_isIn_5 rfl (lv_at hl 0 rfl) ?_
    refine lv_iload_n hx hb dX1_isIn_6 rfl (lv_at hl 2 rfl) ?_
    refine lv_icmp_gt (tgt := 14) hx hb dX1_isIn_7 (by decide) (fun c2 => ?_) (fun c2 => ?_)
    · have hF := ifp hF c2
      refine lv_iconst (v := 0) hx hb dX1_isIn_14 rfl ?_
      have hz := hF
      subst hz
      exact crz S hM hr hlocks (gBn gB0) dX1_isIn_15
    · have hF := ifn hF c2
      refine lv_iconst (v := 1) hx hb dX1_isIn_10 rfl ?_
      refine lv_goto (tgt := 15) hx hb dX1_isIn_11 (by decide) ?_
      have hz := hF
      subst hz
      exact crz S hM hr hlocks (gBn gB1) dX1_isIn_15
def fX6_hold (F : Nat) (h0 : HS) (x0 : Nat) (x1 : Int32) (x2 : Int32) : Option ((Nat ⊕ Int32) × HS) := ((oI h0 x0 5 7 4).bind fun v1 => (if v1 = 3 then (gT h0 x0 5 7 (((fX6_need F h0 x0 1 1).bind fun r8 => thr r8.1 (fun b8 => some (.inl b8, r8.2)) fun w8 => ((oI r8.2 x0 5 7 6).bind fun v9 => gT r8.2 x0 5 7 (((fX6_need F r8.2 x0 (fX1_isIn v9 x1 x2) 2).bind fun r11 => thr r11.1 (fun b11 => some (.inl b11, r11.2)) fun w11 => ((oI r11.2 x0 5 7 6).bind fun v12 => some (.inr v12, r11.2)))))))) else (gT h0 x0 5 7 (((fX6_need F h0 x0 0 1).bind fun r3 => thr r3.1 (fun b3 => some (.inl b3, r3.2)) fun w3 => ((oI r3.2 x0 5 7 6).bind fun v4 => gT r3.2 x0 5 7 (((fX6_need F r3.2 x0 (fX1_isIn v4 x1 x2) 2).bind fun r6 => thr r6.1 (fun b6 => some (.inl b6, r6.2)) fun w6 => ((oI r6.2 x0 5 7 6).bind fun v7 => some (.inr v7, r6.2))))))))))
theorem hyX6_hold : yX6_hold.cls ≠ "java/lang/invoke/MethodHandle" ∧ yX6_hold.cls ≠ "java/lang/invoke/VarHandle" := by decide +kernel
theorem hlX6_hold : (parseMethodDescriptor yX6_hold.desc).map (fun d => d.parameters.length) = some 2 := by decide +kernel
set_option maxHeartbeats 4000000 in
set_option maxRecDepth 100000 in
theorem metX6_hold (l : Launch) [NoTr l] (F : Nat) (D : va_G) (h0 : HS) (x0 : Nat) (x1 : Int32) (x2 : Int32) (r : (Nat ⊕ Int32) × HS) (hF : fX6_hold F h0 x0 x1 x2 = some r) : CMet l yX6_hold (ws_ yX6_hold cX6_hold 3 (some .int)) 10 244 D [.ref x0, .int x1, .int x2] h0 r.2 (xi r.1) := by
  refine CMet.ofW (by decide) ?_
  intro p e s m below meth c s₁ B S hX hM hr hlocks hnt hin
  obtain ⟨hx, hb, hml, hown, hts⟩ := id S
  have hl := lv_entry ([.ref x0, .int x1, .int x2]) (n := 3) (Nat.le_of_ble_eq_true rfl)
  rw [lg_entry_eq]
  generalize (lg_sl ([.ref x0, .int x1, .int x2]) ++ List.replicate (3 - (lg_sl ([.ref x0, .int x1, .int x2])).length) Slot.unset).toArray = ls at hl ⊢
  have hl : lv_has ls 3 [(0, .ref x0), (1, .int x1), (2, .int x2)] := hl
  unfold fX6_hold at hF
  refine lv_aload_n hx hb dX6_hold_0 rfl (lv_at hl 0 rfl) ?_
  refine lv_aload_n hx hb dX6_hold_1 rfl (lv_at hl 0 rfl) ?_
  obtain ⟨v1, ev1, hF⟩ := obn hF
  refine cgi S hX hM ev1 ck_5_7_4 q466 (fun _ h => h) dX6_hold_2 ?_
  refine lv_iconst (v := 3) hx hb dX6_hold_5 rfl ?_
  refine lv_icmp_ne (tgt := 13) hx hb dX6_hold_6 (by decide) (fun c2 => ?_) (fun c2 => ?_)
  · have hF := ifn hF c2
    refine lv_iconst (v := 0) hx hb dX6_hold_13 rfl ?_
    refine lv_iconst (v := 1) hx hb dX6_hold_14 rfl ?_
    obtain ⟨z3, hF⟩ := gTe hF
    obtain ⟨r3, er3, hF⟩ := obn hF
    refine cctv (rest := []) S hX hM (metX6_need l F D h0 x0 0 1 r3 er3) (by
          have ez : kT h0 x0 = 5 ∨ kT h0 x0 = 6 ∨ kT h0 x0 = 7 := by omega
          rcases ez with ez | ez | ez
          · exact ci_V (C := "RugReader$HouseReader") (As := [.int 0, .int 1]) (rest := []) S q819 q739 q2327 q740 hyX6_need (HI.cell (ci := 4) hX hM (by decide) ez) hlX6_need rfl dX6_hold_15
          · exact ci_V (C := "RugReader$WalkReader") (As := [.int 0, .int 1]) (rest := []) S q819 q739 q2329 q740 hyX6_need (HI.cell (ci := 5) hX hM (by decide) ez) hlX6_need rfl dX6_hold_15
          · exact ci_V (C := "RugReader$SentenceReader") (As := [.int 0, .int 1]) (rest := []) S q819 q739 q2328 q740 hyX6_need (HI.cell (ci := 6) hX hM (by decide) ez) hlX6_need rfl dX6_hold_15) q740 q112 (Nat.le_of_ble_eq_true rfl) (Nat.le_of_ble_eq_true rfl) hl.1 (Nat.le_of_ble_eq_true rfl) (fun w3 ew3 H locs cs ss hM => ?_) (fun b3 eb3 H locs cs ss hM => ?_)
    · have hF := thr_r hF ew3
      refine lv_aload_n hx hb dX6_hold_18 rfl (lv_at hl 0 rfl) ?_
      refine lv_aload_n hx hb dX6_hold_19 rfl (lv_at hl 0 rfl) ?_
      obtain ⟨v4, ev4, hF⟩ := obn hF
      refine cgi S hX hM ev4 ck_5_7_6 q468 (fun _ h => h) dX6_hold_20 ?_
      refine lv_iload_n hx hb dX6_hold_23 rfl (lv_at hl 1 rfl) ?_
      refine lv_iload_n hx hb dX6_hold_24 rfl (lv_at hl 2 rfl) ?_
      refine ccr (rest := [.ref x0]) (st1 := [.int (fX1_isIn v4 x1 x2), .ref x0]) S hX hM (metX1_isIn l D r3.2 v4 x1 x2 _ rfl) (ci_SN (As := [.int v4, .int x1, .int x2]) (rest := [.ref x0]) S (uq820 hX) q821 q103 q822 hyX1_isIn hlX1_isIn rfl dX6_hold_25) q822 q103 (Nat.le_of_ble_eq_true rfl) (Nat.le_of_ble_eq_true rfl) hl.1 (Nat.le_of_ble_eq_true rfl) rfl (fun H locs cs ss hM => ?_)
      refine lv_iconst (v := 2) hx hb dX6_hold_28 rfl ?_
      obtain ⟨z6, hF⟩ := gTe hF
      obtain ⟨r6, er6, hF⟩ := obn hF
      refine cctv (rest := []) S hX hM (metX6_need l F D r3.2 x0 (fX1_isIn v4 x1 x2) 2 r6 er6) (by
            have ez : kT r3.2 x0 = 5 ∨ kT r3.2 x0 = 6 ∨ kT r3.2 x0 = 7 := by omega
            rcases ez with ez | ez | ez
            · exact ci_V (C := "RugReader$HouseReader") (As := [.int (fX1_isIn v4 x1 x2), .int 2]) (rest := []) S q819 q739 q2327 q740 hyX6_need (HI.cell (ci := 4) hX hM (by decide) ez) hlX6_need rfl dX6_hold_29
            · exact ci_V (C := "RugReader$WalkReader") (As := [.int (fX1_isIn v4 x1 x2), .int 2]) (rest := []) S q819 q739 q2329 q740 hyX6_need (HI.cell (ci := 5) hX hM (by decide) ez) hlX6_need rfl dX6_hold_29
            · exact ci_V (C := "RugReader$SentenceReader") (As := [.int (fX1_isIn v4 x1 x2), .int 2]) (rest := []) S q819 q739 q2328 q740 hyX6_need (HI.cell (ci := 6) hX hM (by decide) ez) hlX6_need rfl dX6_hold_29) q740 q112 (Nat.le_of_ble_eq_true rfl) (Nat.le_of_ble_eq_true rfl) hl.1 (Nat.le_of_ble_eq_true rfl) (fun w6 ew6 H locs cs ss hM => ?_) (fun b6 eb6 H locs cs ss hM => ?_)
      · have hF := thr_r hF ew6
        refine lv_aload_n hx hb dX6_hold_32 rfl (lv_at hl 0 rfl) ?_
        obtain ⟨v7, ev7, hF⟩ := obn hF
        refine cgi S hX hM ev7 ck_5_7_6 q468 (fun _ h => h) dX6_hold_33 ?_
        have hz := (Option.some.inj hF)
        subst hz
        exact cri S hM hr hlocks dX6_hold_36
      · have hF := thr_q hF eb6
        have hz := (Option.some.inj hF)
        subst hz
        exact cxout hM (fun x hx => (hnt x hx).elim) hlocks
    · have hF := thr_q hF eb3
      have hz := (Option.some.inj hF)
      subst hz
      exact cxout hM (fun x hx => (hnt x hx).elim) hlocks
  · have hF := ifp hF c2
    refine lv_iconst (v := 1) hx hb dX6_hold_9 rfl ?_
    refine lv_goto (tgt := 14) hx hb dX6_hold_10 (by decide) ?_
    refine lv_iconst (v := 1) hx hb dX6_hold_14 rfl ?_
    obtain ⟨z8, hF⟩ := gTe hF
    obtain ⟨r8, er8, hF⟩ := obn hF
    refine cctv (rest := []) S hX hM (metX6_need l F D h0 x0 1 1 r8 er8) (by
          have ez : kT h0 x0 = 5 ∨ kT h0 x0 = 6 ∨ kT h0 x0 = 7 := by omega
          rcases ez with ez | ez | ez
          · exact ci_V (C := "RugReader$HouseReader") (As := [.int 1, .int 1]) (rest := []) S q819 q739 q2327 q740 hyX6_need (HI.cell (ci := 4) hX hM (by decide) ez) hlX6_need rfl dX6_hold_15
          · exact ci_V (C := "RugReader$WalkReader") (As := [.int 1, .int 1]) (rest := []) S q819 q739 q2329 q740 hyX6_need (HI.cell (ci := 5) hX hM (by decide) ez) hlX6_need rfl dX6_hold_15
          · exact ci_V (C := "RugReader$SentenceReader") (As := [.int 1, .int 1]) (rest := []) S q819 q739 q2328 q740 hyX6_need (HI.cell (ci := 6) hX hM (by decide) ez) hlX6_need rfl dX6_hold_15) q740 q112 (Nat.le_of_ble_eq_true rfl) (Nat.le_of_ble_eq_true rfl) hl.1 (Nat.le_of_ble_eq_true rfl) (fun w8 ew8 H locs cs ss hM => ?_) (fun b8 eb8 H locs cs ss hM => ?_)
    · have hF := thr_r hF ew8
      refine lv_aload_n hx hb dX6_hold_18 rfl (lv_at hl 0 rfl) ?_
      refine lv_aload_n hx hb dX6_hold_19 rfl (lv_at hl 0 rfl) ?_
      obtain ⟨v9, ev9, hF⟩ := obn hF
      refine cgi S hX hM ev9 ck_5_7_6 q468 (fun _ h => h) dX6_hold_20 ?_
      refine lv_iload_n hx hb dX6_hold_23 rfl (lv_at hl 1 rfl) ?_
      refine lv_iload_n hx hb dX6_hold_24 rfl (lv_at hl 2 rfl) ?_
      refine ccr (rest := [.ref x0]) (st1 := [.int (fX1_isIn v9 x1 x2), .ref x0]) S hX hM (metX1_isIn l D r8.2 v9 x1 x2 _ rfl) (ci_SN (As := [.int v9, .int x1, .int x2]) (rest := [.ref x0]) S (uq820 hX) q821 q103 q822 hyX1_isIn hlX1_isIn rfl dX6_hold_25) q822 q103 (Nat.le_of_ble_eq_true rfl) (Nat.le_of_ble_eq_true rfl) hl.1 (Nat.le_of_ble_eq_true rfl) rfl (fun H locs cs ss hM => ?_)
      refine lv_iconst (v := 2) hx hb dX6_hold_28 rfl ?_
      obtain ⟨z11, hF⟩ := gTe hF
      obtain ⟨r11, er11, hF⟩ := obn hF
      refine cctv (rest := []) S hX hM (metX6_need l F D r8.2 x0 (fX1_isIn v9 x1 x2) 2 r11 er11) (by
            have ez : kT r8.2 x0 = 5 ∨ kT r8.2 x0 = 6 ∨ kT r8.2 x0 = 7 := by omega
            rcases ez with ez | ez | ez
            · exact ci_V (C := "RugReader$HouseReader") (As := [.int (fX1_isIn v9 x1 x2), .int 2]) (rest := []) S q819 q739 q2327 q740 hyX6_need (HI.cell (ci := 4) hX hM (by decide) ez) hlX6_need rfl dX6_hold_29
            · exact ci_V (C := "RugReader$WalkReader") (As := [.int (fX1_isIn v9 x1 x2), .int 2]) (rest := []) S q819 q739 q2329 q740 hyX6_need (HI.cell (ci := 5) hX hM (by decide) ez) hlX6_need rfl dX6_hold_29
            · exact ci_V (C := "RugReader$SentenceReader") (As := [.int (fX1_isIn v9 x1 x2), .int 2]) (rest := []) S q819 q739 q2328 q740 hyX6_need (HI.cell (ci := 6) hX hM (by decide) ez) hlX6_need rfl dX6_hold_29) q740 q112 (Nat.le_of_ble_eq_true rfl) (Nat.le_of_ble_eq_true rfl) hl.1 (Nat.le_of_ble_eq_true rfl) (fun w11 ew11 H locs cs ss hM => ?_) (fun b11 eb11 H locs cs ss hM => ?_)
      · have hF := thr_r hF ew11
        refine lv_aload_n hx hb dX6_hold_32 rfl (lv_at hl 0 rfl) ?_
        obtain ⟨v12, ev12, hF⟩ := obn hF
        refine cgi S hX hM ev12 ck_5_7_6 q468 (fun _ h => h) dX6_hold_33 ?_
        have hz := (Option.some.inj hF)
        subst hz
        exact cri S hM hr hlocks dX6_hold_36
      · have hF := thr_q hF eb11
        have hz := (Option.some.inj hF)
        subst hz
        exact cxout hM (fun x hx => (hnt x hx).elim) hlocks
    · have hF := thr_q hF eb8
      have hz := (Option.some.inj hF)
      subst hz
      exact cxout hM (fun x hx => (hnt x hx).elim) hlocks
def fX6_number (F : Nat) (h0 : HS) (x0 : Nat) (x1 : Int32) (x2 : Int32) : Option ((Nat ⊕ Int32) × HS) := gT h0 x0 5 7 (((fX6_hold F h0 x0 x1 x2).bind fun r1 => thr r1.1 (fun b1 => some (.inl b1, r1.2)) fun w1 => gT r1.2 x0 5 7 (((fX6_go F r1.2 x0).bind fun r2 => some (.inr w1, r2)))))
theorem hyX6_number : yX6_number.cls ≠ "java/lang/invoke/MethodHandle" ∧ yX6_number.cls ≠ "java/lang/invoke/VarHandle" := by decide +kernel
theorem hlX6_number : (parseMethodDescriptor yX6_number.desc).map (fun d => d.parameters.length) = some 2 := by decide +kernel
set_option maxHeartbeats 4000000 in
set_option maxRecDepth 100000 in
theorem metX6_number (l : Launch) [NoTr l] (F : Nat) (D : va_G) (h0 : HS) (x0 : Nat) (x1 : Int32) (x2 : Int32) (r : (Nat ⊕ Int32) × HS) (hF : fX6_number F h0 x0 x1 x2 = some r) : CMet l yX6_number (ws_ yX6_number cX6_number 4 (some .int)) 11 266 D [.ref x0, .int x1, .int x2] h0 r.2 (xi r.1) := by
  refine CMet.ofW (by decide) ?_
  intro p e s m below meth c s₁ B S hX hM hr hlocks hnt hin
  obtain ⟨hx, hb, hml, hown, hts⟩ := id S
  have hl := lv_entry ([.ref x0, .int x1, .int x2]) (n := 4) (Nat.le_of_ble_eq_true rfl)
  rw [lg_entry_eq]
  generalize (lg_sl ([.ref x0, .int x1, .int x2]) ++ List.replicate (4 - (lg_sl ([.ref x0, .int x1, .int x2])).length) Slot.unset).toArray = ls at hl ⊢
  have hl : lv_has ls 4 [(0, .ref x0), (1, .int x1), (2, .int x2)] := hl
  unfold fX6_number at hF
  refine lv_aload_n hx hb dX6_number_0 rfl (lv_at hl 0 rfl) ?_
  refine lv_iload_n hx hb dX6_number_1 rfl (lv_at hl 1 rfl) ?_
  refine lv_iload_n hx hb dX6_number_2 rfl (lv_at hl 2 rfl) ?_
  obtain ⟨z1, hF⟩ := gTe hF
  obtain ⟨r1, er1, hF⟩ := obn hF
  refine ccti (rest := []) S hX hM (metX6_hold l F D h0 x0 x1 x2 r1 er1) (by
        have ez : kT h0 x0 = 5 ∨ kT h0 x0 = 6 ∨ kT h0 x0 = 7 := by omega
        rcases ez with ez | ez | ez
        · exact ci_V (C := "RugReader$HouseReader") (As := [.int x1, .int x2]) (rest := []) S q812 q813 q815 q818 hyX6_hold (HI.cell (ci := 4) hX hM (by decide) ez) hlX6_hold rfl dX6_number_3
        · exact ci_V (C := "RugReader$WalkReader") (As := [.int x1, .int x2]) (rest := []) S q812 q813 q817 q818 hyX6_hold (HI.cell (ci := 5) hX hM (by decide) ez) hlX6_hold rfl dX6_number_3
        · exact ci_V (C := "RugReader$SentenceReader") (As := [.int x1, .int x2]) (rest := []) S q812 q813 q816 q818 hyX6_hold (HI.cell (ci := 6) hX hM (by decide) ez) hlX6_hold rfl dX6_number_3) q818 q112 (Nat.le_of_ble_eq_true rfl) (Nat.le_of_ble_eq_true rfl) hl.1 (Nat.le_of_ble_eq_true rfl) (fun w1 ew1 H locs cs ss hM => ?_) (fun b1 eb1 H locs cs ss hM => ?_)
  · have hF := thr_r hF ew1
    refine lv_istore_n (lv' := [(3, .int w1), (0, .ref x0), (1, .int x1), (2, .int x2)]) hx hb dX6_number_6 rfl hl (by decide) rfl (fun ls hl => ?_)
    refine lv_aload_n hx hb dX6_number_7 rfl (lv_at hl 1 rfl) ?_
    obtain ⟨z2, hF⟩ := gTe hF
    obtain ⟨r2, er2, hF⟩ := obn hF
    refine ccr (rest := []) (st1 := []) S hX hM (metX6_go l F D r1.2 x0 r2 er2) (by
          have ez : kT r1.2 x0 = 5 ∨ kT r1.2 x0 = 6 ∨ kT r1.2 x0 = 7 := by omega
          rcases ez with ez | ez | ez
          · exact ci_V (C := "RugReader$HouseReader") (As := []) (rest := []) S q823 q506 q2331 q507 hyX6_go (HI.cell (ci := 4) hX hM (by decide) ez) hlX6_go rfl dX6_number_8
          · exact ci_V (C := "RugReader$WalkReader") (As := []) (rest := []) S q823 q506 q2333 q507 hyX6_go (HI.cell (ci := 5) hX hM (by decide) ez) hlX6_go rfl dX6_number_8
          · exact ci_V (C := "RugReader$SentenceReader") (As := []) (rest := []) S q823 q506 q2332 q507 hyX6_go (HI.cell (ci := 6) hX hM (by decide) ez) hlX6_go rfl dX6_number_8) q507 q112 (Nat.le_of_ble_eq_true rfl) (Nat.le_of_ble_eq_true rfl) hl.1 (Nat.le_of_ble_eq_true rfl) rfl (fun H locs cs ss hM => ?_)
    refine lv_iload_n hx hb dX6_number_11 rfl (lv_at hl 0 rfl) ?_
    have hz := (Option.some.inj hF)
    subst hz
    exact cri S hM hr hlocks dX6_number_12
  · have hF := thr_q hF eb1
    have hz := (Option.some.inj hF)
    subst hz
    exact cxout hM (fun x hx => (hnt x hx).elim) hlocks
def fX7_rug (F : Nat) (h0 : HS) (x0 : Nat) : Option ((Nat ⊕ Unit) × HS) := gT h0 x0 5 5 (((fX7_once F h0 x0 0).bind fun r1 => thr r1.1 (fun b1 => some (.inl b1, r1.2)) fun w1 => ((fR r1.2 x0 5 5 9).bind fun a2 => gT r1.2 x0 5 5 (((fX6_number F r1.2 x0 2 12).bind fun r3 => thr r3.1 (fun b3 => some (.inl b3, r3.2)) fun w3 => ((pI r3.2 a2 2 2 0 w3).bind fun σ4 => ((fR σ4 x0 5 5 9).bind fun a5 => gT σ4 x0 5 5 (((fX6_number F σ4 x0 2 12).bind fun r6 => thr r6.1 (fun b6 => some (.inl b6, r6.2)) fun w6 => ((pI r6.2 a5 2 2 1 w6).bind fun σ7 => some (.inr (), σ7)))))))))))
theorem hyX7_rug : yX7_rug.cls ≠ "java/lang/invoke/MethodHandle" ∧ yX7_rug.cls ≠ "java/lang/invoke/VarHandle" := by decide +kernel
theorem hlX7_rug : (parseMethodDescriptor yX7_rug.desc).map (fun d => d.parameters.length) = some 0 := by decide +kernel
set_option maxHeartbeats 4000000 in
set_option maxRecDepth 100000 in
theorem metX7_rug (l : Launch) [NoTr l] (F : Nat) (D : va_G) (h0 : HS) (x0 : Nat) (r : (Nat ⊕ Unit) × HS) (hF : fX7_rug F h0 x0 = some r) : CMet l yX7_rug (ws_ yX7_rug cX7_rug 1 none) 12 289 D [.ref x0] h0 r.2 (xv r.1) := by
  refine CMet.ofW (by decide) ?_
  intro p e s m below meth c s₁ B S hX hM hr hlocks hnt hin
  obtain ⟨hx, hb, hml, hown, hts⟩ := id S
  have hl := lv_entry ([.ref x0]) (n := 1) (Nat.le_of_ble_eq_true rfl)
  rw [lg_entry_eq]
  generalize (lg_sl ([.ref x0]) ++ List.replicate (1 - (lg_sl ([.ref x0])).length) Slot.unset).toArray = ls at hl ⊢
  have hl : lv_has ls 1 [(0, .ref x0)] := hl
  unfold fX7_rug at hF
  refine lv_aload_n hx hb dX7_rug_0 rfl (lv_at hl 0 rfl) ?_
  refine lv_iconst (v := 0) hx hb dX7_rug_1 rfl ?_
  obtain ⟨z1, hF⟩ := gTe hF
  obtain ⟨r1, er1, hF⟩ := obn hF
  refine cctv (rest := []) S hX hM (metX7_once l F D h0 x0 0 r1 er1) (ci_V (C := "RugReader$HouseReader") (As := [.int 0]) (rest := []) S q728 q730 qs4 q731 hyX7_once (HI.cell (ci := 4) hX hM (by decide) (by omega)) hlX7_once rfl dX7_rug_2) q731 q113 (Nat.le_of_ble_eq_true rfl) (Nat.le_of_ble_eq_true rfl) hl.1 (Nat.le_of_ble_eq_true rfl) (fun w1 ew1 H locs cs ss hM => ?_) (fun b1 eb1 H locs cs ss hM => ?_)
  · have hF := thr_r hF ew1
    refine lv_aload_n hx hb dX7_rug_5 rfl (lv_at hl 0 rfl) ?_
    obtain ⟨a2, ea2, hF⟩ := obn hF
    refine cgn S hX hM ea2 ck_5_5_9 q454 (fun _ h => h) dX7_rug_6 ?_
    refine lv_aload_n hx hb dX7_rug_9 rfl (lv_at hl 0 rfl) ?_
    refine lv_iconst (v := 2) hx hb dX7_rug_10 rfl ?_
    refine lv_bipush (v := 12) hx hb dX7_rug_11 rfl ?_
    obtain ⟨z3, hF⟩ := gTe hF
    obtain ⟨r3, er3, hF⟩ := obn hF
    refine ccti (rest := [.ref a2]) S hX hM (metX6_number l F D r1.2 x0 2 12 r3 er3) (ci_U (C := "RugReader$HouseReader") (As := [.int 2, .int 12]) (rest := [.ref a2]) S q806 q807 rfl q810 q809 q811 hyX6_number (HI.cell (ci := 4) hX hM (by decide) (by omega)) hlX6_number rfl dX7_rug_13) q811 q112 (Nat.le_of_ble_eq_true rfl) (Nat.le_of_ble_eq_true rfl) hl.1 (Nat.le_of_ble_eq_true rfl) (fun w3 ew3 H locs cs ss hM => ?_) (fun b3 eb3 H locs cs ss hM => ?_)
    · have hF := thr_r hF ew3
      obtain ⟨σ4, eσ4, hF⟩ := obn hF
      refine cpiN S hX hM eσ4 ck_2_2_0 cw_2_2_0 rfl rfl (uq184 hX) dX7_rug_16 (fun H locs hM => ?_)
      refine lv_aload_n hx hb dX7_rug_19 rfl (lv_at hl 0 rfl) ?_
      obtain ⟨a5, ea5, hF⟩ := obn hF
      refine cgn S hX hM ea5 ck_5_5_9 q454 (fun _ h => h) dX7_rug_20 ?_
      refine lv_aload_n hx hb dX7_rug_23 rfl (lv_at hl 0 rfl) ?_
      refine lv_iconst (v := 2) hx hb dX7_rug_24 rfl ?_
      refine lv_bipush (v := 12) hx hb dX7_rug_25 rfl ?_
      obtain ⟨z6, hF⟩ := gTe hF
      obtain ⟨r6, er6, hF⟩ := obn hF
      refine ccti (rest := [.ref a5]) S hX hM (metX6_number l F D σ4 x0 2 12 r6 er6) (ci_U (C := "RugReader$HouseReader") (As := [.int 2, .int 12]) (rest := [.ref a5]) S q806 q807 rfl q810 q809 q811 hyX6_number (HI.cell (ci := 4) hX hM (by decide) (by omega)) hlX6_number rfl dX7_rug_27) q811 q112 (Nat.le_of_ble_eq_true rfl) (Nat.le_of_ble_eq_true rfl) hl.1 (Nat.le_of_ble_eq_true rfl) (fun w6 ew6 H locs cs ss hM => ?_) (fun b6 eb6 H locs cs ss hM => ?_)
      · have hF := thr_r hF ew6
        obtain ⟨σ7, eσ7, hF⟩ := obn hF
        refine cpiN S hX hM eσ7 ck_2_2_1 cw_2_2_1 rfl rfl (uq188 hX) dX7_rug_30 (fun H locs hM => ?_)
        have hz := (Option.some.inj hF)
        subst hz
        exact crv S hM hr hlocks dX7_rug_33
      · have hF := thr_q hF eb6
        have hz := (Option.some.inj hF)
        subst hz
        exact cxout hM (fun x hx => (hnt x hx).elim) hlocks
    · have hF := thr_q hF eb3
      have hz := (Option.some.inj hF)
      subst hz
      exact cxout hM (fun x hx => (hnt x hx).elim) hlocks
  · have hF := thr_q hF eb1
    have hz := (Option.some.inj hF)
    subst hz
    exact cxout hM (fun x hx => (hnt x hx).elim) hlocks
def fJ2_size (F : Nat) (h0 : HS) (x0 : Nat) : Option (Int32) := ((oI h0 x0 15 15 2).bind fun v1 => some v1)
theorem hyJ2_size : yJ2_size.cls ≠ "java/lang/invoke/MethodHandle" ∧ yJ2_size.cls ≠ "java/lang/invoke/VarHandle" := by decide +kernel
theorem hlJ2_size : (parseMethodDescriptor yJ2_size.desc).map (fun d => d.parameters.length) = some 0 := by decide +kernel
set_option maxHeartbeats 4000000 in
set_option maxRecDepth 100000 in
theorem metJ2_size (l : Launch) [NoTr l] (F : Nat) (D : va_G) (h0 : HS) (x0 : Nat) (r : Int32) (hF : fJ2_size F h0 x0 = some r) : CMet l yJ2_size (ws_ yJ2_size cJ2_size 1 (some .int)) 0 0 D [.ref x0] h0 h0 (.inr (some (.int r))) := by
  refine CMet.ofW (by decide) ?_
  intro p e s m below meth c s₁ B S hX hM hr hlocks hnt hin
  obtain ⟨hx, hb, hml, hown, hts⟩ := id S
  have hl := lv_entry ([.ref x0]) (n := 1) (Nat.le_of_ble_eq_true rfl)
  rw [lg_entry_eq]
  generalize (lg_sl ([.ref x0]) ++ List.replicate (1 - (lg_sl ([.ref x0])).length) Slot.unset).toArray = ls at hl ⊢
  have hl : lv_has ls 1 [(0, .ref x0)] := hl
  unfold fJ2_size at hF
  refine lv_aload_n hx hb dJ2_size_0 rfl (lv_at hl 0 rfl) ?_
  obtain ⟨v1, ev1, hF⟩ := obn hF
  refine cgi S hX hM ev1 ck_15_15_2 q171 (fun _ h => h) dJ2_size_1 ?_
  have hz := (Option.some.inj hF)
  subst hz
  exact cri S hM hr hlocks dJ2_size_4
def fJ4_appendNull (F : Nat) (h0 : HS) (x0 : Nat) : Option (Nat × HS) := ((oI h0 x0 16 16 3).bind fun v1 => gT h0 x0 16 16 (((fJ4_ensureCapacityInternal F h0 x0 (v1 + 4)).bind fun r2 => ((oI r2 x0 16 16 3).bind fun v3 => ((fR r2 x0 16 16 0).bind fun a4 => gT r2 x0 16 16 (((fJ4_isLatin1 F r2 x0).bind fun r5 => (if r5 = 0 then none else ((wI r2 a4 32 v3 (vp_nar .byte 110)).bind fun σ7 => ((wI σ7 a4 32 (v3 + 1) (vp_nar .byte 117)).bind fun σ8 => ((wI σ8 a4 32 ((v3 + 1) + 1) (vp_nar .byte 108)).bind fun σ9 => ((wI σ9 a4 32 (((v3 + 1) + 1) + 1) (vp_nar .byte 108)).bind fun σ10 => ((pI σ10 x0 16 16 3 ((((v3 + 1) + 1) + 1) + 1)).bind fun σ11 => some (x0, σ11))))))))))))))
theorem hyJ4_appendNull : yJ4_appendNull.cls ≠ "java/lang/invoke/MethodHandle" ∧ yJ4_appendNull.cls ≠ "java/lang/invoke/VarHandle" := by decide +kernel
theorem hlJ4_appendNull : (parseMethodDescriptor yJ4_appendNull.desc).map (fun d => d.parameters.length) = some 0 := by decide +kernel
set_option maxHeartbeats 4000000 in
set_option maxRecDepth 100000 in
theorem metJ4_appendNull (l : Launch) [NoTr l] (F : Nat) (D : va_G) (h0 : HS) (x0 : Nat) (r : Nat × HS) (hF : fJ4_appendNull F h0 x0 = some r) : CMet l yJ4_appendNull (ws_ yJ4_appendNull cJ4_appendNull 3 (some (.object "java/lang/AbstractStringBuilder"))) 5 112 D [.ref x0] h0 r.2 (.inr (some (.ref r.1))) := by
  refine CMet.ofW (by decide) ?_
  intro p e s m below meth c s₁ B S hX hM hr hlocks hnt hin
  obtain ⟨hx, hb, hml, hown, hts⟩ := id S
  have hl := lv_entry ([.ref x0]) (n := 3) (Nat.le_of_ble_eq_true rfl)
  rw [lg_entry_eq]
  generalize (lg_sl ([.ref x0]) ++ List.replicate (3 - (lg_sl ([.ref x0])).length) Slot.unset).toArray = ls at hl ⊢
  have hl : lv_has ls 3 [(0, .ref x0)] := hl
  unfold fJ4_appendNull at hF
  refine lv_aload_n hx hb dJ4_appendNull_0 rfl (lv_at hl 0 rfl) ?_
  refine lv_aload_n hx hb dJ4_appendNull_1 rfl (lv_at hl 0 rfl) ?_
  obtain ⟨v1, ev1, hF⟩ := obn hF
  refine cgi S hX hM ev1 ck_16_16_3 q539 (fun _ h => h) dJ4_appendNull_2 ?_
  refine lv_iconst (v := 4) hx hb dJ4_appendNull_5 rfl ?_
  refine lv_iadd hx hb dJ4_appendNull_6 ?_
  obtain ⟨z2, hF⟩ := gTe hF
  obtain ⟨r2, er2, hF⟩ := obn hF
  refine ccr (rest := []) (st1 := []) S hX hM (metJ4_ensureCapacityInternal l F D h0 x0 (v1 + 4) r2 er2) (ci_P (C := "java/lang/StringBuilder") (As := [.int (v1 + 4)]) (rest := []) S q556 q2322 q558 (uq557 hX) q559 hyJ4_ensureCapacityInternal (HI.cell (ci := 15) hX hM (by decide) (by omega)) hlJ4_ensureCapacityInternal rfl dJ4_appendNull_7) q559 q114 (Nat.le_of_ble_eq_true rfl) (Nat.le_of_ble_eq_true rfl) hl.1 (Nat.le_of_ble_eq_true rfl) rfl (fun H locs cs ss hM => ?_)
  refine lv_aload_n hx hb dJ4_appendNull_10 rfl (lv_at hl 0 rfl) ?_
  obtain ⟨v3, ev3, hF⟩ := obn hF
  refine cgi S hX hM ev3 ck_16_16_3 q539 (fun _ h => h) dJ4_appendNull_11 ?_
  refine lv_istore_n (lv' := [(1, .int v3), (0, .ref x0)]) hx hb dJ4_appendNull_14 rfl hl (by decide) rfl (fun ls hl => ?_)
  refine lv_aload_n hx hb dJ4_appendNull_15 rfl (lv_at hl 1 rfl) ?_
  obtain ⟨a4, ea4, hF⟩ := obn hF
  refine cgn S hX hM ea4 ck_16_16_0 q536 (fun _ h => h) dJ4_appendNull_16 ?_
  refine lv_astore_n (lv' := [(2, .ref a4), (1, .int v3), (0, .ref x0)]) hx hb dJ4_appendNull_19 rfl hl (by decide) rfl (fun ls hl => ?_)
  refine lv_aload_n hx hb dJ4_appendNull_20 rfl (lv_at hl 2 rfl) ?_
  obtain ⟨z5, hF⟩ := gTe hF
  obtain ⟨r5, er5, hF⟩ := obn hF
  refine ccr (rest := []) (st1 := [.int r5]) S hX hM (metJ4_isLatin1 l F D r2 x0 r5 er5) (ci_V (C := "java/lang/StringBuilder") (As := []) (rest := []) S q591 q592 q594 q595 hyJ4_isLatin1 (HI.cell (ci := 15) hX hM (by decide) (by omega)) hlJ4_isLatin1 rfl dJ4_appendNull_21) q595 q114 (Nat.le_of_ble_eq_true rfl) (Nat.le_of_ble_eq_true rfl) hl.1 (Nat.le_of_ble_eq_true rfl) rfl (fun H locs cs ss hM => ?_)
  refine lv_if_eq (tgt := 62) hx hb dJ4_appendNull_24 (by decide) (fun c6 => ?_) (fun c6 => ?_)
  · have hF := ifp hF c6
    refine lv_aload_n hx hb dJ4_appendNull_62 rfl (lv_at hl 0 rfl) ?_
    refine lv_iload_n hx hb dJ4_appendNull_63 rfl (lv_at hl 1 rfl) ?_
    refine lv_bipush (v := 110) hx hb dJ4_appendNull_64 rfl ?_
    refine lv_bipush (v := 117) hx hb dJ4_appendNull_66 rfl ?_
    refine lv_bipush (v := 108) hx hb dJ4_appendNull_68 rfl ?_
    refine lv_bipush (v := 108) hx hb dJ4_appendNull_70 rfl ?_
    cases hF
  · have hF := ifn hF c6
    refine lv_aload_n hx hb dJ4_appendNull_27 rfl (lv_at hl 0 rfl) ?_
    refine lv_iload_n hx hb dJ4_appendNull_28 rfl (lv_at hl 1 rfl) ?_
    refine lv_iinc (v := v3 + 1) (lv' := [(1, .int (v3 + 1)), (2, .ref a4), (0, .ref x0)]) hx hb dJ4_appendNull_29 hl (k := 1) rfl rfl (by decide) rfl (fun ls hl => ?_)
    refine lv_bipush (v := 110) hx hb dJ4_appendNull_32 rfl ?_
    obtain ⟨σ7, eσ7, hF⟩ := obn hF
    refine cwb S hX hM eσ7 dJ4_appendNull_34 (fun H locs hM => ?_)
    refine lv_aload_n hx hb dJ4_appendNull_35 rfl (lv_at hl 1 rfl) ?_
    refine lv_iload_n hx hb dJ4_appendNull_36 rfl (lv_at hl 0 rfl) ?_
    refine lv_iinc (v := (v3 + 1) + 1) (lv' := [(1, .int ((v3 + 1) + 1)), (2, .ref a4), (0, .ref x0)]) hx hb dJ4_appendNull_37 hl (k := 0) rfl rfl (by decide) rfl (fun ls hl => ?_)
    refine lv_bipush (v := 117) hx hb dJ4_appendNull_40 rfl ?_
    obtain ⟨σ8, eσ8, hF⟩ := obn hF
    refine cwb S hX hM eσ8 dJ4_appendNull_42 (fun H locs hM => ?_)
    refine lv_aload_n hx hb dJ4_appendNull_43 rfl (lv_at hl 1 rfl) ?_
    refine lv_iload_n hx hb dJ4_appendNull_44 rfl (lv_at hl 0 rfl) ?_
    refine lv_iinc (v := ((v3 + 1) + 1) + 1) (lv' := [(1, .int (((v3 + 1) + 1) + 1)), (2, .ref a4), (0, .ref x0)]) hx hb dJ4_appendNull_45 hl (k := 0) rfl rfl (by decide) rfl (fun ls hl => ?_)
    refine lv_bipush (v := 108) hx hb dJ4_appendNull_48 rfl ?_
    obtain ⟨σ9, eσ9, hF⟩ := obn hF
    refine cwb S hX hM eσ9 dJ4_appendNull_50 (fun H locs hM => ?_)
    refine lv_aload_n hx hb dJ4_appendNull_51 rfl (lv_at hl 1 rfl) ?_
    refine lv_iload_n hx hb dJ4_appendNull_52 rfl (lv_at hl 0 rfl) ?_
    refine lv_iinc (v := (((v3 + 1) + 1) + 1) + 1) (lv' := [(1, .int ((((v3 + 1) + 1) + 1) + 1)), (2, .ref a4), (0, .ref x0)]) hx hb dJ4_appendNull_53 hl (k := 0) rfl rfl (by decide) rfl (fun ls hl => ?_)
    refine lv_bipush (v := 108) hx hb dJ4_appendNull_56 rfl ?_
    obtain ⟨σ10, eσ10, hF⟩ := obn hF
    refine cwb S hX hM eσ10 dJ4_appendNull_58 (fun H locs hM => ?_)
    refine lv_goto (tgt := 76) hx hb dJ4_appendNull_59 (by decide) ?_
    refine lv_aload_n hx hb dJ4_appendNull_76 rfl (lv_at hl 2 rfl) ?_
    refine lv_iload_n hx hb dJ4_appendNull_77 rfl (lv_at hl 0 rfl) ?_
    obtain ⟨σ11, eσ11, hF⟩ := obn hF
    refine cpi S hX hM eσ11 ck_16_16_3 cw_16_16_3 rfl rfl q539 (fun _ h => h) dJ4_appendNull_78 (fun H locs hM => ?_)
    refine lv_aload_n hx hb dJ4_appendNull_81 rfl (lv_at hl 2 rfl) ?_
    have hz := (Option.some.inj hF)
    subst hz
    exact cra S hM hr (Or.inl ⟨_, rfl⟩) hlocks dJ4_appendNull_82
def fJ6_coder (F : Nat) (h0 : HS) (x0 : Nat) : Option (Int32) := ((oI h0 x0 17 17 1).bind fun v3 => gY v3 (some v3))
theorem hyJ6_coder : yJ6_coder.cls ≠ "java/lang/invoke/MethodHandle" ∧ yJ6_coder.cls ≠ "java/lang/invoke/VarHandle" := by decide +kernel
theorem hlJ6_coder : (parseMethodDescriptor yJ6_coder.desc).map (fun d => d.parameters.length) = some 0 := by decide +kernel
set_option maxHeartbeats 4000000 in
set_option maxRecDepth 100000 in
theorem metJ6_coder (l : Launch) [NoTr l] (F : Nat) (D : va_G) (h0 : HS) (x0 : Nat) (r : Int32) (hF : fJ6_coder F h0 x0 = some r) : CMet l yJ6_coder (ws_ yJ6_coder cJ6_coder 1 (some .byte)) 0 0 D [.ref x0] h0 h0 (.inr (some (.int r))) := by
  refine CMet.ofW (by decide) ?_
  intro p e s m below meth c s₁ B S hX hM hr hlocks hnt hin
  obtain ⟨hx, hb, hml, hown, hts⟩ := id S
  have hl := lv_entry ([.ref x0]) (n := 1) (Nat.le_of_ble_eq_true rfl)
  rw [lg_entry_eq]
  generalize (lg_sl ([.ref x0]) ++ List.replicate (1 - (lg_sl ([.ref x0])).length) Slot.unset).toArray = ls at hl ⊢
  have hl : lv_has ls 1 [(0, .ref x0)] := hl
  unfold fJ6_coder at hF
  refine cst (ref := "") S hM (ust3 hX) q680 dJ6_coder_0 ?_
  refine lv_if_eq (tgt := 13) hx hb dJ6_coder_3 (by decide) (fun c2 => ?_) (fun c2 => ?_)
  · exact absurd c2 (by decide)
  · refine lv_aload_n hx hb dJ6_coder_6 rfl (lv_at hl 0 rfl) ?_
    obtain ⟨v3, ev3, hF⟩ := obn hF
    refine cgi S hX hM ev3 ck_17_17_1 q695 (fun _ h => h) dJ6_coder_7 ?_
    refine lv_goto (tgt := 14) hx hb dJ6_coder_10 (by decide) ?_
    obtain ⟨z4, hF⟩ := gYe hF
    have hz := (Option.some.inj hF)
    subst hz
    exact crz S hM hr hlocks (gYn z4) dJ6_coder_14
def fJ6_length (F : Nat) (h0 : HS) (x0 : Nat) : Option (Int32) := ((fR h0 x0 17 17 0).bind fun a1 => ((aL h0 a1 32 32).bind fun v2 => gT h0 x0 17 17 (((fJ6_coder F h0 x0).bind fun r3 => some (v2 >>> (r3 &&& 31))))))
theorem hyJ6_length : yJ6_length.cls ≠ "java/lang/invoke/MethodHandle" ∧ yJ6_length.cls ≠ "java/lang/invoke/VarHandle" := by decide +kernel
theorem hlJ6_length : (parseMethodDescriptor yJ6_length.desc).map (fun d => d.parameters.length) = some 0 := by decide +kernel
set_option maxHeartbeats 4000000 in
set_option maxRecDepth 100000 in
theorem metJ6_length (l : Launch) [NoTr l] (F : Nat) (D : va_G) (h0 : HS) (x0 : Nat) (r : Int32) (hF : fJ6_length F h0 x0 = some r) : CMet l yJ6_length (ws_ yJ6_length cJ6_length 1 (some .int)) 1 20 D [.ref x0] h0 h0 (.inr (some (.int r))) := by
  refine CMet.ofW (by decide) ?_
  intro p e s m below meth c s₁ B S hX hM hr hlocks hnt hin
  obtain ⟨hx, hb, hml, hown, hts⟩ := id S
  have hl := lv_entry ([.ref x0]) (n := 1) (Nat.le_of_ble_eq_true rfl)
  rw [lg_entry_eq]
  generalize (lg_sl ([.ref x0]) ++ List.replicate (1 - (lg_sl ([.ref x0])).length) Slot.unset).toArray = ls at hl ⊢
  have hl : lv_has ls 1 [(0, .ref x0)] := hl
  unfold fJ6_length at hF
  refine lv_aload_n hx hb dJ6_length_0 rfl (lv_at hl 0 rfl) ?_
  obtain ⟨a1, ea1, hF⟩ := obn hF
  refine cgn S hX hM ea1 ck_17_17_0 q694 (fun _ h => h) dJ6_length_1 ?_
  obtain ⟨v2, ev2, hF⟩ := obn hF
  refine cal S hX hM ev2 (by decide) (by decide) dJ6_length_4 ?_
  refine lv_aload_n hx hb dJ6_length_5 rfl (lv_at hl 0 rfl) ?_
  obtain ⟨z3, hF⟩ := gTe hF
  obtain ⟨r3, er3, hF⟩ := obn hF
  refine ccr (rest := [.int v2]) (st1 := [.int r3, .int v2]) S hX hM (metJ6_coder l F D h0 x0 r3 er3) (ci_V (C := "java/lang/String") (As := []) (rest := [.int v2]) S q872 q873 q874 q875 hyJ6_coder (HI.cell (ci := 16) hX hM (by decide) (by omega)) hlJ6_coder rfl dJ6_length_6) q875 q116 (Nat.le_of_ble_eq_true rfl) (Nat.le_of_ble_eq_true rfl) hl.1 (Nat.le_of_ble_eq_true rfl) rfl (fun H locs cs ss hM => ?_)
  refine lv_ishr hx hb dJ6_length_9 ?_
  have hz := (Option.some.inj hF)
  subst hz
  exact cri S hM hr hlocks dJ6_length_10
def fJ4_inflateIfNeededFor (F : Nat) (h0 : HS) (x0 : Nat) (x1 : Nat) : Option (Unit) := ((oI h0 x0 16 16 1).bind fun v3 => gT h0 x1 17 17 (((fJ6_coder F h0 x1).bind fun r4 => (if v3 = r4 then (some ()) else (gT h0 x0 16 16 (((fJ4_inflate F h0 x0).bind fun r6 => some ())))))))
theorem hyJ4_inflateIfNeededFor : yJ4_inflateIfNeededFor.cls ≠ "java/lang/invoke/MethodHandle" ∧ yJ4_inflateIfNeededFor.cls ≠ "java/lang/invoke/VarHandle" := by decide +kernel
theorem hlJ4_inflateIfNeededFor : (parseMethodDescriptor yJ4_inflateIfNeededFor.desc).map (fun d => d.parameters.length) = some 1 := by decide +kernel
set_option maxHeartbeats 4000000 in
set_option maxRecDepth 100000 in
theorem metJ4_inflateIfNeededFor (l : Launch) [NoTr l] (F : Nat) (D : va_G) (h0 : HS) (x0 : Nat) (x1 : Nat) (r : Unit) (hF : fJ4_inflateIfNeededFor F h0 x0 x1 = some r) : CMet l yJ4_inflateIfNeededFor (ws_ yJ4_inflateIfNeededFor cJ4_inflateIfNeededFor 2 none) 2 45 D [.ref x0, .ref x1] h0 h0 (.inr none) := by
  refine CMet.ofW (by decide) ?_
  intro p e s m below meth c s₁ B S hX hM hr hlocks hnt hin
  obtain ⟨hx, hb, hml, hown, hts⟩ := id S
  have hl := lv_entry ([.ref x0, .ref x1]) (n := 2) (Nat.le_of_ble_eq_true rfl)
  rw [lg_entry_eq]
  generalize (lg_sl ([.ref x0, .ref x1]) ++ List.replicate (2 - (lg_sl ([.ref x0, .ref x1])).length) Slot.unset).toArray = ls at hl ⊢
  have hl : lv_has ls 2 [(0, .ref x0), (1, .ref x1)] := hl
  unfold fJ4_inflateIfNeededFor at hF
  refine cst (ref := "") S hM (ust3 hX) q527 dJ4_inflateIfNeededFor_0 ?_
  refine lv_if_eq (tgt := 21) hx hb dJ4_inflateIfNeededFor_3 (by decide) (fun c2 => ?_) (fun c2 => ?_)
  · exact absurd c2 (by decide)
  · refine lv_aload_n hx hb dJ4_inflateIfNeededFor_6 rfl (lv_at hl 0 rfl) ?_
    obtain ⟨v3, ev3, hF⟩ := obn hF
    refine cgi S hX hM ev3 ck_16_16_1 q537 (fun _ h => h) dJ4_inflateIfNeededFor_7 ?_
    refine lv_aload_n hx hb dJ4_inflateIfNeededFor_10 rfl (lv_at hl 1 rfl) ?_
    obtain ⟨z4, hF⟩ := gTe hF
    obtain ⟨r4, er4, hF⟩ := obn hF
    refine ccr (rest := [.int v3]) (st1 := [.int r4, .int v3]) S hX hM (metJ6_coder l F D h0 x1 r4 er4) (ci_V (C := "java/lang/String") (As := []) (rest := [.int v3]) S q884 q873 q874 q875 hyJ6_coder (HI.cell (ci := 16) hX hM (by decide) (by omega)) hlJ6_coder rfl dJ4_inflateIfNeededFor_11) q875 q116 (Nat.le_of_ble_eq_true rfl) (Nat.le_of_ble_eq_true rfl) hl.1 (Nat.le_of_ble_eq_true rfl) rfl (fun H locs cs ss hM => ?_)
    refine lv_icmp_eq (tgt := 21) hx hb dJ4_inflateIfNeededFor_14 (by decide) (fun c5 => ?_) (fun c5 => ?_)
    · have hF := ifp hF c5
      have hz := (Option.some.inj hF)
      subst hz
      exact crv S hM hr hlocks dJ4_inflateIfNeededFor_21
    · have hF := ifn hF c5
      refine lv_aload_n hx hb dJ4_inflateIfNeededFor_17 rfl (lv_at hl 0 rfl) ?_
      obtain ⟨z6, hF⟩ := gTe hF
      obtain ⟨r6, er6, hF⟩ := obn hF
      refine ccr (rest := []) (st1 := []) S hX hM (metJ4_inflate l F D h0 x0 r6 er6) (ci_P (C := "java/lang/StringBuilder") (As := []) (rest := []) S q599 q2324 q601 (uq600 hX) q602 hyJ4_inflate (HI.cell (ci := 15) hX hM (by decide) (by omega)) hlJ4_inflate rfl dJ4_inflateIfNeededFor_18) q602 q114 (Nat.le_of_ble_eq_true rfl) (Nat.le_of_ble_eq_true rfl) hl.1 (Nat.le_of_ble_eq_true rfl) rfl (fun H locs cs ss hM => ?_)
      have hz := (Option.some.inj hF)
      subst hz
      exact crv S hM hr hlocks dJ4_inflateIfNeededFor_21
def fJ6_getBytes (F : Nat) (h0 : HS) (x0 : Nat) (x1 : Nat) (x2 : Int32) (x3 : Int32) : Option (HS) := gT h0 x0 17 17 (((fJ6_coder F h0 x0).bind fun r1 => (if r1 = x3 then ((fR h0 x0 17 17 0).bind fun a7 => ((fR h0 x0 17 17 0).bind fun a8 => ((aL h0 a8 32 32).bind fun v9 => ((xC h0 a7 x1 32 0 (x2 <<< (x3 &&& 31)) v9).bind fun σ10 => some σ10)))) else ((fR h0 x0 17 17 0).bind fun a3 => ((fR h0 x0 17 17 0).bind fun a4 => ((aL h0 a4 32 32).bind fun v5 => ((fJ10_inflate F h0 a3 0 x1 x2 v5).bind fun r6 => some h0)))))))
theorem hyJ6_getBytes : yJ6_getBytes.cls ≠ "java/lang/invoke/MethodHandle" ∧ yJ6_getBytes.cls ≠ "java/lang/invoke/VarHandle" := by decide +kernel
theorem hlJ6_getBytes : (parseMethodDescriptor yJ6_getBytes.desc).map (fun d => d.parameters.length) = some 3 := by decide +kernel
set_option maxHeartbeats 4000000 in
set_option maxRecDepth 100000 in
theorem metJ6_getBytes (l : Launch) [NoTr l] (F : Nat) (D : va_G) (h0 : HS) (x0 : Nat) (x1 : Nat) (x2 : Int32) (x3 : Int32) (r : HS) (hF : fJ6_getBytes F h0 x0 x1 x2 x3 = some r) : CMet l yJ6_getBytes (ws_ yJ6_getBytes cJ6_getBytes 4 none) 1 60 D [.ref x0, .ref x1, .int x2, .int x3] h0 r (.inr none) := by
  refine CMet.ofW (by decide) ?_
  intro p e s m below meth c s₁ B S hX hM hr hlocks hnt hin
  obtain ⟨hx, hb, hml, hown, hts⟩ := id S
  have hl := lv_entry ([.ref x0, .ref x1, .int x2, .int x3]) (n := 4) (Nat.le_of_ble_eq_true rfl)
  rw [lg_entry_eq]
  generalize (lg_sl ([.ref x0, .ref x1, .int x2, .int x3]) ++ List.replicate (4 - (lg_sl ([.ref x0, .ref x1, .int x2, .int x3])).length) Slot.unset).toArray = ls at hl ⊢
  have hl : lv_has ls 4 [(0, .ref x0), (1, .ref x1), (2, .int x2), (3, .int x3)] := hl
  unfold fJ6_getBytes at hF
  refine lv_aload_n hx hb dJ6_getBytes_0 rfl (lv_at hl 0 rfl) ?_
  obtain ⟨z1, hF⟩ := gTe hF
  obtain ⟨r1, er1, hF⟩ := obn hF
  refine ccr (rest := []) (st1 := [.int r1]) S hX hM (metJ6_coder l F D h0 x0 r1 er1) (ci_V (C := "java/lang/String") (As := []) (rest := []) S q872 q873 q874 q875 hyJ6_coder (HI.cell (ci := 16) hX hM (by decide) (by omega)) hlJ6_coder rfl dJ6_getBytes_1) q875 q116 (Nat.le_of_ble_eq_true rfl) (Nat.le_of_ble_eq_true rfl) hl.1 (Nat.le_of_ble_eq_true rfl) rfl (fun H locs cs ss hM => ?_)
  refine lv_iload_n hx hb dJ6_getBytes_4 rfl (lv_at hl 3 rfl) ?_
  refine lv_icmp_ne (tgt := 28) hx hb dJ6_getBytes_5 (by decide) (fun c2 => ?_) (fun c2 => ?_)
  · have hF := ifn hF c2
    refine lv_aload_n hx hb dJ6_getBytes_28 rfl (lv_at hl 0 rfl) ?_
    obtain ⟨a3, ea3, hF⟩ := obn hF
    refine cgn S hX hM ea3 ck_17_17_0 q694 (fun _ h => h) dJ6_getBytes_29 ?_
    refine lv_iconst (v := 0) hx hb dJ6_getBytes_32 rfl ?_
    refine lv_aload_n hx hb dJ6_getBytes_33 rfl (lv_at hl 1 rfl) ?_
    refine lv_iload_n hx hb dJ6_getBytes_34 rfl (lv_at hl 2 rfl) ?_
    refine lv_aload_n hx hb dJ6_getBytes_35 rfl (lv_at hl 0 rfl) ?_
    obtain ⟨a4, ea4, hF⟩ := obn hF
    refine cgn S hX hM ea4 ck_17_17_0 q694 (fun _ h => h) dJ6_getBytes_36 ?_
    obtain ⟨v5, ev5, hF⟩ := obn hF
    refine cal S hX hM ev5 (by decide) (by decide) dJ6_getBytes_39 ?_
    obtain ⟨r6, er6, hF⟩ := obn hF
    refine ccr (rest := []) (st1 := []) S hX hM (metJ10_inflate l F D h0 a3 0 x1 x2 v5 r6 er6) (ci_S (As := [.ref a3, .int 0, .ref x1, .int x2, .int v5]) (rest := []) S q890 q604 q121 q605 hyJ10_inflate hlJ10_inflate rfl dJ6_getBytes_40) q605 q121 (Nat.le_of_ble_eq_true rfl) (Nat.le_of_ble_eq_true rfl) hl.1 (Nat.le_of_ble_eq_true rfl) rfl (fun H locs cs ss hM => ?_)
    have hz := (Option.some.inj hF)
    subst hz
    exact crv S hM hr hlocks dJ6_getBytes_43
  · have hF := ifp hF c2
    refine lv_aload_n hx hb dJ6_getBytes_8 rfl (lv_at hl 0 rfl) ?_
    obtain ⟨a7, ea7, hF⟩ := obn hF
    refine cgn S hX hM ea7 ck_17_17_0 q694 (fun _ h => h) dJ6_getBytes_9 ?_
    refine lv_iconst (v := 0) hx hb dJ6_getBytes_12 rfl ?_
    refine lv_aload_n hx hb dJ6_getBytes_13 rfl (lv_at hl 1 rfl) ?_
    refine lv_iload_n hx hb dJ6_getBytes_14 rfl (lv_at hl 2 rfl) ?_
    refine lv_iload_n hx hb dJ6_getBytes_15 rfl (lv_at hl 3 rfl) ?_
    refine lv_ishl hx hb dJ6_getBytes_16 ?_
    refine lv_aload_n hx hb dJ6_getBytes_17 rfl (lv_at hl 0 rfl) ?_
    obtain ⟨a8, ea8, hF⟩ := obn hF
    refine cgn S hX hM ea8 ck_17_17_0 q694 (fun _ h => h) dJ6_getBytes_18 ?_
    obtain ⟨v9, ev9, hF⟩ := obn hF
    refine cal S hX hM ev9 (by decide) (by decide) dJ6_getBytes_21 ?_
    obtain ⟨σ10, eσ10, hF⟩ := obn hF
    refine ccopyb S hX hM eσ10 q889 q590 q589 q120 (Nat.le_of_ble_eq_true rfl) (Nat.le_of_ble_eq_true rfl) hl.1 dJ6_getBytes_22 (fun H locs hM => ?_)
    refine lv_goto (tgt := 43) hx hb dJ6_getBytes_25 (by decide) ?_
    have hz := (Option.some.inj hF)
    subst hz
    exact crv S hM hr hlocks dJ6_getBytes_43
def fJ4_putStringAt (F : Nat) (h0 : HS) (x0 : Nat) (x1 : Int32) (x2 : Nat) : Option (HS) := gT h0 x0 16 16 (((fJ4_inflateIfNeededFor F h0 x0 x2).bind fun r1 => ((fR h0 x0 16 16 0).bind fun a2 => ((oI h0 x0 16 16 1).bind fun v3 => gT h0 x2 17 17 (((fJ6_getBytes F h0 x2 a2 x1 v3).bind fun r4 => some r4))))))
theorem hyJ4_putStringAt : yJ4_putStringAt.cls ≠ "java/lang/invoke/MethodHandle" ∧ yJ4_putStringAt.cls ≠ "java/lang/invoke/VarHandle" := by decide +kernel
theorem hlJ4_putStringAt : (parseMethodDescriptor yJ4_putStringAt.desc).map (fun d => d.parameters.length) = some 2 := by decide +kernel
set_option maxHeartbeats 4000000 in
set_option maxRecDepth 100000 in
theorem metJ4_putStringAt (l : Launch) [NoTr l] (F : Nat) (D : va_G) (h0 : HS) (x0 : Nat) (x1 : Int32) (x2 : Nat) (r : HS) (hF : fJ4_putStringAt F h0 x0 x1 x2 = some r) : CMet l yJ4_putStringAt (ws_ yJ4_putStringAt cJ4_putStringAt 3 none) 3 83 D [.ref x0, .int x1, .ref x2] h0 r (.inr none) := by
  refine CMet.ofW (by decide) ?_
  intro p e s m below meth c s₁ B S hX hM hr hlocks hnt hin
  obtain ⟨hx, hb, hml, hown, hts⟩ := id S
  have hl := lv_entry ([.ref x0, .int x1, .ref x2]) (n := 3) (Nat.le_of_ble_eq_true rfl)
  rw [lg_entry_eq]
  generalize (lg_sl ([.ref x0, .int x1, .ref x2]) ++ List.replicate (3 - (lg_sl ([.ref x0, .int x1, .ref x2])).length) Slot.unset).toArray = ls at hl ⊢
  have hl : lv_has ls 3 [(0, .ref x0), (1, .int x1), (2, .ref x2)] := hl
  unfold fJ4_putStringAt at hF
  refine lv_aload_n hx hb dJ4_putStringAt_0 rfl (lv_at hl 0 rfl) ?_
  refine lv_aload_n hx hb dJ4_putStringAt_1 rfl (lv_at hl 2 rfl) ?_
  obtain ⟨z1, hF⟩ := gTe hF
  obtain ⟨r1, er1, hF⟩ := obn hF
  refine ccr (rest := []) (st1 := []) S hX hM (metJ4_inflateIfNeededFor l F D h0 x0 x2 r1 er1) (ci_P (C := "java/lang/StringBuilder") (As := [.ref x2]) (rest := []) S q880 q2337 q882 (uq881 hX) q883 hyJ4_inflateIfNeededFor (HI.cell (ci := 15) hX hM (by decide) (by omega)) hlJ4_inflateIfNeededFor rfl dJ4_putStringAt_2) q883 q114 (Nat.le_of_ble_eq_true rfl) (Nat.le_of_ble_eq_true rfl) hl.1 (Nat.le_of_ble_eq_true rfl) rfl (fun H locs cs ss hM => ?_)
  refine lv_aload_n hx hb dJ4_putStringAt_5 rfl (lv_at hl 2 rfl) ?_
  refine lv_aload_n hx hb dJ4_putStringAt_6 rfl (lv_at hl 0 rfl) ?_
  obtain ⟨a2, ea2, hF⟩ := obn hF
  refine cgn S hX hM ea2 ck_16_16_0 q536 (fun _ h => h) dJ4_putStringAt_7 ?_
  refine lv_iload_n hx hb dJ4_putStringAt_10 rfl (lv_at hl 1 rfl) ?_
  refine lv_aload_n hx hb dJ4_putStringAt_11 rfl (lv_at hl 0 rfl) ?_
  obtain ⟨v3, ev3, hF⟩ := obn hF
  refine cgi S hX hM ev3 ck_16_16_1 q537 (fun _ h => h) dJ4_putStringAt_12 ?_
  obtain ⟨z4, hF⟩ := gTe hF
  obtain ⟨r4, er4, hF⟩ := obn hF
  refine ccr (rest := []) (st1 := []) S hX hM (metJ6_getBytes l F D h0 x2 a2 x1 v3 r4 er4) (ci_V (C := "java/lang/String") (As := [.ref a2, .int x1, .int v3]) (rest := []) S q885 q886 q887 q888 hyJ6_getBytes (HI.cell (ci := 16) hX hM (by decide) (by omega)) hlJ6_getBytes rfl dJ4_putStringAt_15) q888 q116 (Nat.le_of_ble_eq_true rfl) (Nat.le_of_ble_eq_true rfl) hl.1 (Nat.le_of_ble_eq_true rfl) rfl (fun H locs cs ss hM => ?_)
  have hz := (Option.some.inj hF)
  subst hz
  exact crv S hM hr hlocks dJ4_putStringAt_18
def fJ4_append_2 (F : Nat) (h0 : HS) (x0 : Nat) (x1 : Nat) : Option (Nat × HS) := gT h0 x1 17 17 (((fJ6_length F h0 x1).bind fun r1 => ((oI h0 x0 16 16 3).bind fun v2 => gT h0 x0 16 16 (((fJ4_ensureCapacityInternal F h0 x0 (v2 + r1)).bind fun r3 => ((oI r3 x0 16 16 3).bind fun v4 => gT r3 x0 16 16 (((fJ4_putStringAt F r3 x0 v4 x1).bind fun r5 => ((oI r5 x0 16 16 3).bind fun v6 => ((pI r5 x0 16 16 3 (v6 + r1)).bind fun σ7 => some (x0, σ7)))))))))))
theorem hyJ4_append_2 : yJ4_append_2.cls ≠ "java/lang/invoke/MethodHandle" ∧ yJ4_append_2.cls ≠ "java/lang/invoke/VarHandle" := by decide +kernel
theorem hlJ4_append_2 : (parseMethodDescriptor yJ4_append_2.desc).map (fun d => d.parameters.length) = some 1 := by decide +kernel
set_option maxHeartbeats 4000000 in
set_option maxRecDepth 100000 in
theorem metJ4_append_2 (l : Launch) [NoTr l] (F : Nat) (D : va_G) (h0 : HS) (x0 : Nat) (x1 : Nat) (r : Nat × HS) (hF : fJ4_append_2 F h0 x0 x1 = some r) : CMet l yJ4_append_2 (ws_ yJ4_append_2 cJ4_append_2 3 (some (.object "java/lang/AbstractStringBuilder"))) 6 134 D [.ref x0, .ref x1] h0 r.2 (.inr (some (.ref r.1))) := by
  refine CMet.ofW (by decide) ?_
  intro p e s m below meth c s₁ B S hX hM hr hlocks hnt hin
  obtain ⟨hx, hb, hml, hown, hts⟩ := id S
  have hl := lv_entry ([.ref x0, .ref x1]) (n := 3) (Nat.le_of_ble_eq_true rfl)
  rw [lg_entry_eq]
  generalize (lg_sl ([.ref x0, .ref x1]) ++ List.replicate (3 - (lg_sl ([.ref x0, .ref x1])).length) Slot.unset).toArray = ls at hl ⊢
  have hl : lv_has ls 3 [(0, .ref x0), (1, .ref x1)] := hl
  unfold fJ4_append_2 at hF
  refine lv_aload_n hx hb dJ4_append_2_0 rfl (lv_at hl 1 rfl) ?_
  refine lv_ifnonnull (tgt := 9) hx hb dJ4_append_2_1 (by decide) ?_
  refine lv_aload_n hx hb dJ4_append_2_9 rfl (lv_at hl 1 rfl) ?_
  obtain ⟨z1, hF⟩ := gTe hF
  obtain ⟨r1, er1, hF⟩ := obn hF
  refine ccr (rest := []) (st1 := [.int r1]) S hX hM (metJ6_length l F D h0 x1 r1 er1) (ci_V (C := "java/lang/String") (As := []) (rest := []) S q868 q869 q870 q871 hyJ6_length (HI.cell (ci := 16) hX hM (by decide) (by omega)) hlJ6_length rfl dJ4_append_2_10) q871 q116 (Nat.le_of_ble_eq_true rfl) (Nat.le_of_ble_eq_true rfl) hl.1 (Nat.le_of_ble_eq_true rfl) rfl (fun H locs cs ss hM => ?_)
  refine lv_istore_n (lv' := [(2, .int r1), (0, .ref x0), (1, .ref x1)]) hx hb dJ4_append_2_13 rfl hl (by decide) rfl (fun ls hl => ?_)
  refine lv_aload_n hx hb dJ4_append_2_14 rfl (lv_at hl 1 rfl) ?_
  refine lv_aload_n hx hb dJ4_append_2_15 rfl (lv_at hl 1 rfl) ?_
  obtain ⟨v2, ev2, hF⟩ := obn hF
  refine cgi S hX hM ev2 ck_16_16_3 q539 (fun _ h => h) dJ4_append_2_16 ?_
  refine lv_iload_n hx hb dJ4_append_2_19 rfl (lv_at hl 0 rfl) ?_
  refine lv_iadd hx hb dJ4_append_2_20 ?_
  obtain ⟨z3, hF⟩ := gTe hF
  obtain ⟨r3, er3, hF⟩ := obn hF
  refine ccr (rest := []) (st1 := []) S hX hM (metJ4_ensureCapacityInternal l F D h0 x0 (v2 + r1) r3 er3) (ci_P (C := "java/lang/StringBuilder") (As := [.int (v2 + r1)]) (rest := []) S q556 q2322 q558 (uq557 hX) q559 hyJ4_ensureCapacityInternal (HI.cell (ci := 15) hX hM (by decide) (by omega)) hlJ4_ensureCapacityInternal rfl dJ4_append_2_21) q559 q114 (Nat.le_of_ble_eq_true rfl) (Nat.le_of_ble_eq_true rfl) hl.1 (Nat.le_of_ble_eq_true rfl) rfl (fun H locs cs ss hM => ?_)
  refine lv_aload_n hx hb dJ4_append_2_24 rfl (lv_at hl 1 rfl) ?_
  refine lv_aload_n hx hb dJ4_append_2_25 rfl (lv_at hl 1 rfl) ?_
  obtain ⟨v4, ev4, hF⟩ := obn hF
  refine cgi S hX hM ev4 ck_16_16_3 q539 (fun _ h => h) dJ4_append_2_26 ?_
  refine lv_aload_n hx hb dJ4_append_2_29 rfl (lv_at hl 2 rfl) ?_
  obtain ⟨z5, hF⟩ := gTe hF
  obtain ⟨r5, er5, hF⟩ := obn hF
  refine ccr (rest := []) (st1 := []) S hX hM (metJ4_putStringAt l F D r3 x0 v4 x1 r5 er5) (ci_P (C := "java/lang/StringBuilder") (As := [.int v4, .ref x1]) (rest := []) S q876 q2336 q878 (uq877 hX) q879 hyJ4_putStringAt (HI.cell (ci := 15) hX hM (by decide) (by omega)) hlJ4_putStringAt rfl dJ4_append_2_30) q879 q114 (Nat.le_of_ble_eq_true rfl) (Nat.le_of_ble_eq_true rfl) hl.1 (Nat.le_of_ble_eq_true rfl) rfl (fun H locs cs ss hM => ?_)
  refine lv_aload_n hx hb dJ4_append_2_33 rfl (lv_at hl 1 rfl) ?_
  refine lv_dup hx hb dJ4_append_2_34 rfl ?_
  obtain ⟨v6, ev6, hF⟩ := obn hF
  refine cgi S hX hM ev6 ck_16_16_3 q539 (fun _ h => h) dJ4_append_2_35 ?_
  refine lv_iload_n hx hb dJ4_append_2_38 rfl (lv_at hl 0 rfl) ?_
  refine lv_iadd hx hb dJ4_append_2_39 ?_
  obtain ⟨σ7, eσ7, hF⟩ := obn hF
  refine cpi S hX hM eσ7 ck_16_16_3 cw_16_16_3 rfl rfl q539 (fun _ h => h) dJ4_append_2_40 (fun H locs hM => ?_)
  refine lv_aload_n hx hb dJ4_append_2_43 rfl (lv_at hl 1 rfl) ?_
  have hz := (Option.some.inj hF)
  subst hz
  exact cra S hM hr (Or.inl ⟨_, rfl⟩) hlocks dJ4_append_2_44
