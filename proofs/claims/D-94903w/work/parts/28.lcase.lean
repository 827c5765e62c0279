/-! what is asked of each operation -/
def LO_feed (F b : Nat) (LR : Nat → HS → MS → Prop) : Prop := ∀ (n : Nat) (h : HS) (σ : MS) (x1 : Int32) (x2 : Int32) (x3 : Int32) (x4 : Int32) (x5 : Int32), LR (n + 1) h σ → ∃ (v : Int32) (h' : HS) (σ' : MS), fX1_feed F h b x1 x2 x3 x4 x5 = some (v, h') ∧ fX5_feed F σ x1 x2 x3 x4 x5 = some (v, σ') ∧ LR n h' σ'
def LO_end (F b : Nat) (LR : Nat → HS → MS → Prop) : Prop := ∀ (n : Nat) (h : HS) (σ : MS) (x1 : Int32), LR (n + 1) h σ → ∃ (v : Int32) (h' : HS) (σ' : MS), fX1_end F h b x1 = some (v, h') ∧ fX5_end σ x1 = (v, σ') ∧ LR n h' σ'
def LO_house (F b : Nat) (LR : Nat → HS → MS → Prop) : Prop := ∀ (n : Nat) (h : HS) (σ : MS), LR (n + 1) h σ → ∃ (v : Int32) (h' : HS) (σ' : MS), fX1_house F h b = some (v, h') ∧ fX5_house F σ = some (v, σ') ∧ LR n h' σ'
def LO_fault (F b : Nat) (LR : Nat → HS → MS → Prop) : Prop := ∀ (n : Nat) (h : HS) (σ : MS), LR (n + 1) h σ → ∃ (v : Int32) (σ' : MS), fX1_fault F h b = some v ∧ fX5_fault σ = (v, σ') ∧ LR n h σ'
def LO_person (F b o : Nat) (LR : Nat → HS → MS → Prop) : Prop := ∀ (n : Nat) (h : HS) (σ : MS) (x1 x2 : Int32), LR (n + 1) h σ → ∃ (k v : Int32) (h' : HS) (σ' : MS), fX0_person F h b x1 x2 o = some (k, h') ∧ fX5_person F σ x1 x2 = some (v, σ') ∧ gI σ' 0 = k ∧ (k = 0 → kI h' o 0 = v) ∧ LR n h' σ'
def LO_tuft (F b o : Nat) (LR : Nat → HS → MS → Prop) : Prop := ∀ (n : Nat) (h : HS) (σ : MS) (x1 x2 : Int32), LR (n + 1) h σ → ∃ (k v : Int32) (h' : HS) (σ' : MS), fX0_tuft F h b x1 x2 o = some (k, h') ∧ fX5_tuft F σ x1 x2 = some (v, σ') ∧ gI σ' 0 = k ∧ (k = 0 → kI h' o 0 = v) ∧ LR n h' σ'
def LO_way (F b : Nat) (LR : Nat → HS → MS → Prop) : Prop := ∀ (n : Nat) (h : HS) (σ : MS) (x1 : Int32) (x2 : Int32), LR (n + 1) h σ → ∃ (v : Int32) (σ' : MS), fX1_way F h b x1 x2 = some v ∧ fX5_way F σ x1 x2 = some (v, σ') ∧ LR n h σ'
def LO_goes (F b : Nat) (LR : Nat → HS → MS → Prop) : Prop := ∀ (n : Nat) (h : HS) (σ : MS) (x1 : Int32) (x2 : Int32) (x3 : Int32), LR (n + 1) h σ → ∃ (v : Int32) (h' : HS) (σ' : MS), fX1_goes F h b x1 x2 x3 = some (v, h') ∧ fX5_goes F σ x1 x2 x3 = some (v, σ') ∧ LR n h' σ'
def LO_days (F b : Nat) (LR : Nat → HS → MS → Prop) : Prop := ∀ (n : Nat) (h : HS) (σ : MS) (x1 : Int32), LR (n + 1) h σ → ∃ (v : Int32) (h' : HS) (σ' : MS), fX1_days F h b x1 = some (v, h') ∧ fX5_days F σ x1 = some (v, σ') ∧ LR n h' σ'
def LO_beat (F b : Nat) (LR : Nat → HS → MS → Prop) : Prop := ∀ (n : Nat) (h : HS) (σ : MS) (x1 : Int32) (x2 : Int32), LR (n + 1) h σ → ∃ (v : Int32) (h' : HS) (σ' : MS), fX1_beat F h b x1 x2 = some (v, h') ∧ fX5_beat F σ x1 x2 = some (v, σ') ∧ LR n h' σ'
def LO_undo (F b : Nat) (LR : Nat → HS → MS → Prop) : Prop := ∀ (n : Nat) (h : HS) (σ : MS), LR (n + 1) h σ → ∃ (v : Int32) (h' : HS) (σ' : MS), fX1_undo F h b = some (v, h') ∧ fX5_undo F σ = some (v, σ') ∧ LR n h' σ'
def LO_hidden (F b : Nat) (LR : Nat → HS → MS → Prop) : Prop := ∀ (n : Nat) (h : HS) (σ : MS) (x1 : Int32), LR (n + 1) h σ → ∃ (v : Int32) (σ' : MS), fX1_hidden F h b x1 = some v ∧ fX5_hidden F σ x1 = some (v, σ') ∧ LR n h σ'
def LO_missing (F b : Nat) (LR : Nat → HS → MS → Prop) : Prop := ∀ (n : Nat) (h : HS) (σ : MS) (x1 : Int32), LR (n + 1) h σ → ∃ (v : Int32) (σ' : MS), fX1_missing F h b x1 = some v ∧ fX5_missing F σ x1 = some (v, σ') ∧ LR n h σ'
def LO_soles (F b : Nat) (LR : Nat → HS → MS → Prop) : Prop := ∀ (n : Nat) (h : HS) (σ : MS) (x1 : Int32), LR (n + 1) h σ → ∃ (v : Int32) (σ' : MS), fX1_soles F h b x1 = some v ∧ fX5_soles F σ x1 = some (v, σ') ∧ LR n h σ'
def LO_deepest (F b : Nat) (LR : Nat → HS → MS → Prop) : Prop := ∀ (n : Nat) (h : HS) (σ : MS), LR (n + 1) h σ → ∃ (v : Int32) (σ' : MS), fX1_deepest F h b = some v ∧ fX5_deepest F σ = some (v, σ') ∧ LR n h σ'
def LO_who (F b : Nat) (LR : Nat → HS → MS → Prop) : Prop := ∀ (n : Nat) (h : HS) (σ : MS) (x1 : Int32), LR (n + 1) h σ → ∃ (v : Int32) (σ' : MS), fX1_who F h b x1 = some v ∧ fX5_who F σ x1 = some (v, σ') ∧ LR n h σ'
def LO_age (F b : Nat) (LR : Nat → HS → MS → Prop) : Prop := ∀ (n : Nat) (h : HS) (σ : MS) (x1 : Int32) (x2 : Int32), LR (n + 1) h σ → ∃ (v : Int32) (σ' : MS), fX1_age F h b x1 x2 = some v ∧ fX5_age F σ x1 x2 = some (v, σ') ∧ LR n h σ'
def LO_readings (F b : Nat) (LR : Nat → HS → MS → Prop) : Prop := ∀ (n : Nat) (h : HS) (σ : MS), LR (n + 1) h σ → ∃ (v : Int32) (h' : HS) (σ' : MS), fX1_readings F (rTW F 10) h b = some (v, h') ∧ fX5_readings F σ = some (v, σ') ∧ LR n h' σ'
def LO_read (F b : Nat) (LR : Nat → HS → MS → Prop) : Prop := ∀ (n : Nat) (h : HS) (σ : MS) (x1 : Int32) (x2 : Int32), LR (n + 1) h σ → ∃ (v : Int32) (σ' : MS), fX1_read F h b x1 x2 = some v ∧ fX5_read F σ x1 x2 = some (v, σ') ∧ LR n h σ'
def LO_fewest (F b : Nat) (LR : Nat → HS → MS → Prop) : Prop := ∀ (n : Nat) (h : HS) (σ : MS), LR (n + 1) h σ → ∃ (v : Int32) (σ' : MS), fX1_fewest F h b = some v ∧ fX5_fewest σ = (v, σ') ∧ LR n h σ'
def LO_sign (F b : Nat) (LR : Nat → HS → MS → Prop) : Prop := ∀ (n : Nat) (h : HS) (σ : MS) (x1 : Int32) (x2 : Int32) (x3 : Int32), LR (n + 1) h σ → ∃ (v : Int32) (h' : HS) (σ' : MS), fX1_sign F h b x1 x2 x3 = some (v, h') ∧ fX5_sign_2 F σ x1 x2 x3 = some (v, σ') ∧ LR n h' σ'
def LO_steps (F b : Nat) (LR : Nat → HS → MS → Prop) : Prop := ∀ (n : Nat) (h : HS) (σ : MS) (x1 : Int32) (x2 : Int32) (x3 : Int32), LR (n + 1) h σ → ∃ (v : Int32) (h' : HS) (σ' : MS), fX1_steps F h b x1 x2 x3 = some (v, h') ∧ fX5_steps F σ x1 x2 x3 = some (v, σ') ∧ LR n h' σ'
def LO_walk (F b : Nat) (LR : Nat → HS → MS → Prop) : Prop := ∀ (n : Nat) (h : HS) (σ : MS), LR (n + 1) h σ → ∃ (v : Int32) (h' : HS) (σ' : MS), fX1_walk F h b = some (v, h') ∧ fX5_walk F σ = some (v, σ') ∧ LR n h' σ'
def LO_walked (F b : Nat) (LR : Nat → HS → MS → Prop) : Prop := ∀ (n : Nat) (h : HS) (σ : MS) (x1 : Int32), LR (n + 1) h σ → ∃ (v : Int32) (σ' : MS), fX1_walked F h b x1 = some v ∧ fX5_walked F σ x1 = some (v, σ') ∧ LR n h σ'
def LO_seen (F b : Nat) (LR : Nat → HS → MS → Prop) : Prop := ∀ (n : Nat) (h : HS) (σ : MS) (x1 : Int32) (x2 : Int32), LR (n + 1) h σ → ∃ (v : Int32) (h' : HS) (σ' : MS), fX1_seen F h b x1 x2 = some (v, h') ∧ fX5_seen F σ x1 x2 = some (v, σ') ∧ LR n h' σ'
def LO_lay (F b : Nat) (LR : Nat → HS → MS → Prop) : Prop := ∀ (n : Nat) (h : HS) (σ : MS) (x1 : Int32), LR (n + 1) h σ → ∃ (v : Int32) (σ' : MS), fX1_lay F h b x1 = some v ∧ fX5_lay F σ x1 = some (v, σ') ∧ LR n h σ'
def LO_spot (F b : Nat) (LR : Nat → HS → MS → Prop) : Prop := ∀ (n : Nat) (h : HS) (σ : MS), LR (n + 1) h σ → ∃ (v : Int32) (σ' : MS), fX1_spot F h b = some v ∧ fX5_spot F σ = some (v, σ') ∧ LR n h σ'
def LO_ways (F b : Nat) (LR : Nat → HS → MS → Prop) : Prop := ∀ (n : Nat) (h : HS) (σ : MS) (x1 : Int32), LR (n + 1) h σ → ∃ (v : Int32) (σ' : MS), fX1_ways F h b x1 = some v ∧ fX5_ways F σ x1 = some (v, σ') ∧ LR n h σ'
def LO_both (F b : Nat) (LR : Nat → HS → MS → Prop) : Prop := ∀ (n : Nat) (h : HS) (σ : MS) (x1 : Int32) (x2 : Int32), LR (n + 1) h σ → ∃ (v : Int32) (σ' : MS), fX1_both F h b x1 x2 = some v ∧ fX5_both F σ x1 x2 = some (v, σ') ∧ LR n h σ'
def LO_years (F b : Nat) (LR : Nat → HS → MS → Prop) : Prop := ∀ (n : Nat) (h : HS) (σ : MS) (x1 : Int32) (x2 : Int32) (x3 : Int32), LR (n + 1) h σ → ∃ (v : Int32) (h' : HS) (σ' : MS), fX1_years F h b x1 x2 x3 = some (v, h') ∧ fX5_years F σ x1 x2 x3 = some (v, σ') ∧ LR n h' σ'
def LO_rarest (F b : Nat) (LR : Nat → HS → MS → Prop) : Prop := ∀ (n : Nat) (h : HS) (σ : MS), LR (n + 1) h σ → ∃ (v : Int32) (σ' : MS), fX1_rarest F h b = some v ∧ fX5_rarest F σ = some (v, σ') ∧ LR n h σ'
def LO_sentence (F b : Nat) (LR : Nat → HS → MS → Prop) : Prop := ∀ (n : Nat) (h : HS) (σ : MS), LR (n + 1) h σ → ∃ (v : Int32) (h' : HS) (σ' : MS), fX1_sentence F (rOne F 12) h b = some (v, h') ∧ fX5_sentence F σ = some (v, σ') ∧ LR n h' σ'
def LO_said (F b : Nat) (LR : Nat → HS → MS → Prop) : Prop := ∀ (n : Nat) (h : HS) (σ : MS) (x1 : Int32), LR (n + 1) h σ → ∃ (v : Int32) (σ' : MS), fX1_said F (rHold F 60) h b x1 = some v ∧ fX5_said F σ x1 = some (v, σ') ∧ LR n h σ'
def LO_image (F b : Nat) (LR : Nat → HS → MS → Prop) : Prop := ∀ (n : Nat) (h : HS) (σ : MS) (x1 : Int32), LR (n + 1) h σ → ∃ (v : Int32) (h' : HS) (σ' : MS), fX1_image F h b x1 = some (v, h') ∧ fX5_image F σ x1 = some (v, σ') ∧ LR n h' σ'
def LO_restore (F b : Nat) (LR : Nat → HS → MS → Prop) : Prop := ∀ (n : Nat) (h : HS) (σ : MS) (x1 : Int32), LR (n + 1) h σ → ∃ (v : Int32) (h' : HS) (σ' : MS), fX1_restore F h b x1 = some (v, h') ∧ fX5_restore F σ x1 = some (v, σ') ∧ LR n h' σ'
def LO_count (F b : Nat) (LR : Nat → HS → MS → Prop) : Prop := ∀ (n : Nat) (h : HS) (σ : MS) (x1 : Int32), LR (n + 1) h σ → ∃ (v : Int32) (σ' : MS), fX1_count F h b x1 = some v ∧ fX5_count F σ x1 = some (v, σ') ∧ LR n h σ'
def LOK (F b o : Nat) (LR : Nat → HS → MS → Prop) : Prop := (∀ n h σ, LR n h σ → kT h b = 1 ∧ kT h o = 41 ∧ kN h o = 1) ∧ (∀ n h σ, LR (n + 1) h σ → LR n h σ) ∧ LO_feed F b LR ∧ LO_end F b LR ∧ LO_house F b LR ∧ LO_fault F b LR ∧ LO_person F b o LR ∧ LO_tuft F b o LR ∧ LO_way F b LR ∧ LO_goes F b LR ∧ LO_days F b LR ∧ LO_beat F b LR ∧ LO_undo F b LR ∧ LO_hidden F b LR ∧ LO_missing F b LR ∧ LO_soles F b LR ∧ LO_deepest F b LR ∧ LO_who F b LR ∧ LO_age F b LR ∧ LO_readings F b LR ∧ LO_read F b LR ∧ LO_fewest F b LR ∧ LO_sign F b LR ∧ LO_steps F b LR ∧ LO_walk F b LR ∧ LO_walked F b LR ∧ LO_seen F b LR ∧ LO_lay F b LR ∧ LO_spot F b LR ∧ LO_ways F b LR ∧ LO_both F b LR ∧ LO_years F b LR ∧ LO_rarest F b LR ∧ LO_sentence F b LR ∧ LO_said F b LR ∧ LO_image F b LR ∧ LO_restore F b LR ∧ LO_count F b LR
/-- what stays the same all through the law's walk -/
def LC (p : Program) (s : State) (m : MethodId) (args : Array Value) (c : Code) (D Dm : va_G) (h0 : HS) (bs L : Nat) (xs : Nat → Int32) : Prop :=
  CallFix p m c code 7 s args lw_all "RugReaderLaw" ∧ CX D (kG h0) s ∧ va_K Dm mCl (mTy Dm) s ∧ va_X bs L xs s s.heap ∧ bs < s.heap.size ∧ kG h0 0 = kZ h0 ∧ kZ h0 = s.heap.size ∧ L ≤ 384
section LCA
variable {p : Program} {l : Launch} {e : Env} {s : State} {m : MethodId} {args : Array Value} {below : List Frame} {meth : Method} {c : Code} {H : Heap} {locs : List Loc} {cs ss : Nat} {Q : State → Prop} {ls : Array Slot} {D Dm : va_G} {h0 h : HS} {bm z b o bs L j n F : Nat} {σ : MS} {xs : Nat → Int32} {LR : Nat → HS → MS → Prop}
set_option maxHeartbeats 4000000 in
theorem lc_feed [NoTr l] (C : LC p s m args c D Dm h0 bs L xs) (hLR : LR (n + 1) h σ) (hLW : LW D Dm h0 bm z h σ s H locs cs ss) (hj : 6 * j + 6 ≤ L) (hl : lv_has ls 7 [(0, .ref bs), (1, .ref b), (2, .ref bm), (3, .ref o), (4, .int (nI (6 * j)))]) (ho : LO_feed F b LR) (hT : kT h b = 1 ∧ True) (hk : ∀ (h' : HS) (σ' : MS) (H : Heap) (locs : List Loc) (cs ss : Nat) (ls : Array Slot), LR n h' σ' → LW D Dm h0 bm z h' σ' s H locs cs ss → lv_has ls 7 [(0, .ref bs), (1, .ref b), (2, .ref bm), (3, .ref o), (4, .int (nI (6 * j)))] → W p l e (cR 8192 100000 h0) s m args below meth c H locs cs ss Q (F0 m 1282 ls [])) : W p l e (cR 8192 100000 h0) s m args below meth c H locs cs ss Q (F0 m 200 ls []) := by
  obtain ⟨S, hX, hK, hXs, hbl, hg0, hz0, hL⟩ := C
  obtain ⟨hx, hb, hml, hown, hts⟩ := id S
  obtain ⟨v, h1, σ1, e1, e2, hLR⟩ := ho n h σ (xs (6 * j + 1)) (xs (6 * j + 2)) (xs (6 * j + 3)) (xs (6 * j + 4)) (xs (6 * j + 5)) hLR
  refine lv_aload_n hx hb dL_200 rfl (lv_at hl 1 rfl) ?_
  refine lv_aload_n hx hb dL_201 rfl (lv_at hl 0 rfl) ?_
  refine lv_iload hx hb dL_202 (lv_at hl 4 rfl) ?_
  refine lv_iconst (v := 1) hx hb dL_204 rfl ?_
  refine lv_iadd hx hb dL_205 ?_
  refine lscr S hXs hbl hLW (hg0.trans hz0) (6 * j + 1) (by omega) hL (nI_add _ _) dL_206 ?_
  refine lv_aload_n hx hb dL_207 rfl (lv_at hl 0 rfl) ?_
  refine lv_iload hx hb dL_208 (lv_at hl 4 rfl) ?_
  refine lv_iconst (v := 2) hx hb dL_210 rfl ?_
  refine lv_iadd hx hb dL_211 ?_
  refine lscr S hXs hbl hLW (hg0.trans hz0) (6 * j + 2) (by omega) hL (nI_add _ _) dL_212 ?_
  refine lv_aload_n hx hb dL_213 rfl (lv_at hl 0 rfl) ?_
  refine lv_iload hx hb dL_214 (lv_at hl 4 rfl) ?_
  refine lv_iconst (v := 3) hx hb dL_216 rfl ?_
  refine lv_iadd hx hb dL_217 ?_
  refine lscr S hXs hbl hLW (hg0.trans hz0) (6 * j + 3) (by omega) hL (nI_add _ _) dL_218 ?_
  refine lv_aload_n hx hb dL_219 rfl (lv_at hl 0 rfl) ?_
  refine lv_iload hx hb dL_220 (lv_at hl 4 rfl) ?_
  refine lv_iconst (v := 4) hx hb dL_222 rfl ?_
  refine lv_iadd hx hb dL_223 ?_
  refine lscr S hXs hbl hLW (hg0.trans hz0) (6 * j + 4) (by omega) hL (nI_add _ _) dL_224 ?_
  refine lv_aload_n hx hb dL_225 rfl (lv_at hl 0 rfl) ?_
  refine lv_iload hx hb dL_226 (lv_at hl 4 rfl) ?_
  refine lv_iconst (v := 5) hx hb dL_228 rfl ?_
  refine lv_iadd hx hb dL_229 ?_
  refine lscr S hXs hbl hLW (hg0.trans hz0) (6 * j + 5) (by omega) hL (nI_add _ _) dL_230 ?_
  refine lcall (maxL := 6) (rest := []) S hX hLW (metX1_feed l F D h b (xs (6 * j + 1)) (xs (6 * j + 2)) (xs (6 * j + 3)) (xs (6 * j + 4)) (xs (6 * j + 5)) (v, h1) e1) (li_V (C := "RugReader") (As := [.int (xs (6 * j + 1)), .int (xs (6 * j + 2)), .int (xs (6 * j + 3)), .int (xs (6 * j + 4)), .int (xs (6 * j + 5))]) (rest := []) S q421 q422 q423 (SigOK.of hts q424) hyX1_feed (HI.cell (ci := 0) hX hLW.1 (by decide) hT.1) hlX1_feed rfl dL_231) (pay_in hts (lw_meth q424)) (CodeOK.of hts q424) q103 (Nat.le_of_ble_eq_true rfl) (Nat.le_of_ble_eq_true rfl) hl.1 (Nat.le_of_ble_eq_true rfl) rfl (fun H locs cs ss hLW => ?_)
  refine lv_aload_n hx hb dL_234 rfl (lv_at hl 2 rfl) ?_
  refine lv_aload_n hx hb dL_235 rfl (lv_at hl 0 rfl) ?_
  refine lv_iload hx hb dL_236 (lv_at hl 4 rfl) ?_
  refine lv_iconst (v := 1) hx hb dL_238 rfl ?_
  refine lv_iadd hx hb dL_239 ?_
  refine lscr S hXs hbl hLW (hg0.trans hz0) (6 * j + 1) (by omega) hL (nI_add _ _) dL_240 ?_
  refine lv_aload_n hx hb dL_241 rfl (lv_at hl 0 rfl) ?_
  refine lv_iload hx hb dL_242 (lv_at hl 4 rfl) ?_
  refine lv_iconst (v := 2) hx hb dL_244 rfl ?_
  refine lv_iadd hx hb dL_245 ?_
  refine lscr S hXs hbl hLW (hg0.trans hz0) (6 * j + 2) (by omega) hL (nI_add _ _) dL_246 ?_
  refine lv_aload_n hx hb dL_247 rfl (lv_at hl 0 rfl) ?_
  refine lv_iload hx hb dL_248 (lv_at hl 4 rfl) ?_
  refine lv_iconst (v := 3) hx hb dL_250 rfl ?_
  refine lv_iadd hx hb dL_251 ?_
  refine lscr S hXs hbl hLW (hg0.trans hz0) (6 * j + 3) (by omega) hL (nI_add _ _) dL_252 ?_
  refine lv_aload_n hx hb dL_253 rfl (lv_at hl 0 rfl) ?_
  refine lv_iload hx hb dL_254 (lv_at hl 4 rfl) ?_
  refine lv_iconst (v := 4) hx hb dL_256 rfl ?_
  refine lv_iadd hx hb dL_257 ?_
  refine lscr S hXs hbl hLW (hg0.trans hz0) (6 * j + 4) (by omega) hL (nI_add _ _) dL_258 ?_
  refine lv_aload_n hx hb dL_259 rfl (lv_at hl 0 rfl) ?_
  refine lv_iload hx hb dL_260 (lv_at hl 4 rfl) ?_
  refine lv_iconst (v := 5) hx hb dL_262 rfl ?_
  refine lv_iadd hx hb dL_263 ?_
  refine lscr S hXs hbl hLW (hg0.trans hz0) (6 * j + 5) (by omega) hL (nI_add _ _) dL_264 ?_
  refine lmodel (As := [.int (xs (6 * j + 1)), .int (xs (6 * j + 2)), .int (xs (6 * j + 3)), .int (xs (6 * j + 4)), .int (xs (6 * j + 5))]) (rest := [.int v]) S hK hLW hg0 (metX5_feed l F Dm bm (adm z) σ (xs (6 * j + 1)) (xs (6 * j + 2)) (xs (6 * j + 3)) (xs (6 * j + 4)) (xs (6 * j + 5)) (v, σ1) e2) (lw_V q1729 q1730 q1731 q111 q1732) hdX5_feed ⟨rfl, rfl, Nat.le_of_ble_eq_true rfl, Nat.le_of_ble_eq_true rfl⟩ rfl hl.1 rfl rfl (Nat.le_of_ble_eq_true rfl) dL_265 (fun H locs hLW => ?_)
  refine lv_icmp_eq (tgt := 1282) hx hb dL_268 (by decide) (fun _ => ?_) (fun h9 => absurd rfl h9)
  exact hk _ _ _ _ _ _ _ hLR hLW hl
set_option maxHeartbeats 4000000 in
theorem lc_end [NoTr l] (C : LC p s m args c D Dm h0 bs L xs) (hLR : LR (n + 1) h σ) (hLW : LW D Dm h0 bm z h σ s H locs cs ss) (hj : 6 * j + 6 ≤ L) (hl : lv_has ls 7 [(0, .ref bs), (1, .ref b), (2, .ref bm), (3, .ref o), (4, .int (nI (6 * j)))]) (ho : LO_end F b LR) (hT : kT h b = 1 ∧ True) (hk : ∀ (h' : HS) (σ' : MS) (H : Heap) (locs : List Loc) (cs ss : Nat) (ls : Array Slot), LR n h' σ' → LW D Dm h0 bm z h' σ' s H locs cs ss → lv_has ls 7 [(0, .ref bs), (1, .ref b), (2, .ref bm), (3, .ref o), (4, .int (nI (6 * j)))] → W p l e (cR 8192 100000 h0) s m args below meth c H locs cs ss Q (F0 m 1282 ls [])) : W p l e (cR 8192 100000 h0) s m args below meth c H locs cs ss Q (F0 m 273 ls []) := by
  obtain ⟨S, hX, hK, hXs, hbl, hg0, hz0, hL⟩ := C
  obtain ⟨hx, hb, hml, hown, hts⟩ := id S
  obtain ⟨v, h1, σ1, e1, e2, hLR⟩ := ho n h σ (xs (6 * j + 1)) hLR
  refine lv_aload_n hx hb dL_273 rfl (lv_at hl 1 rfl) ?_
  refine lv_aload_n hx hb dL_274 rfl (lv_at hl 0 rfl) ?_
  refine lv_iload hx hb dL_275 (lv_at hl 4 rfl) ?_
  refine lv_iconst (v := 1) hx hb dL_277 rfl ?_
  refine lv_iadd hx hb dL_278 ?_
  refine lscr S hXs hbl hLW (hg0.trans hz0) (6 * j + 1) (by omega) hL (nI_add _ _) dL_279 ?_
  refine lcall (maxL := 2) (rest := []) S hX hLW (metX1_end l F D h b (xs (6 * j + 1)) (v, h1) e1) (li_V (C := "RugReader") (As := [.int (xs (6 * j + 1))]) (rest := []) S q429 q430 q431 (SigOK.of hts q432) hyX1_end (HI.cell (ci := 0) hX hLW.1 (by decide) hT.1) hlX1_end rfl dL_280) (pay_in hts (lw_meth q432)) (CodeOK.of hts q432) q103 (Nat.le_of_ble_eq_true rfl) (Nat.le_of_ble_eq_true rfl) hl.1 (Nat.le_of_ble_eq_true rfl) rfl (fun H locs cs ss hLW => ?_)
  refine lv_aload_n hx hb dL_283 rfl (lv_at hl 2 rfl) ?_
  refine lv_aload_n hx hb dL_284 rfl (lv_at hl 0 rfl) ?_
  refine lv_iload hx hb dL_285 (lv_at hl 4 rfl) ?_
  refine lv_iconst (v := 1) hx hb dL_287 rfl ?_
  refine lv_iadd hx hb dL_288 ?_
  refine lscr S hXs hbl hLW (hg0.trans hz0) (6 * j + 1) (by omega) hL (nI_add _ _) dL_289 ?_
  refine lmodel (As := [.int (xs (6 * j + 1))]) (rest := [.int v]) S hK hLW hg0 (metX5_end l Dm bm (adm z) σ (xs (6 * j + 1)) (v, σ1) e2) (lw_V q1738 q1739 q1740 q111 q1741) hdX5_end ⟨rfl, rfl, Nat.le_of_ble_eq_true rfl, Nat.le_of_ble_eq_true rfl⟩ rfl hl.1 rfl rfl (Nat.le_of_ble_eq_true rfl) dL_290 (fun H locs hLW => ?_)
  refine lv_icmp_eq (tgt := 1282) hx hb dL_293 (by decide) (fun _ => ?_) (fun h9 => absurd rfl h9)
  exact hk _ _ _ _ _ _ _ hLR hLW hl
set_option maxHeartbeats 4000000 in
theorem lc_house [NoTr l] (C : LC p s m args c D Dm h0 bs L xs) (hLR : LR (n + 1) h σ) (hLW : LW D Dm h0 bm z h σ s H locs cs ss) (hj : 6 * j + 6 ≤ L) (hl : lv_has ls 7 [(0, .ref bs), (1, .ref b), (2, .ref bm), (3, .ref o), (4, .int (nI (6 * j)))]) (ho : LO_house F b LR) (hT : kT h b = 1 ∧ True) (hk : ∀ (h' : HS) (σ' : MS) (H : Heap) (locs : List Loc) (cs ss : Nat) (ls : Array Slot), LR n h' σ' → LW D Dm h0 bm z h' σ' s H locs cs ss → lv_has ls 7 [(0, .ref bs), (1, .ref b), (2, .ref bm), (3, .ref o), (4, .int (nI (6 * j)))] → W p l e (cR 8192 100000 h0) s m args below meth c H locs cs ss Q (F0 m 1282 ls [])) : W p l e (cR 8192 100000 h0) s m args below meth c H locs cs ss Q (F0 m 298 ls []) := by
  obtain ⟨S, hX, hK, hXs, hbl, hg0, hz0, hL⟩ := C
  obtain ⟨hx, hb, hml, hown, hts⟩ := id S
  obtain ⟨v, h1, σ1, e1, e2, hLR⟩ := ho n h σ hLR
  refine lv_aload_n hx hb dL_298 rfl (lv_at hl 1 rfl) ?_
  refine lcall (maxL := 3) (rest := []) S hX hLW (metX1_house l F D h b (v, h1) e1) (li_V (C := "RugReader") (As := []) (rest := []) S q433 q434 q435 (SigOK.ofW hts q436) hyX1_house (HI.cell (ci := 0) hX hLW.1 (by decide) hT.1) hlX1_house rfl dL_299) (pay_in hts (lw_methW q436)) (CodeOK.ofW hts q436) q103 (Nat.le_of_ble_eq_true rfl) (Nat.le_of_ble_eq_true rfl) hl.1 (Nat.le_of_ble_eq_true rfl) rfl (fun H locs cs ss hLW => ?_)
  refine lv_aload_n hx hb dL_302 rfl (lv_at hl 2 rfl) ?_
  refine lmodel (As := []) (rest := [.int v]) S hK hLW hg0 (metX5_house l F Dm bm (adm z) σ (v, σ1) e2) (lw_V q1935 q1936 q1937 q111 q1938) hdX5_house ⟨rfl, rfl, Nat.le_of_ble_eq_true rfl, Nat.le_of_ble_eq_true rfl⟩ rfl hl.1 rfl rfl (Nat.le_of_ble_eq_true rfl) dL_303 (fun H locs hLW => ?_)
  refine lv_icmp_eq (tgt := 1282) hx hb dL_306 (by decide) (fun _ => ?_) (fun h9 => absurd rfl h9)
  exact hk _ _ _ _ _ _ _ hLR hLW hl
set_option maxHeartbeats 4000000 in
theorem lc_fault [NoTr l] (C : LC p s m args c D Dm h0 bs L xs) (hLR : LR (n + 1) h σ) (hLW : LW D Dm h0 bm z h σ s H locs cs ss) (hj : 6 * j + 6 ≤ L) (hl : lv_has ls 7 [(0, .ref bs), (1, .ref b), (2, .ref bm), (3, .ref o), (4, .int (nI (6 * j)))]) (ho : LO_fault F b LR) (hT : kT h b = 1 ∧ True) (hk : ∀ (h' : HS) (σ' : MS) (H : Heap) (locs : List Loc) (cs ss : Nat) (ls : Array Slot), LR n h' σ' → LW D Dm h0 bm z h' σ' s H locs cs ss → lv_has ls 7 [(0, .ref bs), (1, .ref b), (2, .ref bm), (3, .ref o), (4, .int (nI (6 * j)))] → W p l e (cR 8192 100000 h0) s m args below meth c H locs cs ss Q (F0 m 1282 ls [])) : W p l e (cR 8192 100000 h0) s m args below meth c H locs cs ss Q (F0 m 311 ls []) := by
  obtain ⟨S, hX, hK, hXs, hbl, hg0, hz0, hL⟩ := C
  obtain ⟨hx, hb, hml, hown, hts⟩ := id S
  obtain ⟨v, σ1, e1, e2, hLR⟩ := ho n h σ hLR
  refine lv_aload_n hx hb dL_311 rfl (lv_at hl 1 rfl) ?_
  refine lcall (maxL := 1) (rest := []) S hX hLW (metX1_fault l F D h b v e1) (li_V (C := "RugReader") (As := []) (rest := []) S q1137 q1138 q1139 (SigOK.of hts q1140) hyX1_fault (HI.cell (ci := 0) hX hLW.1 (by decide) hT.1) hlX1_fault rfl dL_312) (pay_in hts (lw_meth q1140)) (CodeOK.of hts q1140) q103 (Nat.le_of_ble_eq_true rfl) (Nat.le_of_ble_eq_true rfl) hl.1 (Nat.le_of_ble_eq_true rfl) rfl (fun H locs cs ss hLW => ?_)
  refine lv_aload_n hx hb dL_315 rfl (lv_at hl 2 rfl) ?_
  refine lmodel (As := []) (rest := [.int v]) S hK hLW hg0 (metX5_fault l Dm bm (adm z) σ (v, σ1) e2) (lw_V q2011 q2012 q2013 q111 q2014) hdX5_fault ⟨rfl, rfl, Nat.le_of_ble_eq_true rfl, Nat.le_of_ble_eq_true rfl⟩ rfl hl.1 rfl rfl (Nat.le_of_ble_eq_true rfl) dL_316 (fun H locs hLW => ?_)
  refine lv_icmp_eq (tgt := 1282) hx hb dL_319 (by decide) (fun _ => ?_) (fun h9 => absurd rfl h9)
  exact hk _ _ _ _ _ _ _ hLR hLW hl
set_option maxHeartbeats 4000000 in
theorem lc_person [NoTr l] (C : LC p s m args c D Dm h0 bs L xs) (hLR : LR (n + 1) h σ) (hLW : LW D Dm h0 bm z h σ s H locs cs ss) (hj : 6 * j + 6 ≤ L) (hl : lv_has ls 7 [(0, .ref bs), (1, .ref b), (2, .ref bm), (3, .ref o), (4, .int (nI (6 * j)))]) (ho : LO_person F b o LR) (hT : kT h b = 1 ∧ ∀ h σ, LR n h σ → kT h o = 41 ∧ kN h o = 1) (hk : ∀ (h' : HS) (σ' : MS) (H : Heap) (locs : List Loc) (cs ss : Nat) (ls : Array Slot), LR n h' σ' → LW D Dm h0 bm z h' σ' s H locs cs ss → lv_has ls 7 [(0, .ref bs), (1, .ref b), (2, .ref bm), (3, .ref o), (4, .int (nI (6 * j)))] → W p l e (cR 8192 100000 h0) s m args below meth c H locs cs ss Q (F0 m 1282 ls [])) : W p l e (cR 8192 100000 h0) s m args below meth c H locs cs ss Q (F0 m 324 ls []) := by
  obtain ⟨S, hX, hK, hXs, hbl, hg0, hz0, hL⟩ := C
  obtain ⟨hx, hb, hml, hown, hts⟩ := id S
  obtain ⟨k, v, h1, σ1, e1, e2, e3, e4, hLR⟩ := ho n h σ (xs (6 * j + 1)) (xs (6 * j + 2)) hLR
  refine lv_aload_n hx hb dL_324 rfl (lv_at hl 1 rfl) ?_
  refine lv_aload_n hx hb dL_325 rfl (lv_at hl 0 rfl) ?_
  refine lv_iload hx hb dL_326 (lv_at hl 4 rfl) ?_
  refine lv_iconst (v := 1) hx hb dL_328 rfl ?_
  refine lv_iadd hx hb dL_329 ?_
  refine lscr S hXs hbl hLW (hg0.trans hz0) (6 * j + 1) (by omega) hL (nI_add _ _) dL_330 ?_
  refine lv_aload_n hx hb dL_331 rfl (lv_at hl 0 rfl) ?_
  refine lv_iload hx hb dL_332 (lv_at hl 4 rfl) ?_
  refine lv_iconst (v := 2) hx hb dL_334 rfl ?_
  refine lv_iadd hx hb dL_335 ?_
  refine lscr S hXs hbl hLW (hg0.trans hz0) (6 * j + 2) (by omega) hL (nI_add _ _) dL_336 ?_
  refine lv_aload_n hx hb dL_337 rfl (lv_at hl 3 rfl) ?_
  refine lcall (maxL := 5) (rest := []) S hX hLW (metX0_person l F D h b (xs (6 * j + 1)) (xs (6 * j + 2)) o (k, h1) e1) (li_S (As := [.ref b, .int (xs (6 * j + 1)), .int (xs (6 * j + 2)), .ref o]) (rest := []) S q1684 q1685 q102 q1686 hyX0_person hlX0_person rfl dL_338) (pay_in hts (lw_methW q1686)) (CodeOK.ofW hts q1686) q102 (Nat.le_of_ble_eq_true rfl) (Nat.le_of_ble_eq_true rfl) hl.1 (Nat.le_of_ble_eq_true rfl) rfl (fun H locs cs ss hLW => ?_)
  refine lv_istore (lv' := [(5, .int k), (0, .ref bs), (1, .ref b), (2, .ref bm), (3, .ref o), (4, .int (nI (6 * j)))]) hx hb dL_341 hl (by decide) rfl (fun ls hl => ?_)
  refine lv_aload_n hx hb dL_343 rfl (lv_at hl 3 rfl) ?_
  refine lv_aload_n hx hb dL_344 rfl (lv_at hl 1 rfl) ?_
  refine lv_iload hx hb dL_345 (lv_at hl 5 rfl) ?_
  refine lv_iconst (v := 1) hx hb dL_347 rfl ?_
  refine lv_iadd hx hb dL_348 ?_
  refine lscr S hXs hbl hLW (hg0.trans hz0) (6 * j + 1) (by omega) hL (nI_add _ _) dL_349 ?_
  refine lv_aload_n hx hb dL_350 rfl (lv_at hl 1 rfl) ?_
  refine lv_iload hx hb dL_351 (lv_at hl 5 rfl) ?_
  refine lv_iconst (v := 2) hx hb dL_353 rfl ?_
  refine lv_iadd hx hb dL_354 ?_
  refine lscr S hXs hbl hLW (hg0.trans hz0) (6 * j + 2) (by omega) hL (nI_add _ _) dL_355 ?_
  refine lmodel (As := [.int (xs (6 * j + 1)), .int (xs (6 * j + 2))]) (rest := []) S hK hLW hg0 (metX5_person l F Dm bm (adm z) σ (xs (6 * j + 1)) (xs (6 * j + 2)) (v, σ1) e2) (lw_V q2015 q2016 q2017 q111 q2018) hdX5_person ⟨rfl, rfl, Nat.le_of_ble_eq_true rfl, Nat.le_of_ble_eq_true rfl⟩ rfl hl.1 rfl rfl (Nat.le_of_ble_eq_true rfl) dL_356 (fun H locs hLW => ?_)
  refine lv_istore (lv' := [(6, .int v), (5, .int k), (0, .ref bs), (1, .ref b), (2, .ref bm), (3, .ref o), (4, .int (nI (6 * j)))]) hx hb dL_359 hl (by decide) rfl (fun ls hl => ?_)
  refine lv_aload_n hx hb dL_361 rfl (lv_at hl 4 rfl) ?_
  refine lmodel (As := []) (rest := []) S hK hLW hg0 (metX5_thrown l Dm bm (adm z) σ1 k e3) (lw_V q1725 q1726 q1727 q111 q1728) hdX5_thrown ⟨rfl, rfl, Nat.le_of_ble_eq_true rfl, Nat.le_of_ble_eq_true rfl⟩ rfl hl.1 rfl rfl (Nat.le_of_ble_eq_true rfl) dL_362 (fun H locs hLW => ?_)
  refine lv_iload hx hb dL_365 (lv_at hl 1 rfl) ?_
  refine lv_icmp_eq (tgt := 372) hx hb dL_367 (by decide) (fun _ => ?_) (fun h9 => absurd rfl h9)
  refine lv_iload hx hb dL_372 (lv_at hl 1 rfl) ?_
  refine lv_if_ne (tgt := 389) hx hb dL_374 (by decide) (fun _ => ?_) (fun hk0 => ?_)
  · refine lv_goto (tgt := 1282) hx hb dL_389 (by decide) ?_
    exact hk _ _ _ _ _ _ _ hLR hLW (lv_sub hl [2, 3, 4, 5, 6] rfl)
  · obtain ⟨ht, hN⟩ := hT.2 h1 σ1 hLR
    refine lv_aload_n hx hb dL_377 rfl (lv_at hl 5 rfl) ?_
    refine lv_iconst (v := 0) hx hb dL_378 rfl ?_
    refine lout S hX hLW ht hN dL_379 ?_
    refine lv_iload hx hb dL_380 (lv_at hl 0 rfl) ?_
    refine lv_i2l hx hb dL_382 rfl ?_
    refine W.lcmp hx hb dL_383 ?_
    rw [e4 hk0, show lg_cmp v.toInt64 v.toInt64 = 0 from by unfold lg_cmp; simp]
    refine lv_if_eq (tgt := 389) hx hb dL_384 (by decide) (fun _ => ?_) (fun h9 => absurd rfl h9)
    refine lv_goto (tgt := 1282) hx hb dL_389 (by decide) ?_
    exact hk _ _ _ _ _ _ _ hLR hLW (lv_sub hl [2, 3, 4, 5, 6] rfl)
set_option maxHeartbeats 4000000 in
theorem lc_tuft [NoTr l] (C : LC p s m args c D Dm h0 bs L xs) (hLR : LR (n + 1) h σ) (hLW : LW D Dm h0 bm z h σ s H locs cs ss) (hj : 6 * j + 6 ≤ L) (hl : lv_has ls 7 [(0, .ref bs), (1, .ref b), (2, .ref bm), (3, .ref o), (4, .int (nI (6 * j)))]) (ho : LO_tuft F b o LR) (hT : kT h b = 1 ∧ ∀ h σ, LR n h σ → kT h o = 41 ∧ kN h o = 1) (hk : ∀ (h' : HS) (σ' : MS) (H : Heap) (locs : List Loc) (cs ss : Nat) (ls : Array Slot), LR n h' σ' → LW D Dm h0 bm z h' σ' s H locs cs ss → lv_has ls 7 [(0, .ref bs), (1, .ref b), (2, .ref bm), (3, .ref o), (4, .int (nI (6 * j)))] → W p l e (cR 8192 100000 h0) s m args below meth c H locs cs ss Q (F0 m 1282 ls [])) : W p l e (cR 8192 100000 h0) s m args below meth c H locs cs ss Q (F0 m 392 ls []) := by
  obtain ⟨S, hX, hK, hXs, hbl, hg0, hz0, hL⟩ := C
  obtain ⟨hx, hb, hml, hown, hts⟩ := id S
  obtain ⟨k, v, h1, σ1, e1, e2, e3, e4, hLR⟩ := ho n h σ (xs (6 * j + 1)) (xs (6 * j + 2)) hLR
  refine lv_aload_n hx hb dL_392 rfl (lv_at hl 1 rfl) ?_
  refine lv_aload_n hx hb dL_393 rfl (lv_at hl 0 rfl) ?_
  refine lv_iload hx hb dL_394 (lv_at hl 4 rfl) ?_
  refine lv_iconst (v := 1) hx hb dL_396 rfl ?_
  refine lv_iadd hx hb dL_397 ?_
  refine lscr S hXs hbl hLW (hg0.trans hz0) (6 * j + 1) (by omega) hL (nI_add _ _) dL_398 ?_
  refine lv_aload_n hx hb dL_399 rfl (lv_at hl 0 rfl) ?_
  refine lv_iload hx hb dL_400 (lv_at hl 4 rfl) ?_
  refine lv_iconst (v := 2) hx hb dL_402 rfl ?_
  refine lv_iadd hx hb dL_403 ?_
  refine lscr S hXs hbl hLW (hg0.trans hz0) (6 * j + 2) (by omega) hL (nI_add _ _) dL_404 ?_
  refine lv_aload_n hx hb dL_405 rfl (lv_at hl 3 rfl) ?_
  refine lcall (maxL := 5) (rest := []) S hX hLW (metX0_tuft l F D h b (xs (6 * j + 1)) (xs (6 * j + 2)) o (k, h1) e1) (li_S (As := [.ref b, .int (xs (6 * j + 1)), .int (xs (6 * j + 2)), .ref o]) (rest := []) S q1717 q1718 q102 q1719 hyX0_tuft hlX0_tuft rfl dL_406) (pay_in hts (lw_methW q1719)) (CodeOK.ofW hts q1719) q102 (Nat.le_of_ble_eq_true rfl) (Nat.le_of_ble_eq_true rfl) hl.1 (Nat.le_of_ble_eq_true rfl) rfl (fun H locs cs ss hLW => ?_)
  refine lv_istore (lv' := [(5, .int k), (0, .ref bs), (1, .ref b), (2, .ref bm), (3, .ref o), (4, .int (nI (6 * j)))]) hx hb dL_409 hl (by decide) rfl (fun ls hl => ?_)
  refine lv_aload_n hx hb dL_411 rfl (lv_at hl 3 rfl) ?_
  refine lv_aload_n hx hb dL_412 rfl (lv_at hl 1 rfl) ?_
  refine lv_iload hx hb dL_413 (lv_at hl 5 rfl) ?_
  refine lv_iconst (v := 1) hx hb dL_415 rfl ?_
  refine lv_iadd hx hb dL_416 ?_
  refine lscr S hXs hbl hLW (hg0.trans hz0) (6 * j + 1) (by omega) hL (nI_add _ _) dL_417 ?_
  refine lv_aload_n hx hb dL_418 rfl (lv_at hl 1 rfl) ?_
  refine lv_iload hx hb dL_419 (lv_at hl 5 rfl) ?_
  refine lv_iconst (v := 2) hx hb dL_421 rfl ?_
  refine lv_iadd hx hb dL_422 ?_
  refine lscr S hXs hbl hLW (hg0.trans hz0) (6 * j + 2) (by omega) hL (nI_add _ _) dL_423 ?_
  refine lmodel (As := [.int (xs (6 * j + 1)), .int (xs (6 * j + 2))]) (rest := []) S hK hLW hg0 (metX5_tuft l F Dm bm (adm z) σ (xs (6 * j + 1)) (xs (6 * j + 2)) (v, σ1) e2) (lw_V q2035 q2036 q2037 q111 q2038) hdX5_tuft ⟨rfl, rfl, Nat.le_of_ble_eq_true rfl, Nat.le_of_ble_eq_true rfl⟩ rfl hl.1 rfl rfl (Nat.le_of_ble_eq_true rfl) dL_424 (fun H locs hLW => ?_)
  refine lv_istore (lv' := [(6, .int v), (5, .int k), (0, .ref bs), (1, .ref b), (2, .ref bm), (3, .ref o), (4, .int (nI (6 * j)))]) hx hb dL_427 hl (by decide) rfl (fun ls hl => ?_)
  refine lv_aload_n hx hb dL_429 rfl (lv_at hl 4 rfl) ?_
  refine lmodel (As := []) (rest := []) S hK hLW hg0 (metX5_thrown l Dm bm (adm z) σ1 k e3) (lw_V q1725 q1726 q1727 q111 q1728) hdX5_thrown ⟨rfl, rfl, Nat.le_of_ble_eq_true rfl, Nat.le_of_ble_eq_true rfl⟩ rfl hl.1 rfl rfl (Nat.le_of_ble_eq_true rfl) dL_430 (fun H locs hLW => ?_)
  refine lv_iload hx hb dL_433 (lv_at hl 1 rfl) ?_
  refine lv_icmp_eq (tgt := 440) hx hb dL_435 (by decide) (fun _ => ?_) (fun h9 => absurd rfl h9)
  refine lv_iload hx hb dL_440 (lv_at hl 1 rfl) ?_
  refine lv_if_ne (tgt := 457) hx hb dL_442 (by decide) (fun _ => ?_) (fun hk0 => ?_)
  · refine lv_goto (tgt := 1282) hx hb dL_457 (by decide) ?_
    exact hk _ _ _ _ _ _ _ hLR hLW (lv_sub hl [2, 3, 4, 5, 6] rfl)
  · obtain ⟨ht, hN⟩ := hT.2 h1 σ1 hLR
    refine lv_aload_n hx hb dL_445 rfl (lv_at hl 5 rfl) ?_
    refine lv_iconst (v := 0) hx hb dL_446 rfl ?_
    refine lout S hX hLW ht hN dL_447 ?_
    refine lv_iload hx hb dL_448 (lv_at hl 0 rfl) ?_
    refine lv_i2l hx hb dL_450 rfl ?_
    refine W.lcmp hx hb dL_451 ?_
    rw [e4 hk0, show lg_cmp v.toInt64 v.toInt64 = 0 from by unfold lg_cmp; simp]
    refine lv_if_eq (tgt := 457) hx hb dL_452 (by decide) (fun _ => ?_) (fun h9 => absurd rfl h9)
    refine lv_goto (tgt := 1282) hx hb dL_457 (by decide) ?_
    exact hk _ _ _ _ _ _ _ hLR hLW (lv_sub hl [2, 3, 4, 5, 6] rfl)
set_option maxHeartbeats 4000000 in
theorem lc_way [NoTr l] (C : LC p s m args c D Dm h0 bs L xs) (hLR : LR (n + 1) h σ) (hLW : LW D Dm h0 bm z h σ s H locs cs ss) (hj : 6 * j + 6 ≤ L) (hl : lv_has ls 7 [(0, .ref bs), (1, .ref b), (2, .ref bm), (3, .ref o), (4, .int (nI (6 * j)))]) (ho : LO_way F b LR) (hT : kT h b = 1 ∧ True) (hk : ∀ (h' : HS) (σ' : MS) (H : Heap) (locs : List Loc) (cs ss : Nat) (ls : Array Slot), LR n h' σ' → LW D Dm h0 bm z h' σ' s H locs cs ss → lv_has ls 7 [(0, .ref bs), (1, .ref b), (2, .ref bm), (3, .ref o), (4, .int (nI (6 * j)))] → W p l e (cR 8192 100000 h0) s m args below meth c H locs cs ss Q (F0 m 1282 ls [])) : W p l e (cR 8192 100000 h0) s m args below meth c H locs cs ss Q (F0 m 460 ls []) := by
  obtain ⟨S, hX, hK, hXs, hbl, hg0, hz0, hL⟩ := C
  obtain ⟨hx, hb, hml, hown, hts⟩ := id S
  obtain ⟨v, σ1, e1, e2, hLR⟩ := ho n h σ (xs (6 * j + 1)) (xs (6 * j + 2)) hLR
  refine lv_aload_n hx hb dL_460 rfl (lv_at hl 1 rfl) ?_
  refine lv_aload_n hx hb dL_461 rfl (lv_at hl 0 rfl) ?_
  refine lv_iload hx hb dL_462 (lv_at hl 4 rfl) ?_
  refine lv_iconst (v := 1) hx hb dL_464 rfl ?_
  refine lv_iadd hx hb dL_465 ?_
  refine lscr S hXs hbl hLW (hg0.trans hz0) (6 * j + 1) (by omega) hL (nI_add _ _) dL_466 ?_
  refine lv_aload_n hx hb dL_467 rfl (lv_at hl 0 rfl) ?_
  refine lv_iload hx hb dL_468 (lv_at hl 4 rfl) ?_
  refine lv_iconst (v := 2) hx hb dL_470 rfl ?_
  refine lv_iadd hx hb dL_471 ?_
  refine lscr S hXs hbl hLW (hg0.trans hz0) (6 * j + 2) (by omega) hL (nI_add _ _) dL_472 ?_
  refine lcall (maxL := 3) (rest := []) S hX hLW (metX1_way l F D h b (xs (6 * j + 1)) (xs (6 * j + 2)) v e1) (li_V (C := "RugReader") (As := [.int (xs (6 * j + 1)), .int (xs (6 * j + 2))]) (rest := []) S q1141 q1142 q1143 (SigOK.of hts q1144) hyX1_way (HI.cell (ci := 0) hX hLW.1 (by decide) hT.1) hlX1_way rfl dL_473) (pay_in hts (lw_meth q1144)) (CodeOK.of hts q1144) q103 (Nat.le_of_ble_eq_true rfl) (Nat.le_of_ble_eq_true rfl) hl.1 (Nat.le_of_ble_eq_true rfl) rfl (fun H locs cs ss hLW => ?_)
  refine lv_aload_n hx hb dL_476 rfl (lv_at hl 2 rfl) ?_
  refine lv_aload_n hx hb dL_477 rfl (lv_at hl 0 rfl) ?_
  refine lv_iload hx hb dL_478 (lv_at hl 4 rfl) ?_
  refine lv_iconst (v := 1) hx hb dL_480 rfl ?_
  refine lv_iadd hx hb dL_481 ?_
  refine lscr S hXs hbl hLW (hg0.trans hz0) (6 * j + 1) (by omega) hL (nI_add _ _) dL_482 ?_
  refine lv_aload_n hx hb dL_483 rfl (lv_at hl 0 rfl) ?_
  refine lv_iload hx hb dL_484 (lv_at hl 4 rfl) ?_
  refine lv_iconst (v := 2) hx hb dL_486 rfl ?_
  refine lv_iadd hx hb dL_487 ?_
  refine lscr S hXs hbl hLW (hg0.trans hz0) (6 * j + 2) (by omega) hL (nI_add _ _) dL_488 ?_
  refine lmodel (As := [.int (xs (6 * j + 1)), .int (xs (6 * j + 2))]) (rest := [.int v]) S hK hLW hg0 (metX5_way l F Dm bm (adm z) σ (xs (6 * j + 1)) (xs (6 * j + 2)) (v, σ1) e2) (lw_V q2055 q2056 q2057 q111 q2058) hdX5_way ⟨rfl, rfl, Nat.le_of_ble_eq_true rfl, Nat.le_of_ble_eq_true rfl⟩ rfl hl.1 rfl rfl (Nat.le_of_ble_eq_true rfl) dL_489 (fun H locs hLW => ?_)
  refine lv_icmp_eq (tgt := 1282) hx hb dL_492 (by decide) (fun _ => ?_) (fun h9 => absurd rfl h9)
  exact hk _ _ _ _ _ _ _ hLR hLW hl
set_option maxHeartbeats 4000000 in
theorem lc_goes [NoTr l] (C : LC p s m args c D Dm h0 bs L xs) (hLR : LR (n + 1) h σ) (hLW : LW D Dm h0 bm z h σ s H locs cs ss) (hj : 6 * j + 6 ≤ L) (hl : lv_has ls 7 [(0, .ref bs), (1, .ref b), (2, .ref bm), (3, .ref o), (4, .int (nI (6 * j)))]) (ho : LO_goes F b LR) (hT : kT h b = 1 ∧ True) (hk : ∀ (h' : HS) (σ' : MS) (H : Heap) (locs : List Loc) (cs ss : Nat) (ls : Array Slot), LR n h' σ' → LW D Dm h0 bm z h' σ' s H locs cs ss → lv_has ls 7 [(0, .ref bs), (1, .ref b), (2, .ref bm), (3, .ref o), (4, .int (nI (6 * j)))] → W p l e (cR 8192 100000 h0) s m args below meth c H locs cs ss Q (F0 m 1282 ls [])) : W p l e (cR 8192 100000 h0) s m args below meth c H locs cs ss Q (F0 m 497 ls []) := by
  obtain ⟨S, hX, hK, hXs, hbl, hg0, hz0, hL⟩ := C
  obtain ⟨hx, hb, hml, hown, hts⟩ := id S
  obtain ⟨v, h1, σ1, e1, e2, hLR⟩ := ho n h σ (xs (6 * j + 1)) (xs (6 * j + 2)) (xs (6 * j + 3)) hLR
  refine lv_aload_n hx hb dL_497 rfl (lv_at hl 1 rfl) ?_
  refine lv_aload_n hx hb dL_498 rfl (lv_at hl 0 rfl) ?_
  refine lv_iload hx hb dL_499 (lv_at hl 4 rfl) ?_
  refine lv_iconst (v := 1) hx hb dL_501 rfl ?_
  refine lv_iadd hx hb dL_502 ?_
  refine lscr S hXs hbl hLW (hg0.trans hz0) (6 * j + 1) (by omega) hL (nI_add _ _) dL_503 ?_
  refine lv_aload_n hx hb dL_504 rfl (lv_at hl 0 rfl) ?_
  refine lv_iload hx hb dL_505 (lv_at hl 4 rfl) ?_
  refine lv_iconst (v := 2) hx hb dL_507 rfl ?_
  refine lv_iadd hx hb dL_508 ?_
  refine lscr S hXs hbl hLW (hg0.trans hz0) (6 * j + 2) (by omega) hL (nI_add _ _) dL_509 ?_
  refine lv_aload_n hx hb dL_510 rfl (lv_at hl 0 rfl) ?_
  refine lv_iload hx hb dL_511 (lv_at hl 4 rfl) ?_
  refine lv_iconst (v := 3) hx hb dL_513 rfl ?_
  refine lv_iadd hx hb dL_514 ?_
  refine lscr S hXs hbl hLW (hg0.trans hz0) (6 * j + 3) (by omega) hL (nI_add _ _) dL_515 ?_
  refine lcall (maxL := 4) (rest := []) S hX hLW (metX1_goes l F D h b (xs (6 * j + 1)) (xs (6 * j + 2)) (xs (6 * j + 3)) (v, h1) e1) (li_V (C := "RugReader") (As := [.int (xs (6 * j + 1)), .int (xs (6 * j + 2)), .int (xs (6 * j + 3))]) (rest := []) S q1153 q1154 q1155 (SigOK.of hts q1156) hyX1_goes (HI.cell (ci := 0) hX hLW.1 (by decide) hT.1) hlX1_goes rfl dL_516) (pay_in hts (lw_meth q1156)) (CodeOK.of hts q1156) q103 (Nat.le_of_ble_eq_true rfl) (Nat.le_of_ble_eq_true rfl) hl.1 (Nat.le_of_ble_eq_true rfl) rfl (fun H locs cs ss hLW => ?_)
  refine lv_aload_n hx hb dL_519 rfl (lv_at hl 2 rfl) ?_
  refine lv_aload_n hx hb dL_520 rfl (lv_at hl 0 rfl) ?_
  refine lv_iload hx hb dL_521 (lv_at hl 4 rfl) ?_
  refine lv_iconst (v := 1) hx hb dL_523 rfl ?_
  refine lv_iadd hx hb dL_524 ?_
  refine lscr S hXs hbl hLW (hg0.trans hz0) (6 * j + 1) (by omega) hL (nI_add _ _) dL_525 ?_
  refine lv_aload_n hx hb dL_526 rfl (lv_at hl 0 rfl) ?_
  refine lv_iload hx hb dL_527 (lv_at hl 4 rfl) ?_
  refine lv_iconst (v := 2) hx hb dL_529 rfl ?_
  refine lv_iadd hx hb dL_530 ?_
  refine lscr S hXs hbl hLW (hg0.trans hz0) (6 * j + 2) (by omega) hL (nI_add _ _) dL_531 ?_
  refine lv_aload_n hx hb dL_532 rfl (lv_at hl 0 rfl) ?_
  refine lv_iload hx hb dL_533 (lv_at hl 4 rfl) ?_
  refine lv_iconst (v := 3) hx hb dL_535 rfl ?_
  refine lv_iadd hx hb dL_536 ?_
  refine lscr S hXs hbl hLW (hg0.trans hz0) (6 * j + 3) (by omega) hL (nI_add _ _) dL_537 ?_
  refine lmodel (As := [.int (xs (6 * j + 1)), .int (xs (6 * j + 2)), .int (xs (6 * j + 3))]) (rest := [.int v]) S hK hLW hg0 (metX5_goes l F Dm bm (adm z) σ (xs (6 * j + 1)) (xs (6 * j + 2)) (xs (6 * j + 3)) (v, σ1) e2) (lw_V q2067 q2068 q2069 q111 q2070) hdX5_goes ⟨rfl, rfl, Nat.le_of_ble_eq_true rfl, Nat.le_of_ble_eq_true rfl⟩ rfl hl.1 rfl rfl (Nat.le_of_ble_eq_true rfl) dL_538 (fun H locs hLW => ?_)
  refine lv_icmp_eq (tgt := 1282) hx hb dL_541 (by decide) (fun _ => ?_) (fun h9 => absurd rfl h9)
  exact hk _ _ _ _ _ _ _ hLR hLW hl
set_option maxHeartbeats 4000000 in
theorem lc_days [NoTr l] (C : LC p s m args c D Dm h0 bs L xs) (hLR : LR (n + 1) h σ) (hLW : LW D Dm h0 bm z h σ s H locs cs ss) (hj : 6 * j + 6 ≤ L) (hl : lv_has ls 7 [(0, .ref bs), (1, .ref b), (2, .ref bm), (3, .ref o), (4, .int (nI (6 * j)))]) (ho : LO_days F b LR) (hT : kT h b = 1 ∧ True) (hk : ∀ (h' : HS) (σ' : MS) (H : Heap) (locs : List Loc) (cs ss : Nat) (ls : Array Slot), LR n h' σ' → LW D Dm h0 bm z h' σ' s H locs cs ss → lv_has ls 7 [(0, .ref bs), (1, .ref b), (2, .ref bm), (3, .ref o), (4, .int (nI (6 * j)))] → W p l e (cR 8192 100000 h0) s m args below meth c H locs cs ss Q (F0 m 1282 ls [])) : W p l e (cR 8192 100000 h0) s m args below meth c H locs cs ss Q (F0 m 546 ls []) := by
  obtain ⟨S, hX, hK, hXs, hbl, hg0, hz0, hL⟩ := C
  obtain ⟨hx, hb, hml, hown, hts⟩ := id S
  obtain ⟨v, h1, σ1, e1, e2, hLR⟩ := ho n h σ (xs (6 * j + 1)) hLR
  refine lv_aload_n hx hb dL_546 rfl (lv_at hl 1 rfl) ?_
  refine lv_aload_n hx hb dL_547 rfl (lv_at hl 0 rfl) ?_
  refine lv_iload hx hb dL_548 (lv_at hl 4 rfl) ?_
  refine lv_iconst (v := 1) hx hb dL_550 rfl ?_
  refine lv_iadd hx hb dL_551 ?_
  refine lscr S hXs hbl hLW (hg0.trans hz0) (6 * j + 1) (by omega) hL (nI_add _ _) dL_552 ?_
  refine lcall (maxL := 3) (rest := []) S hX hLW (metX1_days l F D h b (xs (6 * j + 1)) (v, h1) e1) (li_V (C := "RugReader") (As := [.int (xs (6 * j + 1))]) (rest := []) S q1184 q1185 q1186 (SigOK.of hts q1187) hyX1_days (HI.cell (ci := 0) hX hLW.1 (by decide) hT.1) hlX1_days rfl dL_553) (pay_in hts (lw_meth q1187)) (CodeOK.of hts q1187) q103 (Nat.le_of_ble_eq_true rfl) (Nat.le_of_ble_eq_true rfl) hl.1 (Nat.le_of_ble_eq_true rfl) rfl (fun H locs cs ss hLW => ?_)
  refine lv_aload_n hx hb dL_556 rfl (lv_at hl 2 rfl) ?_
  refine lv_aload_n hx hb dL_557 rfl (lv_at hl 0 rfl) ?_
  refine lv_iload hx hb dL_558 (lv_at hl 4 rfl) ?_
  refine lv_iconst (v := 1) hx hb dL_560 rfl ?_
  refine lv_iadd hx hb dL_561 ?_
  refine lscr S hXs hbl hLW (hg0.trans hz0) (6 * j + 1) (by omega) hL (nI_add _ _) dL_562 ?_
  refine lmodel (As := [.int (xs (6 * j + 1))]) (rest := [.int v]) S hK hLW hg0 (metX5_days l F Dm bm (adm z) σ (xs (6 * j + 1)) (v, σ1) e2) (lw_V q2083 q2084 q2085 q111 q2086) hdX5_days ⟨rfl, rfl, Nat.le_of_ble_eq_true rfl, Nat.le_of_ble_eq_true rfl⟩ rfl hl.1 rfl rfl (Nat.le_of_ble_eq_true rfl) dL_563 (fun H locs hLW => ?_)
  refine lv_icmp_eq (tgt := 1282) hx hb dL_566 (by decide) (fun _ => ?_) (fun h9 => absurd rfl h9)
  exact hk _ _ _ _ _ _ _ hLR hLW hl
set_option maxHeartbeats 4000000 in
theorem lc_beat [NoTr l] (C : LC p s m args c D Dm h0 bs L xs) (hLR : LR (n + 1) h σ) (hLW : LW D Dm h0 bm z h σ s H locs cs ss) (hj : 6 * j + 6 ≤ L) (hl : lv_has ls 7 [(0, .ref bs), (1, .ref b), (2, .ref bm), (3, .ref o), (4, .int (nI (6 * j)))]) (ho : LO_beat F b LR) (hT : kT h b = 1 ∧ True) (hk : ∀ (h' : HS) (σ' : MS) (H : Heap) (locs : List Loc) (cs ss : Nat) (ls : Array Slot), LR n h' σ' → LW D Dm h0 bm z h' σ' s H locs cs ss → lv_has ls 7 [(0, .ref bs), (1, .ref b), (2, .ref bm), (3, .ref o), (4, .int (nI (6 * j)))] → W p l e (cR 8192 100000 h0) s m args below meth c H locs cs ss Q (F0 m 1282 ls [])) : W p l e (cR 8192 100000 h0) s m args below meth c H locs cs ss Q (F0 m 571 ls []) := by
  obtain ⟨S, hX, hK, hXs, hbl, hg0, hz0, hL⟩ := C
  obtain ⟨hx, hb, hml, hown, hts⟩ := id S
  obtain ⟨v, h1, σ1, e1, e2, hLR⟩ := ho n h σ (xs (6 * j + 1)) (xs (6 * j + 2)) hLR
  refine lv_aload_n hx hb dL_571 rfl (lv_at hl 1 rfl) ?_
  refine lv_aload_n hx hb dL_572 rfl (lv_at hl 0 rfl) ?_
  refine lv_iload hx hb dL_573 (lv_at hl 4 rfl) ?_
  refine lv_iconst (v := 1) hx hb dL_575 rfl ?_
  refine lv_iadd hx hb dL_576 ?_
  refine lscr S hXs hbl hLW (hg0.trans hz0) (6 * j + 1) (by omega) hL (nI_add _ _) dL_577 ?_
  refine lv_aload_n hx hb dL_578 rfl (lv_at hl 0 rfl) ?_
  refine lv_iload hx hb dL_579 (lv_at hl 4 rfl) ?_
  refine lv_iconst (v := 2) hx hb dL_581 rfl ?_
  refine lv_iadd hx hb dL_582 ?_
  refine lscr S hXs hbl hLW (hg0.trans hz0) (6 * j + 2) (by omega) hL (nI_add _ _) dL_583 ?_
  refine lcall (maxL := 6) (rest := []) S hX hLW (metX1_beat l F D h b (xs (6 * j + 1)) (xs (6 * j + 2)) (v, h1) e1) (li_V (C := "RugReader") (As := [.int (xs (6 * j + 1)), .int (xs (6 * j + 2))]) (rest := []) S q1196 q1197 q1198 (SigOK.of hts q1199) hyX1_beat (HI.cell (ci := 0) hX hLW.1 (by decide) hT.1) hlX1_beat rfl dL_584) (pay_in hts (lw_meth q1199)) (CodeOK.of hts q1199) q103 (Nat.le_of_ble_eq_true rfl) (Nat.le_of_ble_eq_true rfl) hl.1 (Nat.le_of_ble_eq_true rfl) rfl (fun H locs cs ss hLW => ?_)
  refine lv_aload_n hx hb dL_587 rfl (lv_at hl 2 rfl) ?_
  refine lv_aload_n hx hb dL_588 rfl (lv_at hl 0 rfl) ?_
  refine lv_iload hx hb dL_589 (lv_at hl 4 rfl) ?_
  refine lv_iconst (v := 1) hx hb dL_591 rfl ?_
  refine lv_iadd hx hb dL_592 ?_
  refine lscr S hXs hbl hLW (hg0.trans hz0) (6 * j + 1) (by omega) hL (nI_add _ _) dL_593 ?_
  refine lv_aload_n hx hb dL_594 rfl (lv_at hl 0 rfl) ?_
  refine lv_iload hx hb dL_595 (lv_at hl 4 rfl) ?_
  refine lv_iconst (v := 2) hx hb dL_597 rfl ?_
  refine lv_iadd hx hb dL_598 ?_
  refine lscr S hXs hbl hLW (hg0.trans hz0) (6 * j + 2) (by omega) hL (nI_add _ _) dL_599 ?_
  refine lmodel (As := [.int (xs (6 * j + 1)), .int (xs (6 * j + 2))]) (rest := [.int v]) S hK hLW hg0 (metX5_beat l F Dm bm (adm z) σ (xs (6 * j + 1)) (xs (6 * j + 2)) (v, σ1) e2) (lw_V q2099 q2100 q2101 q111 q2102) hdX5_beat ⟨rfl, rfl, Nat.le_of_ble_eq_true rfl, Nat.le_of_ble_eq_true rfl⟩ rfl hl.1 rfl rfl (Nat.le_of_ble_eq_true rfl) dL_600 (fun H locs hLW => ?_)
  refine lv_icmp_eq (tgt := 1282) hx hb dL_603 (by decide) (fun _ => ?_) (fun h9 => absurd rfl h9)
  exact hk _ _ _ _ _ _ _ hLR hLW hl
set_option maxHeartbeats 4000000 in
theorem lc_undo [NoTr l] (C : LC p s m args c D Dm h0 bs L xs) (hLR : LR (n + 1) h σ) (hLW : LW D Dm h0 bm z h σ s H locs cs ss) (hj : 6 * j + 6 ≤ L) (hl : lv_has ls 7 [(0, .ref bs), (1, .ref b), (2, .ref bm), (3, .ref o), (4, .int (nI (6 * j)))]) (ho : LO_undo F b LR) (hT : kT h b = 1 ∧ True) (hk : ∀ (h' : HS) (σ' : MS) (H : Heap) (locs : List Loc) (cs ss : Nat) (ls : Array Slot), LR n h' σ' → LW D Dm h0 bm z h' σ' s H locs cs ss → lv_has ls 7 [(0, .ref bs), (1, .ref b), (2, .ref bm), (3, .ref o), (4, .int (nI (6 * j)))] → W p l e (cR 8192 100000 h0) s m args below meth c H locs cs ss Q (F0 m 1282 ls [])) : W p l e (cR 8192 100000 h0) s m args below meth c H locs cs ss Q (F0 m 608 ls []) := by
  obtain ⟨S, hX, hK, hXs, hbl, hg0, hz0, hL⟩ := C
  obtain ⟨hx, hb, hml, hown, hts⟩ := id S
  obtain ⟨v, h1, σ1, e1, e2, hLR⟩ := ho n h σ hLR
  refine lv_aload_n hx hb dL_608 rfl (lv_at hl 1 rfl) ?_
  refine lcall (maxL := 1) (rest := []) S hX hLW (metX1_undo l F D h b (v, h1) e1) (li_V (C := "RugReader") (As := []) (rest := []) S q1207 q1208 q1209 (SigOK.of hts q1210) hyX1_undo (HI.cell (ci := 0) hX hLW.1 (by decide) hT.1) hlX1_undo rfl dL_609) (pay_in hts (lw_meth q1210)) (CodeOK.of hts q1210) q103 (Nat.le_of_ble_eq_true rfl) (Nat.le_of_ble_eq_true rfl) hl.1 (Nat.le_of_ble_eq_true rfl) rfl (fun H locs cs ss hLW => ?_)
  refine lv_aload_n hx hb dL_612 rfl (lv_at hl 2 rfl) ?_
  refine lmodel (As := []) (rest := [.int v]) S hK hLW hg0 (metX5_undo l F Dm bm (adm z) σ (v, σ1) e2) (lw_V q2063 q2064 q2065 q111 q2066) hdX5_undo ⟨rfl, rfl, Nat.le_of_ble_eq_true rfl, Nat.le_of_ble_eq_true rfl⟩ rfl hl.1 rfl rfl (Nat.le_of_ble_eq_true rfl) dL_613 (fun H locs hLW => ?_)
  refine lv_icmp_eq (tgt := 1282) hx hb dL_616 (by decide) (fun _ => ?_) (fun h9 => absurd rfl h9)
  exact hk _ _ _ _ _ _ _ hLR hLW hl
set_option maxHeartbeats 4000000 in
theorem lc_hidden [NoTr l] (C : LC p s m args c D Dm h0 bs L xs) (hLR : LR (n + 1) h σ) (hLW : LW D Dm h0 bm z h σ s H locs cs ss) (hj : 6 * j + 6 ≤ L) (hl : lv_has ls 7 [(0, .ref bs), (1, .ref b), (2, .ref bm), (3, .ref o), (4, .int (nI (6 * j)))]) (ho : LO_hidden F b LR) (hT : kT h b = 1 ∧ True) (hk : ∀ (h' : HS) (σ' : MS) (H : Heap) (locs : List Loc) (cs ss : Nat) (ls : Array Slot), LR n h' σ' → LW D Dm h0 bm z h' σ' s H locs cs ss → lv_has ls 7 [(0, .ref bs), (1, .ref b), (2, .ref bm), (3, .ref o), (4, .int (nI (6 * j)))] → W p l e (cR 8192 100000 h0) s m args below meth c H locs cs ss Q (F0 m 1282 ls [])) : W p l e (cR 8192 100000 h0) s m args below meth c H locs cs ss Q (F0 m 621 ls []) := by
  obtain ⟨S, hX, hK, hXs, hbl, hg0, hz0, hL⟩ := C
  obtain ⟨hx, hb, hml, hown, hts⟩ := id S
  obtain ⟨v, σ1, e1, e2, hLR⟩ := ho n h σ (xs (6 * j + 1)) hLR
  refine lv_aload_n hx hb dL_621 rfl (lv_at hl 1 rfl) ?_
  refine lv_aload_n hx hb dL_622 rfl (lv_at hl 0 rfl) ?_
  refine lv_iload hx hb dL_623 (lv_at hl 4 rfl) ?_
  refine lv_iconst (v := 1) hx hb dL_625 rfl ?_
  refine lv_iadd hx hb dL_626 ?_
  refine lscr S hXs hbl hLW (hg0.trans hz0) (6 * j + 1) (by omega) hL (nI_add _ _) dL_627 ?_
  refine lcall (maxL := 4) (rest := []) S hX hLW (metX1_hidden l F D h b (xs (6 * j + 1)) v e1) (li_V (C := "RugReader") (As := [.int (xs (6 * j + 1))]) (rest := []) S q1211 q1212 q1213 (SigOK.of hts q1214) hyX1_hidden (HI.cell (ci := 0) hX hLW.1 (by decide) hT.1) hlX1_hidden rfl dL_628) (pay_in hts (lw_meth q1214)) (CodeOK.of hts q1214) q103 (Nat.le_of_ble_eq_true rfl) (Nat.le_of_ble_eq_true rfl) hl.1 (Nat.le_of_ble_eq_true rfl) rfl (fun H locs cs ss hLW => ?_)
  refine lv_aload_n hx hb dL_631 rfl (lv_at hl 2 rfl) ?_
  refine lv_aload_n hx hb dL_632 rfl (lv_at hl 0 rfl) ?_
  refine lv_iload hx hb dL_633 (lv_at hl 4 rfl) ?_
  refine lv_iconst (v := 1) hx hb dL_635 rfl ?_
  refine lv_iadd hx hb dL_636 ?_
  refine lscr S hXs hbl hLW (hg0.trans hz0) (6 * j + 1) (by omega) hL (nI_add _ _) dL_637 ?_
  refine lmodel (As := [.int (xs (6 * j + 1))]) (rest := [.int v]) S hK hLW hg0 (metX5_hidden l F Dm bm (adm z) σ (xs (6 * j + 1)) (v, σ1) e2) (lw_V q2107 q2108 q2109 q111 q2110) hdX5_hidden ⟨rfl, rfl, Nat.le_of_ble_eq_true rfl, Nat.le_of_ble_eq_true rfl⟩ rfl hl.1 rfl rfl (Nat.le_of_ble_eq_true rfl) dL_638 (fun H locs hLW => ?_)
  refine lv_icmp_eq (tgt := 1282) hx hb dL_641 (by decide) (fun _ => ?_) (fun h9 => absurd rfl h9)
  exact hk _ _ _ _ _ _ _ hLR hLW hl
set_option maxHeartbeats 4000000 in
theorem lc_missing [NoTr l] (C : LC p s m args c D Dm h0 bs L xs) (hLR : LR (n + 1) h σ) (hLW : LW D Dm h0 bm z h σ s H locs cs ss) (hj : 6 * j + 6 ≤ L) (hl : lv_has ls 7 [(0, .ref bs), (1, .ref b), (2, .ref bm), (3, .ref o), (4, .int (nI (6 * j)))]) (ho : LO_missing F b LR) (hT : kT h b = 1 ∧ True) (hk : ∀ (h' : HS) (σ' : MS) (H : Heap) (locs : List Loc) (cs ss : Nat) (ls : Array Slot), LR n h' σ' → LW D Dm h0 bm z h' σ' s H locs cs ss → lv_has ls 7 [(0, .ref bs), (1, .ref b), (2, .ref bm), (3, .ref o), (4, .int (nI (6 * j)))] → W p l e (cR 8192 100000 h0) s m args below meth c H locs cs ss Q (F0 m 1282 ls [])) : W p l e (cR 8192 100000 h0) s m args below meth c H locs cs ss Q (F0 m 646 ls []) := by
  obtain ⟨S, hX, hK, hXs, hbl, hg0, hz0, hL⟩ := C
  obtain ⟨hx, hb, hml, hown, hts⟩ := id S
  obtain ⟨v, σ1, e1, e2, hLR⟩ := ho n h σ (xs (6 * j + 1)) hLR
  refine lv_aload_n hx hb dL_646 rfl (lv_at hl 1 rfl) ?_
  refine lv_aload_n hx hb dL_647 rfl (lv_at hl 0 rfl) ?_
  refine lv_iload hx hb dL_648 (lv_at hl 4 rfl) ?_
  refine lv_iconst (v := 1) hx hb dL_650 rfl ?_
  refine lv_iadd hx hb dL_651 ?_
  refine lscr S hXs hbl hLW (hg0.trans hz0) (6 * j + 1) (by omega) hL (nI_add _ _) dL_652 ?_
  refine lcall (maxL := 2) (rest := []) S hX hLW (metX1_missing l F D h b (xs (6 * j + 1)) v e1) (li_V (C := "RugReader") (As := [.int (xs (6 * j + 1))]) (rest := []) S q1228 q1229 q1230 (SigOK.of hts q1231) hyX1_missing (HI.cell (ci := 0) hX hLW.1 (by decide) hT.1) hlX1_missing rfl dL_653) (pay_in hts (lw_meth q1231)) (CodeOK.of hts q1231) q103 (Nat.le_of_ble_eq_true rfl) (Nat.le_of_ble_eq_true rfl) hl.1 (Nat.le_of_ble_eq_true rfl) rfl (fun H locs cs ss hLW => ?_)
  refine lv_aload_n hx hb dL_656 rfl (lv_at hl 2 rfl) ?_
  refine lv_aload_n hx hb dL_657 rfl (lv_at hl 0 rfl) ?_
  refine lv_iload hx hb dL_658 (lv_at hl 4 rfl) ?_
  refine lv_iconst (v := 1) hx hb dL_660 rfl ?_
  refine lv_iadd hx hb dL_661 ?_
  refine lscr S hXs hbl hLW (hg0.trans hz0) (6 * j + 1) (by omega) hL (nI_add _ _) dL_662 ?_
  refine lmodel (As := [.int (xs (6 * j + 1))]) (rest := [.int v]) S hK hLW hg0 (metX5_missing l F Dm bm (adm z) σ (xs (6 * j + 1)) (v, σ1) e2) (lw_V q2115 q2116 q2117 q111 q2118) hdX5_missing ⟨rfl, rfl, Nat.le_of_ble_eq_true rfl, Nat.le_of_ble_eq_true rfl⟩ rfl hl.1 rfl rfl (Nat.le_of_ble_eq_true rfl) dL_663 (fun H locs hLW => ?_)
  refine lv_icmp_eq (tgt := 1282) hx hb dL_666 (by decide) (fun _ => ?_) (fun h9 => absurd rfl h9)
  exact hk _ _ _ _ _ _ _ hLR hLW hl
set_option maxHeartbeats 4000000 in
theorem lc_soles [NoTr l] (C : LC p s m args c D Dm h0 bs L xs) (hLR : LR (n + 1) h σ) (hLW : LW D Dm h0 bm z h σ s H locs cs ss) (hj : 6 * j + 6 ≤ L) (hl : lv_has ls 7 [(0, .ref bs), (1, .ref b), (2, .ref bm), (3, .ref o), (4, .int (nI (6 * j)))]) (ho : LO_soles F b LR) (hT : kT h b = 1 ∧ True) (hk : ∀ (h' : HS) (σ' : MS) (H : Heap) (locs : List Loc) (cs ss : Nat) (ls : Array Slot), LR n h' σ' → LW D Dm h0 bm z h' σ' s H locs cs ss → lv_has ls 7 [(0, .ref bs), (1, .ref b), (2, .ref bm), (3, .ref o), (4, .int (nI (6 * j)))] → W p l e (cR 8192 100000 h0) s m args below meth c H locs cs ss Q (F0 m 1282 ls [])) : W p l e (cR 8192 100000 h0) s m args below meth c H locs cs ss Q (F0 m 671 ls []) := by
  obtain ⟨S, hX, hK, hXs, hbl, hg0, hz0, hL⟩ := C
  obtain ⟨hx, hb, hml, hown, hts⟩ := id S
  obtain ⟨v, σ1, e1, e2, hLR⟩ := ho n h σ (xs (6 * j + 1)) hLR
  refine lv_aload_n hx hb dL_671 rfl (lv_at hl 1 rfl) ?_
  refine lv_aload_n hx hb dL_672 rfl (lv_at hl 0 rfl) ?_
  refine lv_iload hx hb dL_673 (lv_at hl 4 rfl) ?_
  refine lv_iconst (v := 1) hx hb dL_675 rfl ?_
  refine lv_iadd hx hb dL_676 ?_
  refine lscr S hXs hbl hLW (hg0.trans hz0) (6 * j + 1) (by omega) hL (nI_add _ _) dL_677 ?_
  refine lcall (maxL := 4) (rest := []) S hX hLW (metX1_soles l F D h b (xs (6 * j + 1)) v e1) (li_V (C := "RugReader") (As := [.int (xs (6 * j + 1))]) (rest := []) S q1232 q1233 q1234 (SigOK.of hts q1235) hyX1_soles (HI.cell (ci := 0) hX hLW.1 (by decide) hT.1) hlX1_soles rfl dL_678) (pay_in hts (lw_meth q1235)) (CodeOK.of hts q1235) q103 (Nat.le_of_ble_eq_true rfl) (Nat.le_of_ble_eq_true rfl) hl.1 (Nat.le_of_ble_eq_true rfl) rfl (fun H locs cs ss hLW => ?_)
  refine lv_aload_n hx hb dL_681 rfl (lv_at hl 2 rfl) ?_
  refine lv_aload_n hx hb dL_682 rfl (lv_at hl 0 rfl) ?_
  refine lv_iload hx hb dL_683 (lv_at hl 4 rfl) ?_
  refine lv_iconst (v := 1) hx hb dL_685 rfl ?_
  refine lv_iadd hx hb dL_686 ?_
  refine lscr S hXs hbl hLW (hg0.trans hz0) (6 * j + 1) (by omega) hL (nI_add _ _) dL_687 ?_
  refine lmodel (As := [.int (xs (6 * j + 1))]) (rest := [.int v]) S hK hLW hg0 (metX5_soles l F Dm bm (adm z) σ (xs (6 * j + 1)) (v, σ1) e2) (lw_V q2119 q2120 q2121 q111 q2122) hdX5_soles ⟨rfl, rfl, Nat.le_of_ble_eq_true rfl, Nat.le_of_ble_eq_true rfl⟩ rfl hl.1 rfl rfl (Nat.le_of_ble_eq_true rfl) dL_688 (fun H locs hLW => ?_)
  refine lv_icmp_eq (tgt := 1282) hx hb dL_691 (by decide) (fun _ => ?_) (fun h9 => absurd rfl h9)
  exact hk _ _ _ _ _ _ _ hLR hLW hl
set_option maxHeartbeats 4000000 in
theorem lc_deepest [NoTr l] (C : LC p s m args c D Dm h0 bs L xs) (hLR : LR (n + 1) h σ) (hLW : LW D Dm h0 bm z h σ s H locs cs ss) (hj : 6 * j + 6 ≤ L) (hl : lv_has ls 7 [(0, .ref bs), (1, .ref b), (2, .ref bm), (3, .ref o), (4, .int (nI (6 * j)))]) (ho : LO_deepest F b LR) (hT : kT h b = 1 ∧ True) (hk : ∀ (h' : HS) (σ' : MS) (H : Heap) (locs : List Loc) (cs ss : Nat) (ls : Array Slot), LR n h' σ' → LW D Dm h0 bm z h' σ' s H locs cs ss → lv_has ls 7 [(0, .ref bs), (1, .ref b), (2, .ref bm), (3, .ref o), (4, .int (nI (6 * j)))] → W p l e (cR 8192 100000 h0) s m args below meth c H locs cs ss Q (F0 m 1282 ls [])) : W p l e (cR 8192 100000 h0) s m args below meth c H locs cs ss Q (F0 m 696 ls []) := by
  obtain ⟨S, hX, hK, hXs, hbl, hg0, hz0, hL⟩ := C
  obtain ⟨hx, hb, hml, hown, hts⟩ := id S
  obtain ⟨v, σ1, e1, e2, hLR⟩ := ho n h σ hLR
  refine lv_aload_n hx hb dL_696 rfl (lv_at hl 1 rfl) ?_
  refine lcall (maxL := 3) (rest := []) S hX hLW (metX1_deepest l F D h b v e1) (li_V (C := "RugReader") (As := []) (rest := []) S q1236 q1237 q1238 (SigOK.of hts q1239) hyX1_deepest (HI.cell (ci := 0) hX hLW.1 (by decide) hT.1) hlX1_deepest rfl dL_697) (pay_in hts (lw_meth q1239)) (CodeOK.of hts q1239) q103 (Nat.le_of_ble_eq_true rfl) (Nat.le_of_ble_eq_true rfl) hl.1 (Nat.le_of_ble_eq_true rfl) rfl (fun H locs cs ss hLW => ?_)
  refine lv_aload_n hx hb dL_700 rfl (lv_at hl 2 rfl) ?_
  refine lmodel (As := []) (rest := [.int v]) S hK hLW hg0 (metX5_deepest l F Dm bm (adm z) σ (v, σ1) e2) (lw_V q2123 q2124 q2125 q111 q2126) hdX5_deepest ⟨rfl, rfl, Nat.le_of_ble_eq_true rfl, Nat.le_of_ble_eq_true rfl⟩ rfl hl.1 rfl rfl (Nat.le_of_ble_eq_true rfl) dL_701 (fun H locs hLW => ?_)
  refine lv_icmp_eq (tgt := 1282) hx hb dL_704 (by decide) (fun _ => ?_) (fun h9 => absurd rfl h9)
  exact hk _ _ _ _ _ _ _ hLR hLW hl
set_option maxHeartbeats 4000000 in
theorem lc_who [NoTr l] (C : LC p s m args c D Dm h0 bs L xs) (hLR : LR (n + 1) h σ) (hLW : LW D Dm h0 bm z h σ s H locs cs ss) (hj : 6 * j + 6 ≤ L) (hl : lv_has ls 7 [(0, .ref bs), (1, .ref b), (2, .ref bm), (3, .ref o), (4, .int (nI (6 * j)))]) (ho : LO_who F b LR) (hT : kT h b = 1 ∧ True) (hk : ∀ (h' : HS) (σ' : MS) (H : Heap) (locs : List Loc) (cs ss : Nat) (ls : Array Slot), LR n h' σ' → LW D Dm h0 bm z h' σ' s H locs cs ss → lv_has ls 7 [(0, .ref bs), (1, .ref b), (2, .ref bm), (3, .ref o), (4, .int (nI (6 * j)))] → W p l e (cR 8192 100000 h0) s m args below meth c H locs cs ss Q (F0 m 1282 ls [])) : W p l e (cR 8192 100000 h0) s m args below meth c H locs cs ss Q (F0 m 709 ls []) := by
  obtain ⟨S, hX, hK, hXs, hbl, hg0, hz0, hL⟩ := C
  obtain ⟨hx, hb, hml, hown, hts⟩ := id S
  obtain ⟨v, σ1, e1, e2, hLR⟩ := ho n h σ (xs (6 * j + 1)) hLR
  refine lv_aload_n hx hb dL_709 rfl (lv_at hl 1 rfl) ?_
  refine lv_aload_n hx hb dL_710 rfl (lv_at hl 0 rfl) ?_
  refine lv_iload hx hb dL_711 (lv_at hl 4 rfl) ?_
  refine lv_iconst (v := 1) hx hb dL_713 rfl ?_
  refine lv_iadd hx hb dL_714 ?_
  refine lscr S hXs hbl hLW (hg0.trans hz0) (6 * j + 1) (by omega) hL (nI_add _ _) dL_715 ?_
  refine lcall (maxL := 4) (rest := []) S hX hLW (metX1_who l F D h b (xs (6 * j + 1)) v e1) (li_V (C := "RugReader") (As := [.int (xs (6 * j + 1))]) (rest := []) S q1241 q1242 q1243 (SigOK.of hts q1244) hyX1_who (HI.cell (ci := 0) hX hLW.1 (by decide) hT.1) hlX1_who rfl dL_716) (pay_in hts (lw_meth q1244)) (CodeOK.of hts q1244) q103 (Nat.le_of_ble_eq_true rfl) (Nat.le_of_ble_eq_true rfl) hl.1 (Nat.le_of_ble_eq_true rfl) rfl (fun H locs cs ss hLW => ?_)
  refine lv_aload_n hx hb dL_719 rfl (lv_at hl 2 rfl) ?_
  refine lv_aload_n hx hb dL_720 rfl (lv_at hl 0 rfl) ?_
  refine lv_iload hx hb dL_721 (lv_at hl 4 rfl) ?_
  refine lv_iconst (v := 1) hx hb dL_723 rfl ?_
  refine lv_iadd hx hb dL_724 ?_
  refine lscr S hXs hbl hLW (hg0.trans hz0) (6 * j + 1) (by omega) hL (nI_add _ _) dL_725 ?_
  refine lmodel (As := [.int (xs (6 * j + 1))]) (rest := [.int v]) S hK hLW hg0 (metX5_who l F Dm bm (adm z) σ (xs (6 * j + 1)) (v, σ1) e2) (lw_V q2127 q2128 q2129 q111 q2130) hdX5_who ⟨rfl, rfl, Nat.le_of_ble_eq_true rfl, Nat.le_of_ble_eq_true rfl⟩ rfl hl.1 rfl rfl (Nat.le_of_ble_eq_true rfl) dL_726 (fun H locs hLW => ?_)
  refine lv_icmp_eq (tgt := 1282) hx hb dL_729 (by decide) (fun _ => ?_) (fun h9 => absurd rfl h9)
  exact hk _ _ _ _ _ _ _ hLR hLW hl
set_option maxHeartbeats 4000000 in
theorem lc_age [NoTr l] (C : LC p s m args c D Dm h0 bs L xs) (hLR : LR (n + 1) h σ) (hLW : LW D Dm h0 bm z h σ s H locs cs ss) (hj : 6 * j + 6 ≤ L) (hl : lv_has ls 7 [(0, .ref bs), (1, .ref b), (2, .ref bm), (3, .ref o), (4, .int (nI (6 * j)))]) (ho : LO_age F b LR) (hT : kT h b = 1 ∧ True) (hk : ∀ (h' : HS) (σ' : MS) (H : Heap) (locs : List Loc) (cs ss : Nat) (ls : Array Slot), LR n h' σ' → LW D Dm h0 bm z h' σ' s H locs cs ss → lv_has ls 7 [(0, .ref bs), (1, .ref b), (2, .ref bm), (3, .ref o), (4, .int (nI (6 * j)))] → W p l e (cR 8192 100000 h0) s m args below meth c H locs cs ss Q (F0 m 1282 ls [])) : W p l e (cR 8192 100000 h0) s m args below meth c H locs cs ss Q (F0 m 734 ls []) := by
  obtain ⟨S, hX, hK, hXs, hbl, hg0, hz0, hL⟩ := C
  obtain ⟨hx, hb, hml, hown, hts⟩ := id S
  obtain ⟨v, σ1, e1, e2, hLR⟩ := ho n h σ (xs (6 * j + 1)) (xs (6 * j + 2)) hLR
  refine lv_aload_n hx hb dL_734 rfl (lv_at hl 1 rfl) ?_
  refine lv_aload_n hx hb dL_735 rfl (lv_at hl 0 rfl) ?_
  refine lv_iload hx hb dL_736 (lv_at hl 4 rfl) ?_
  refine lv_iconst (v := 1) hx hb dL_738 rfl ?_
  refine lv_iadd hx hb dL_739 ?_
  refine lscr S hXs hbl hLW (hg0.trans hz0) (6 * j + 1) (by omega) hL (nI_add _ _) dL_740 ?_
  refine lv_aload_n hx hb dL_741 rfl (lv_at hl 0 rfl) ?_
  refine lv_iload hx hb dL_742 (lv_at hl 4 rfl) ?_
  refine lv_iconst (v := 2) hx hb dL_744 rfl ?_
  refine lv_iadd hx hb dL_745 ?_
  refine lscr S hXs hbl hLW (hg0.trans hz0) (6 * j + 2) (by omega) hL (nI_add _ _) dL_746 ?_
  refine lcall (maxL := 3) (rest := []) S hX hLW (metX1_age l F D h b (xs (6 * j + 1)) (xs (6 * j + 2)) v e1) (li_V (C := "RugReader") (As := [.int (xs (6 * j + 1)), .int (xs (6 * j + 2))]) (rest := []) S q1250 q1251 q1252 (SigOK.of hts q1253) hyX1_age (HI.cell (ci := 0) hX hLW.1 (by decide) hT.1) hlX1_age rfl dL_747) (pay_in hts (lw_meth q1253)) (CodeOK.of hts q1253) q103 (Nat.le_of_ble_eq_true rfl) (Nat.le_of_ble_eq_true rfl) hl.1 (Nat.le_of_ble_eq_true rfl) rfl (fun H locs cs ss hLW => ?_)
  refine lv_aload_n hx hb dL_750 rfl (lv_at hl 2 rfl) ?_
  refine lv_aload_n hx hb dL_751 rfl (lv_at hl 0 rfl) ?_
  refine lv_iload hx hb dL_752 (lv_at hl 4 rfl) ?_
  refine lv_iconst (v := 1) hx hb dL_754 rfl ?_
  refine lv_iadd hx hb dL_755 ?_
  refine lscr S hXs hbl hLW (hg0.trans hz0) (6 * j + 1) (by omega) hL (nI_add _ _) dL_756 ?_
  refine lv_aload_n hx hb dL_757 rfl (lv_at hl 0 rfl) ?_
  refine lv_iload hx hb dL_758 (lv_at hl 4 rfl) ?_
  refine lv_iconst (v := 2) hx hb dL_760 rfl ?_
  refine lv_iadd hx hb dL_761 ?_
  refine lscr S hXs hbl hLW (hg0.trans hz0) (6 * j + 2) (by omega) hL (nI_add _ _) dL_762 ?_
  refine lmodel (As := [.int (xs (6 * j + 1)), .int (xs (6 * j + 2))]) (rest := [.int v]) S hK hLW hg0 (metX5_age l F Dm bm (adm z) σ (xs (6 * j + 1)) (xs (6 * j + 2)) (v, σ1) e2) (lw_V q2135 q2136 q2137 q111 q2138) hdX5_age ⟨rfl, rfl, Nat.le_of_ble_eq_true rfl, Nat.le_of_ble_eq_true rfl⟩ rfl hl.1 rfl rfl (Nat.le_of_ble_eq_true rfl) dL_763 (fun H locs hLW => ?_)
  refine lv_icmp_eq (tgt := 1282) hx hb dL_766 (by decide) (fun _ => ?_) (fun h9 => absurd rfl h9)
  exact hk _ _ _ _ _ _ _ hLR hLW hl
set_option maxHeartbeats 4000000 in
theorem lc_readings [NoTr l] (C : LC p s m args c D Dm h0 bs L xs) (hLR : LR (n + 1) h σ) (hLW : LW D Dm h0 bm z h σ s H locs cs ss) (hj : 6 * j + 6 ≤ L) (hl : lv_has ls 7 [(0, .ref bs), (1, .ref b), (2, .ref bm), (3, .ref o), (4, .int (nI (6 * j)))]) (ho : LO_readings F b LR) (hT : kT h b = 1 ∧ True) (hk : ∀ (h' : HS) (σ' : MS) (H : Heap) (locs : List Loc) (cs ss : Nat) (ls : Array Slot), LR n h' σ' → LW D Dm h0 bm z h' σ' s H locs cs ss → lv_has ls 7 [(0, .ref bs), (1, .ref b), (2, .ref bm), (3, .ref o), (4, .int (nI (6 * j)))] → W p l e (cR 8192 100000 h0) s m args below meth c H locs cs ss Q (F0 m 1282 ls [])) : W p l e (cR 8192 100000 h0) s m args below meth c H locs cs ss Q (F0 m 771 ls []) := by
  obtain ⟨S, hX, hK, hXs, hbl, hg0, hz0, hL⟩ := C
  obtain ⟨hx, hb, hml, hown, hts⟩ := id S
  obtain ⟨v, h1, σ1, e1, e2, hLR⟩ := ho n h σ hLR
  refine lv_aload_n hx hb dL_771 rfl (lv_at hl 1 rfl) ?_
  refine lcall (maxL := 3) (rest := []) S hX hLW (metX1_readings l F D 40 890 (rTW F 10) (recTW l F D 10) h b (v, h1) e1) (li_V (C := "RugReader") (As := []) (rest := []) S q1254 q1255 q1256 (SigOK.of hts q1257) hyX1_readings (HI.cell (ci := 0) hX hLW.1 (by decide) hT.1) hlX1_readings rfl dL_772) (pay_in hts (lw_meth q1257)) (CodeOK.of hts q1257) q103 (Nat.le_of_ble_eq_true rfl) (Nat.le_of_ble_eq_true rfl) hl.1 (Nat.le_of_ble_eq_true rfl) rfl (fun H locs cs ss hLW => ?_)
  refine lv_aload_n hx hb dL_775 rfl (lv_at hl 2 rfl) ?_
  refine lmodel (As := []) (rest := [.int v]) S hK hLW hg0 (metX5_readings l F Dm bm (adm z) σ (v, σ1) e2) (lw_V q2139 q2140 q2141 q111 q2142) hdX5_readings ⟨rfl, rfl, Nat.le_of_ble_eq_true rfl, Nat.le_of_ble_eq_true rfl⟩ rfl hl.1 rfl rfl (Nat.le_of_ble_eq_true rfl) dL_776 (fun H locs hLW => ?_)
  refine lv_icmp_eq (tgt := 1282) hx hb dL_779 (by decide) (fun _ => ?_) (fun h9 => absurd rfl h9)
  exact hk _ _ _ _ _ _ _ hLR hLW hl
set_option maxHeartbeats 4000000 in
theorem lc_read [NoTr l] (C : LC p s m args c D Dm h0 bs L xs) (hLR : LR (n + 1) h σ) (hLW : LW D Dm h0 bm z h σ s H locs cs ss) (hj : 6 * j + 6 ≤ L) (hl : lv_has ls 7 [(0, .ref bs), (1, .ref b), (2, .ref bm), (3, .ref o), (4, .int (nI (6 * j)))]) (ho : LO_read F b LR) (hT : kT h b = 1 ∧ True) (hk : ∀ (h' : HS) (σ' : MS) (H : Heap) (locs : List Loc) (cs ss : Nat) (ls : Array Slot), LR n h' σ' → LW D Dm h0 bm z h' σ' s H locs cs ss → lv_has ls 7 [(0, .ref bs), (1, .ref b), (2, .ref bm), (3, .ref o), (4, .int (nI (6 * j)))] → W p l e (cR 8192 100000 h0) s m args below meth c H locs cs ss Q (F0 m 1282 ls [])) : W p l e (cR 8192 100000 h0) s m args below meth c H locs cs ss Q (F0 m 784 ls []) := by
  obtain ⟨S, hX, hK, hXs, hbl, hg0, hz0, hL⟩ := C
  obtain ⟨hx, hb, hml, hown, hts⟩ := id S
  obtain ⟨v, σ1, e1, e2, hLR⟩ := ho n h σ (xs (6 * j + 1)) (xs (6 * j + 2)) hLR
  refine lv_aload_n hx hb dL_784 rfl (lv_at hl 1 rfl) ?_
  refine lv_aload_n hx hb dL_785 rfl (lv_at hl 0 rfl) ?_
  refine lv_iload hx hb dL_786 (lv_at hl 4 rfl) ?_
  refine lv_iconst (v := 1) hx hb dL_788 rfl ?_
  refine lv_iadd hx hb dL_789 ?_
  refine lscr S hXs hbl hLW (hg0.trans hz0) (6 * j + 1) (by omega) hL (nI_add _ _) dL_790 ?_
  refine lv_aload_n hx hb dL_791 rfl (lv_at hl 0 rfl) ?_
  refine lv_iload hx hb dL_792 (lv_at hl 4 rfl) ?_
  refine lv_iconst (v := 2) hx hb dL_794 rfl ?_
  refine lv_iadd hx hb dL_795 ?_
  refine lscr S hXs hbl hLW (hg0.trans hz0) (6 * j + 2) (by omega) hL (nI_add _ _) dL_796 ?_
  refine lcall (maxL := 3) (rest := []) S hX hLW (metX1_read l F D h b (xs (6 * j + 1)) (xs (6 * j + 2)) v e1) (li_V (C := "RugReader") (As := [.int (xs (6 * j + 1)), .int (xs (6 * j + 2))]) (rest := []) S q1285 q1286 q1287 (SigOK.of hts q1288) hyX1_read (HI.cell (ci := 0) hX hLW.1 (by decide) hT.1) hlX1_read rfl dL_797) (pay_in hts (lw_meth q1288)) (CodeOK.of hts q1288) q103 (Nat.le_of_ble_eq_true rfl) (Nat.le_of_ble_eq_true rfl) hl.1 (Nat.le_of_ble_eq_true rfl) rfl (fun H locs cs ss hLW => ?_)
  refine lv_aload_n hx hb dL_800 rfl (lv_at hl 2 rfl) ?_
  refine lv_aload_n hx hb dL_801 rfl (lv_at hl 0 rfl) ?_
  refine lv_iload hx hb dL_802 (lv_at hl 4 rfl) ?_
  refine lv_iconst (v := 1) hx hb dL_804 rfl ?_
  refine lv_iadd hx hb dL_805 ?_
  refine lscr S hXs hbl hLW (hg0.trans hz0) (6 * j + 1) (by omega) hL (nI_add _ _) dL_806 ?_
  refine lv_aload_n hx hb dL_807 rfl (lv_at hl 0 rfl) ?_
  refine lv_iload hx hb dL_808 (lv_at hl 4 rfl) ?_
  refine lv_iconst (v := 2) hx hb dL_810 rfl ?_
  refine lv_iadd hx hb dL_811 ?_
  refine lscr S hXs hbl hLW (hg0.trans hz0) (6 * j + 2) (by omega) hL (nI_add _ _) dL_812 ?_
  refine lmodel (As := [.int (xs (6 * j + 1)), .int (xs (6 * j + 2))]) (rest := [.int v]) S hK hLW hg0 (metX5_read l F Dm bm (adm z) σ (xs (6 * j + 1)) (xs (6 * j + 2)) (v, σ1) e2) (lw_V q2159 q2160 q2161 q111 q2162) hdX5_read ⟨rfl, rfl, Nat.le_of_ble_eq_true rfl, Nat.le_of_ble_eq_true rfl⟩ rfl hl.1 rfl rfl (Nat.le_of_ble_eq_true rfl) dL_813 (fun H locs hLW => ?_)
  refine lv_icmp_eq (tgt := 1282) hx hb dL_816 (by decide) (fun _ => ?_) (fun h9 => absurd rfl h9)
  exact hk _ _ _ _ _ _ _ hLR hLW hl
set_option maxHeartbeats 4000000 in
theorem lc_fewest [NoTr l] (C : LC p s m args c D Dm h0 bs L xs) (hLR : LR (n + 1) h σ) (hLW : LW D Dm h0 bm z h σ s H locs cs ss) (hj : 6 * j + 6 ≤ L) (hl : lv_has ls 7 [(0, .ref bs), (1, .ref b), (2, .ref bm), (3, .ref o), (4, .int (nI (6 * j)))]) (ho : LO_fewest F b LR) (hT : kT h b = 1 ∧ True) (hk : ∀ (h' : HS) (σ' : MS) (H : Heap) (locs : List Loc) (cs ss : Nat) (ls : Array Slot), LR n h' σ' → LW D Dm h0 bm z h' σ' s H locs cs ss → lv_has ls 7 [(0, .ref bs), (1, .ref b), (2, .ref bm), (3, .ref o), (4, .int (nI (6 * j)))] → W p l e (cR 8192 100000 h0) s m args below meth c H locs cs ss Q (F0 m 1282 ls [])) : W p l e (cR 8192 100000 h0) s m args below meth c H locs cs ss Q (F0 m 821 ls []) := by
  obtain ⟨S, hX, hK, hXs, hbl, hg0, hz0, hL⟩ := C
  obtain ⟨hx, hb, hml, hown, hts⟩ := id S
  obtain ⟨v, σ1, e1, e2, hLR⟩ := ho n h σ hLR
  refine lv_aload_n hx hb dL_821 rfl (lv_at hl 1 rfl) ?_
  refine lcall (maxL := 1) (rest := []) S hX hLW (metX1_fewest l F D h b v e1) (li_V (C := "RugReader") (As := []) (rest := []) S q1289 q1290 q1291 (SigOK.of hts q1292) hyX1_fewest (HI.cell (ci := 0) hX hLW.1 (by decide) hT.1) hlX1_fewest rfl dL_822) (pay_in hts (lw_meth q1292)) (CodeOK.of hts q1292) q103 (Nat.le_of_ble_eq_true rfl) (Nat.le_of_ble_eq_true rfl) hl.1 (Nat.le_of_ble_eq_true rfl) rfl (fun H locs cs ss hLW => ?_)
  refine lv_aload_n hx hb dL_825 rfl (lv_at hl 2 rfl) ?_
  refine lmodel (As := []) (rest := [.int v]) S hK hLW hg0 (metX5_fewest l Dm bm (adm z) σ (v, σ1) e2) (lw_V q2163 q2164 q2165 q111 q2166) hdX5_fewest ⟨rfl, rfl, Nat.le_of_ble_eq_true rfl, Nat.le_of_ble_eq_true rfl⟩ rfl hl.1 rfl rfl (Nat.le_of_ble_eq_true rfl) dL_826 (fun H locs hLW => ?_)
  refine lv_icmp_eq (tgt := 1282) hx hb dL_829 (by decide) (fun _ => ?_) (fun h9 => absurd rfl h9)
  exact hk _ _ _ _ _ _ _ hLR hLW hl
set_option maxHeartbeats 4000000 in
theorem lc_sign [NoTr l] (C : LC p s m args c D Dm h0 bs L xs) (hLR : LR (n + 1) h σ) (hLW : LW D Dm h0 bm z h σ s H locs cs ss) (hj : 6 * j + 6 ≤ L) (hl : lv_has ls 7 [(0, .ref bs), (1, .ref b), (2, .ref bm), (3, .ref o), (4, .int (nI (6 * j)))]) (ho : LO_sign F b LR) (hT : kT h b = 1 ∧ True) (hk : ∀ (h' : HS) (σ' : MS) (H : Heap) (locs : List Loc) (cs ss : Nat) (ls : Array Slot), LR n h' σ' → LW D Dm h0 bm z h' σ' s H locs cs ss → lv_has ls 7 [(0, .ref bs), (1, .ref b), (2, .ref bm), (3, .ref o), (4, .int (nI (6 * j)))] → W p l e (cR 8192 100000 h0) s m args below meth c H locs cs ss Q (F0 m 1282 ls [])) : W p l e (cR 8192 100000 h0) s m args below meth c H locs cs ss Q (F0 m 834 ls []) := by
  obtain ⟨S, hX, hK, hXs, hbl, hg0, hz0, hL⟩ := C
  obtain ⟨hx, hb, hml, hown, hts⟩ := id S
  obtain ⟨v, h1, σ1, e1, e2, hLR⟩ := ho n h σ (xs (6 * j + 1)) (xs (6 * j + 2)) (xs (6 * j + 3)) hLR
  refine lv_aload_n hx hb dL_834 rfl (lv_at hl 1 rfl) ?_
  refine lv_aload_n hx hb dL_835 rfl (lv_at hl 0 rfl) ?_
  refine lv_iload hx hb dL_836 (lv_at hl 4 rfl) ?_
  refine lv_iconst (v := 1) hx hb dL_838 rfl ?_
  refine lv_iadd hx hb dL_839 ?_
  refine lscr S hXs hbl hLW (hg0.trans hz0) (6 * j + 1) (by omega) hL (nI_add _ _) dL_840 ?_
  refine lv_aload_n hx hb dL_841 rfl (lv_at hl 0 rfl) ?_
  refine lv_iload hx hb dL_842 (lv_at hl 4 rfl) ?_
  refine lv_iconst (v := 2) hx hb dL_844 rfl ?_
  refine lv_iadd hx hb dL_845 ?_
  refine lscr S hXs hbl hLW (hg0.trans hz0) (6 * j + 2) (by omega) hL (nI_add _ _) dL_846 ?_
  refine lv_aload_n hx hb dL_847 rfl (lv_at hl 0 rfl) ?_
  refine lv_iload hx hb dL_848 (lv_at hl 4 rfl) ?_
  refine lv_iconst (v := 3) hx hb dL_850 rfl ?_
  refine lv_iadd hx hb dL_851 ?_
  refine lscr S hXs hbl hLW (hg0.trans hz0) (6 * j + 3) (by omega) hL (nI_add _ _) dL_852 ?_
  refine lcall (maxL := 5) (rest := []) S hX hLW (metX1_sign l F D h b (xs (6 * j + 1)) (xs (6 * j + 2)) (xs (6 * j + 3)) (v, h1) e1) (li_V (C := "RugReader") (As := [.int (xs (6 * j + 1)), .int (xs (6 * j + 2)), .int (xs (6 * j + 3))]) (rest := []) S q1293 q1294 q1295 (SigOK.of hts q1296) hyX1_sign (HI.cell (ci := 0) hX hLW.1 (by decide) hT.1) hlX1_sign rfl dL_853) (pay_in hts (lw_meth q1296)) (CodeOK.of hts q1296) q103 (Nat.le_of_ble_eq_true rfl) (Nat.le_of_ble_eq_true rfl) hl.1 (Nat.le_of_ble_eq_true rfl) rfl (fun H locs cs ss hLW => ?_)
  refine lv_aload_n hx hb dL_856 rfl (lv_at hl 2 rfl) ?_
  refine lv_aload_n hx hb dL_857 rfl (lv_at hl 0 rfl) ?_
  refine lv_iload hx hb dL_858 (lv_at hl 4 rfl) ?_
  refine lv_iconst (v := 1) hx hb dL_860 rfl ?_
  refine lv_iadd hx hb dL_861 ?_
  refine lscr S hXs hbl hLW (hg0.trans hz0) (6 * j + 1) (by omega) hL (nI_add _ _) dL_862 ?_
  refine lv_aload_n hx hb dL_863 rfl (lv_at hl 0 rfl) ?_
  refine lv_iload hx hb dL_864 (lv_at hl 4 rfl) ?_
  refine lv_iconst (v := 2) hx hb dL_866 rfl ?_
  refine lv_iadd hx hb dL_867 ?_
  refine lscr S hXs hbl hLW (hg0.trans hz0) (6 * j + 2) (by omega) hL (nI_add _ _) dL_868 ?_
  refine lv_aload_n hx hb dL_869 rfl (lv_at hl 0 rfl) ?_
  refine lv_iload hx hb dL_870 (lv_at hl 4 rfl) ?_
  refine lv_iconst (v := 3) hx hb dL_872 rfl ?_
  refine lv_iadd hx hb dL_873 ?_
  refine lscr S hXs hbl hLW (hg0.trans hz0) (6 * j + 3) (by omega) hL (nI_add _ _) dL_874 ?_
  refine lmodel (As := [.int (xs (6 * j + 1)), .int (xs (6 * j + 2)), .int (xs (6 * j + 3))]) (rest := [.int v]) S hK hLW hg0 (metX5_sign_2 l F Dm bm (adm z) σ (xs (6 * j + 1)) (xs (6 * j + 2)) (xs (6 * j + 3)) (v, σ1) e2) (lw_V q2167 q2168 q2169 q111 q2170) hdX5_sign_2 ⟨rfl, rfl, Nat.le_of_ble_eq_true rfl, Nat.le_of_ble_eq_true rfl⟩ rfl hl.1 rfl rfl (Nat.le_of_ble_eq_true rfl) dL_875 (fun H locs hLW => ?_)
  refine lv_icmp_eq (tgt := 1282) hx hb dL_878 (by decide) (fun _ => ?_) (fun h9 => absurd rfl h9)
  exact hk _ _ _ _ _ _ _ hLR hLW hl
set_option maxHeartbeats 4000000 in
theorem lc_steps [NoTr l] (C : LC p s m args c D Dm h0 bs L xs) (hLR : LR (n + 1) h σ) (hLW : LW D Dm h0 bm z h σ s H locs cs ss) (hj : 6 * j + 6 ≤ L) (hl : lv_has ls 7 [(0, .ref bs), (1, .ref b), (2, .ref bm), (3, .ref o), (4, .int (nI (6 * j)))]) (ho : LO_steps F b LR) (hT : kT h b = 1 ∧ True) (hk : ∀ (h' : HS) (σ' : MS) (H : Heap) (locs : List Loc) (cs ss : Nat) (ls : Array Slot), LR n h' σ' → LW D Dm h0 bm z h' σ' s H locs cs ss → lv_has ls 7 [(0, .ref bs), (1, .ref b), (2, .ref bm), (3, .ref o), (4, .int (nI (6 * j)))] → W p l e (cR 8192 100000 h0) s m args below meth c H locs cs ss Q (F0 m 1282 ls [])) : W p l e (cR 8192 100000 h0) s m args below meth c H locs cs ss Q (F0 m 883 ls []) := by
  obtain ⟨S, hX, hK, hXs, hbl, hg0, hz0, hL⟩ := C
  obtain ⟨hx, hb, hml, hown, hts⟩ := id S
  obtain ⟨v, h1, σ1, e1, e2, hLR⟩ := ho n h σ (xs (6 * j + 1)) (xs (6 * j + 2)) (xs (6 * j + 3)) hLR
  refine lv_aload_n hx hb dL_883 rfl (lv_at hl 1 rfl) ?_
  refine lv_aload_n hx hb dL_884 rfl (lv_at hl 0 rfl) ?_
  refine lv_iload hx hb dL_885 (lv_at hl 4 rfl) ?_
  refine lv_iconst (v := 1) hx hb dL_887 rfl ?_
  refine lv_iadd hx hb dL_888 ?_
  refine lscr S hXs hbl hLW (hg0.trans hz0) (6 * j + 1) (by omega) hL (nI_add _ _) dL_889 ?_
  refine lv_aload_n hx hb dL_890 rfl (lv_at hl 0 rfl) ?_
  refine lv_iload hx hb dL_891 (lv_at hl 4 rfl) ?_
  refine lv_iconst (v := 2) hx hb dL_893 rfl ?_
  refine lv_iadd hx hb dL_894 ?_
  refine lscr S hXs hbl hLW (hg0.trans hz0) (6 * j + 2) (by omega) hL (nI_add _ _) dL_895 ?_
  refine lv_aload_n hx hb dL_896 rfl (lv_at hl 0 rfl) ?_
  refine lv_iload hx hb dL_897 (lv_at hl 4 rfl) ?_
  refine lv_iconst (v := 3) hx hb dL_899 rfl ?_
  refine lv_iadd hx hb dL_900 ?_
  refine lscr S hXs hbl hLW (hg0.trans hz0) (6 * j + 3) (by omega) hL (nI_add _ _) dL_901 ?_
  refine lcall (maxL := 5) (rest := []) S hX hLW (metX1_steps l F D h b (xs (6 * j + 1)) (xs (6 * j + 2)) (xs (6 * j + 3)) (v, h1) e1) (li_V (C := "RugReader") (As := [.int (xs (6 * j + 1)), .int (xs (6 * j + 2)), .int (xs (6 * j + 3))]) (rest := []) S q1315 q1316 q1317 (SigOK.of hts q1318) hyX1_steps (HI.cell (ci := 0) hX hLW.1 (by decide) hT.1) hlX1_steps rfl dL_902) (pay_in hts (lw_meth q1318)) (CodeOK.of hts q1318) q103 (Nat.le_of_ble_eq_true rfl) (Nat.le_of_ble_eq_true rfl) hl.1 (Nat.le_of_ble_eq_true rfl) rfl (fun H locs cs ss hLW => ?_)
  refine lv_aload_n hx hb dL_905 rfl (lv_at hl 2 rfl) ?_
  refine lv_aload_n hx hb dL_906 rfl (lv_at hl 0 rfl) ?_
  refine lv_iload hx hb dL_907 (lv_at hl 4 rfl) ?_
  refine lv_iconst (v := 1) hx hb dL_909 rfl ?_
  refine lv_iadd hx hb dL_910 ?_
  refine lscr S hXs hbl hLW (hg0.trans hz0) (6 * j + 1) (by omega) hL (nI_add _ _) dL_911 ?_
  refine lv_aload_n hx hb dL_912 rfl (lv_at hl 0 rfl) ?_
  refine lv_iload hx hb dL_913 (lv_at hl 4 rfl) ?_
  refine lv_iconst (v := 2) hx hb dL_915 rfl ?_
  refine lv_iadd hx hb dL_916 ?_
  refine lscr S hXs hbl hLW (hg0.trans hz0) (6 * j + 2) (by omega) hL (nI_add _ _) dL_917 ?_
  refine lv_aload_n hx hb dL_918 rfl (lv_at hl 0 rfl) ?_
  refine lv_iload hx hb dL_919 (lv_at hl 4 rfl) ?_
  refine lv_iconst (v := 3) hx hb dL_921 rfl ?_
  refine lv_iadd hx hb dL_922 ?_
  refine lscr S hXs hbl hLW (hg0.trans hz0) (6 * j + 3) (by omega) hL (nI_add _ _) dL_923 ?_
  refine lmodel (As := [.int (xs (6 * j + 1)), .int (xs (6 * j + 2)), .int (xs (6 * j + 3))]) (rest := [.int v]) S hK hLW hg0 (metX5_steps l F Dm bm (adm z) σ (xs (6 * j + 1)) (xs (6 * j + 2)) (xs (6 * j + 3)) (v, σ1) e2) (lw_V q2184 q2185 q2186 q111 q2187) hdX5_steps ⟨rfl, rfl, Nat.le_of_ble_eq_true rfl, Nat.le_of_ble_eq_true rfl⟩ rfl hl.1 rfl rfl (Nat.le_of_ble_eq_true rfl) dL_924 (fun H locs hLW => ?_)
  refine lv_icmp_eq (tgt := 1282) hx hb dL_927 (by decide) (fun _ => ?_) (fun h9 => absurd rfl h9)
  exact hk _ _ _ _ _ _ _ hLR hLW hl
set_option maxHeartbeats 4000000 in
theorem lc_walk [NoTr l] (C : LC p s m args c D Dm h0 bs L xs) (hLR : LR (n + 1) h σ) (hLW : LW D Dm h0 bm z h σ s H locs cs ss) (hj : 6 * j + 6 ≤ L) (hl : lv_has ls 7 [(0, .ref bs), (1, .ref b), (2, .ref bm), (3, .ref o), (4, .int (nI (6 * j)))]) (ho : LO_walk F b LR) (hT : kT h b = 1 ∧ True) (hk : ∀ (h' : HS) (σ' : MS) (H : Heap) (locs : List Loc) (cs ss : Nat) (ls : Array Slot), LR n h' σ' → LW D Dm h0 bm z h' σ' s H locs cs ss → lv_has ls 7 [(0, .ref bs), (1, .ref b), (2, .ref bm), (3, .ref o), (4, .int (nI (6 * j)))] → W p l e (cR 8192 100000 h0) s m args below meth c H locs cs ss Q (F0 m 1282 ls [])) : W p l e (cR 8192 100000 h0) s m args below meth c H locs cs ss Q (F0 m 932 ls []) := by
  obtain ⟨S, hX, hK, hXs, hbl, hg0, hz0, hL⟩ := C
  obtain ⟨hx, hb, hml, hown, hts⟩ := id S
  obtain ⟨v, h1, σ1, e1, e2, hLR⟩ := ho n h σ hLR
  refine lv_aload_n hx hb dL_932 rfl (lv_at hl 1 rfl) ?_
  refine lcall (maxL := 3) (rest := []) S hX hLW (metX1_walk l F D h b (v, h1) e1) (li_V (C := "RugReader") (As := []) (rest := []) S q1319 q1320 q1321 (SigOK.ofW hts q1322) hyX1_walk (HI.cell (ci := 0) hX hLW.1 (by decide) hT.1) hlX1_walk rfl dL_933) (pay_in hts (lw_methW q1322)) (CodeOK.ofW hts q1322) q103 (Nat.le_of_ble_eq_true rfl) (Nat.le_of_ble_eq_true rfl) hl.1 (Nat.le_of_ble_eq_true rfl) rfl (fun H locs cs ss hLW => ?_)
  refine lv_aload_n hx hb dL_936 rfl (lv_at hl 2 rfl) ?_
  refine lmodel (As := []) (rest := [.int v]) S hK hLW hg0 (metX5_walk l F Dm bm (adm z) σ (v, σ1) e2) (lw_V q2188 q2189 q2190 q111 q2191) hdX5_walk ⟨rfl, rfl, Nat.le_of_ble_eq_true rfl, Nat.le_of_ble_eq_true rfl⟩ rfl hl.1 rfl rfl (Nat.le_of_ble_eq_true rfl) dL_937 (fun H locs hLW => ?_)
  refine lv_icmp_eq (tgt := 1282) hx hb dL_940 (by decide) (fun _ => ?_) (fun h9 => absurd rfl h9)
  exact hk _ _ _ _ _ _ _ hLR hLW hl
set_option maxHeartbeats 4000000 in
theorem lc_walked [NoTr l] (C : LC p s m args c D Dm h0 bs L xs) (hLR : LR (n + 1) h σ) (hLW : LW D Dm h0 bm z h σ s H locs cs ss) (hj : 6 * j + 6 ≤ L) (hl : lv_has ls 7 [(0, .ref bs), (1, .ref b), (2, .ref bm), (3, .ref o), (4, .int (nI (6 * j)))]) (ho : LO_walked F b LR) (hT : kT h b = 1 ∧ True) (hk : ∀ (h' : HS) (σ' : MS) (H : Heap) (locs : List Loc) (cs ss : Nat) (ls : Array Slot), LR n h' σ' → LW D Dm h0 bm z h' σ' s H locs cs ss → lv_has ls 7 [(0, .ref bs), (1, .ref b), (2, .ref bm), (3, .ref o), (4, .int (nI (6 * j)))] → W p l e (cR 8192 100000 h0) s m args below meth c H locs cs ss Q (F0 m 1282 ls [])) : W p l e (cR 8192 100000 h0) s m args below meth c H locs cs ss Q (F0 m 945 ls []) := by
  obtain ⟨S, hX, hK, hXs, hbl, hg0, hz0, hL⟩ := C
  obtain ⟨hx, hb, hml, hown, hts⟩ := id S
  obtain ⟨v, σ1, e1, e2, hLR⟩ := ho n h σ (xs (6 * j + 1)) hLR
  refine lv_aload_n hx hb dL_945 rfl (lv_at hl 1 rfl) ?_
  refine lv_aload_n hx hb dL_946 rfl (lv_at hl 0 rfl) ?_
  refine lv_iload hx hb dL_947 (lv_at hl 4 rfl) ?_
  refine lv_iconst (v := 1) hx hb dL_949 rfl ?_
  refine lv_iadd hx hb dL_950 ?_
  refine lscr S hXs hbl hLW (hg0.trans hz0) (6 * j + 1) (by omega) hL (nI_add _ _) dL_951 ?_
  refine lcall (maxL := 2) (rest := []) S hX hLW (metX1_walked l F D h b (xs (6 * j + 1)) v e1) (li_V (C := "RugReader") (As := [.int (xs (6 * j + 1))]) (rest := []) S q1409 q1410 q1411 (SigOK.of hts q1412) hyX1_walked (HI.cell (ci := 0) hX hLW.1 (by decide) hT.1) hlX1_walked rfl dL_952) (pay_in hts (lw_meth q1412)) (CodeOK.of hts q1412) q103 (Nat.le_of_ble_eq_true rfl) (Nat.le_of_ble_eq_true rfl) hl.1 (Nat.le_of_ble_eq_true rfl) rfl (fun H locs cs ss hLW => ?_)
  refine lv_aload_n hx hb dL_955 rfl (lv_at hl 2 rfl) ?_
  refine lv_aload_n hx hb dL_956 rfl (lv_at hl 0 rfl) ?_
  refine lv_iload hx hb dL_957 (lv_at hl 4 rfl) ?_
  refine lv_iconst (v := 1) hx hb dL_959 rfl ?_
  refine lv_iadd hx hb dL_960 ?_
  refine lscr S hXs hbl hLW (hg0.trans hz0) (6 * j + 1) (by omega) hL (nI_add _ _) dL_961 ?_
  refine lmodel (As := [.int (xs (6 * j + 1))]) (rest := [.int v]) S hK hLW hg0 (metX5_walked l F Dm bm (adm z) σ (xs (6 * j + 1)) (v, σ1) e2) (lw_V q2196 q2197 q2198 q111 q2199) hdX5_walked ⟨rfl, rfl, Nat.le_of_ble_eq_true rfl, Nat.le_of_ble_eq_true rfl⟩ rfl hl.1 rfl rfl (Nat.le_of_ble_eq_true rfl) dL_962 (fun H locs hLW => ?_)
  refine lv_icmp_eq (tgt := 1282) hx hb dL_965 (by decide) (fun _ => ?_) (fun h9 => absurd rfl h9)
  exact hk _ _ _ _ _ _ _ hLR hLW hl
set_option maxHeartbeats 4000000 in
theorem lc_seen [NoTr l] (C : LC p s m args c D Dm h0 bs L xs) (hLR : LR (n + 1) h σ) (hLW : LW D Dm h0 bm z h σ s H locs cs ss) (hj : 6 * j + 6 ≤ L) (hl : lv_has ls 7 [(0, .ref bs), (1, .ref b), (2, .ref bm), (3, .ref o), (4, .int (nI (6 * j)))]) (ho : LO_seen F b LR) (hT : kT h b = 1 ∧ True) (hk : ∀ (h' : HS) (σ' : MS) (H : Heap) (locs : List Loc) (cs ss : Nat) (ls : Array Slot), LR n h' σ' → LW D Dm h0 bm z h' σ' s H locs cs ss → lv_has ls 7 [(0, .ref bs), (1, .ref b), (2, .ref bm), (3, .ref o), (4, .int (nI (6 * j)))] → W p l e (cR 8192 100000 h0) s m args below meth c H locs cs ss Q (F0 m 1282 ls [])) : W p l e (cR 8192 100000 h0) s m args below meth c H locs cs ss Q (F0 m 970 ls []) := by
  obtain ⟨S, hX, hK, hXs, hbl, hg0, hz0, hL⟩ := C
  obtain ⟨hx, hb, hml, hown, hts⟩ := id S
  obtain ⟨v, h1, σ1, e1, e2, hLR⟩ := ho n h σ (xs (6 * j + 1)) (xs (6 * j + 2)) hLR
  refine lv_aload_n hx hb dL_970 rfl (lv_at hl 1 rfl) ?_
  refine lv_aload_n hx hb dL_971 rfl (lv_at hl 0 rfl) ?_
  refine lv_iload hx hb dL_972 (lv_at hl 4 rfl) ?_
  refine lv_iconst (v := 1) hx hb dL_974 rfl ?_
  refine lv_iadd hx hb dL_975 ?_
  refine lscr S hXs hbl hLW (hg0.trans hz0) (6 * j + 1) (by omega) hL (nI_add _ _) dL_976 ?_
  refine lv_aload_n hx hb dL_977 rfl (lv_at hl 0 rfl) ?_
  refine lv_iload hx hb dL_978 (lv_at hl 4 rfl) ?_
  refine lv_iconst (v := 2) hx hb dL_980 rfl ?_
  refine lv_iadd hx hb dL_981 ?_
  refine lscr S hXs hbl hLW (hg0.trans hz0) (6 * j + 2) (by omega) hL (nI_add _ _) dL_982 ?_
  refine lcall (maxL := 7) (rest := []) S hX hLW (metX1_seen l F D h b (xs (6 * j + 1)) (xs (6 * j + 2)) (v, h1) e1) (li_V (C := "RugReader") (As := [.int (xs (6 * j + 1)), .int (xs (6 * j + 2))]) (rest := []) S q1413 q1414 q1415 (SigOK.of hts q1416) hyX1_seen (HI.cell (ci := 0) hX hLW.1 (by decide) hT.1) hlX1_seen rfl dL_983) (pay_in hts (lw_meth q1416)) (CodeOK.of hts q1416) q103 (Nat.le_of_ble_eq_true rfl) (Nat.le_of_ble_eq_true rfl) hl.1 (Nat.le_of_ble_eq_true rfl) rfl (fun H locs cs ss hLW => ?_)
  refine lv_aload_n hx hb dL_986 rfl (lv_at hl 2 rfl) ?_
  refine lv_aload_n hx hb dL_987 rfl (lv_at hl 0 rfl) ?_
  refine lv_iload hx hb dL_988 (lv_at hl 4 rfl) ?_
  refine lv_iconst (v := 1) hx hb dL_990 rfl ?_
  refine lv_iadd hx hb dL_991 ?_
  refine lscr S hXs hbl hLW (hg0.trans hz0) (6 * j + 1) (by omega) hL (nI_add _ _) dL_992 ?_
  refine lv_aload_n hx hb dL_993 rfl (lv_at hl 0 rfl) ?_
  refine lv_iload hx hb dL_994 (lv_at hl 4 rfl) ?_
  refine lv_iconst (v := 2) hx hb dL_996 rfl ?_
  refine lv_iadd hx hb dL_997 ?_
  refine lscr S hXs hbl hLW (hg0.trans hz0) (6 * j + 2) (by omega) hL (nI_add _ _) dL_998 ?_
  refine lmodel (As := [.int (xs (6 * j + 1)), .int (xs (6 * j + 2))]) (rest := [.int v]) S hK hLW hg0 (metX5_seen l F Dm bm (adm z) σ (xs (6 * j + 1)) (xs (6 * j + 2)) (v, σ1) e2) (lw_V q2200 q2201 q2202 q111 q2203) hdX5_seen ⟨rfl, rfl, Nat.le_of_ble_eq_true rfl, Nat.le_of_ble_eq_true rfl⟩ rfl hl.1 rfl rfl (Nat.le_of_ble_eq_true rfl) dL_999 (fun H locs hLW => ?_)
  refine lv_icmp_eq (tgt := 1282) hx hb dL_1002 (by decide) (fun _ => ?_) (fun h9 => absurd rfl h9)
  exact hk _ _ _ _ _ _ _ hLR hLW hl
set_option maxHeartbeats 4000000 in
theorem lc_lay [NoTr l] (C : LC p s m args c D Dm h0 bs L xs) (hLR : LR (n + 1) h σ) (hLW : LW D Dm h0 bm z h σ s H locs cs ss) (hj : 6 * j + 6 ≤ L) (hl : lv_has ls 7 [(0, .ref bs), (1, .ref b), (2, .ref bm), (3, .ref o), (4, .int (nI (6 * j)))]) (ho : LO_lay F b LR) (hT : kT h b = 1 ∧ True) (hk : ∀ (h' : HS) (σ' : MS) (H : Heap) (locs : List Loc) (cs ss : Nat) (ls : Array Slot), LR n h' σ' → LW D Dm h0 bm z h' σ' s H locs cs ss → lv_has ls 7 [(0, .ref bs), (1, .ref b), (2, .ref bm), (3, .ref o), (4, .int (nI (6 * j)))] → W p l e (cR 8192 100000 h0) s m args below meth c H locs cs ss Q (F0 m 1282 ls [])) : W p l e (cR 8192 100000 h0) s m args below meth c H locs cs ss Q (F0 m 1007 ls []) := by
  obtain ⟨S, hX, hK, hXs, hbl, hg0, hz0, hL⟩ := C
  obtain ⟨hx, hb, hml, hown, hts⟩ := id S
  obtain ⟨v, σ1, e1, e2, hLR⟩ := ho n h σ (xs (6 * j + 1)) hLR
  refine lv_aload_n hx hb dL_1007 rfl (lv_at hl 1 rfl) ?_
  refine lv_aload_n hx hb dL_1008 rfl (lv_at hl 0 rfl) ?_
  refine lv_iload hx hb dL_1009 (lv_at hl 4 rfl) ?_
  refine lv_iconst (v := 1) hx hb dL_1011 rfl ?_
  refine lv_iadd hx hb dL_1012 ?_
  refine lscr S hXs hbl hLW (hg0.trans hz0) (6 * j + 1) (by omega) hL (nI_add _ _) dL_1013 ?_
  refine lcall (maxL := 2) (rest := []) S hX hLW (metX1_lay l F D h b (xs (6 * j + 1)) v e1) (li_V (C := "RugReader") (As := [.int (xs (6 * j + 1))]) (rest := []) S q1443 q1444 q1445 (SigOK.of hts q1446) hyX1_lay (HI.cell (ci := 0) hX hLW.1 (by decide) hT.1) hlX1_lay rfl dL_1014) (pay_in hts (lw_meth q1446)) (CodeOK.of hts q1446) q103 (Nat.le_of_ble_eq_true rfl) (Nat.le_of_ble_eq_true rfl) hl.1 (Nat.le_of_ble_eq_true rfl) rfl (fun H locs cs ss hLW => ?_)
  refine lv_aload_n hx hb dL_1017 rfl (lv_at hl 2 rfl) ?_
  refine lv_aload_n hx hb dL_1018 rfl (lv_at hl 0 rfl) ?_
  refine lv_iload hx hb dL_1019 (lv_at hl 4 rfl) ?_
  refine lv_iconst (v := 1) hx hb dL_1021 rfl ?_
  refine lv_iadd hx hb dL_1022 ?_
  refine lscr S hXs hbl hLW (hg0.trans hz0) (6 * j + 1) (by omega) hL (nI_add _ _) dL_1023 ?_
  refine lmodel (As := [.int (xs (6 * j + 1))]) (rest := [.int v]) S hK hLW hg0 (metX5_lay l F Dm bm (adm z) σ (xs (6 * j + 1)) (v, σ1) e2) (lw_V q2224 q2225 q2226 q111 q2227) hdX5_lay ⟨rfl, rfl, Nat.le_of_ble_eq_true rfl, Nat.le_of_ble_eq_true rfl⟩ rfl hl.1 rfl rfl (Nat.le_of_ble_eq_true rfl) dL_1024 (fun H locs hLW => ?_)
  refine lv_icmp_eq (tgt := 1282) hx hb dL_1027 (by decide) (fun _ => ?_) (fun h9 => absurd rfl h9)
  exact hk _ _ _ _ _ _ _ hLR hLW hl
set_option maxHeartbeats 4000000 in
theorem lc_spot [NoTr l] (C : LC p s m args c D Dm h0 bs L xs) (hLR : LR (n + 1) h σ) (hLW : LW D Dm h0 bm z h σ s H locs cs ss) (hj : 6 * j + 6 ≤ L) (hl : lv_has ls 7 [(0, .ref bs), (1, .ref b), (2, .ref bm), (3, .ref o), (4, .int (nI (6 * j)))]) (ho : LO_spot F b LR) (hT : kT h b = 1 ∧ True) (hk : ∀ (h' : HS) (σ' : MS) (H : Heap) (locs : List Loc) (cs ss : Nat) (ls : Array Slot), LR n h' σ' → LW D Dm h0 bm z h' σ' s H locs cs ss → lv_has ls 7 [(0, .ref bs), (1, .ref b), (2, .ref bm), (3, .ref o), (4, .int (nI (6 * j)))] → W p l e (cR 8192 100000 h0) s m args below meth c H locs cs ss Q (F0 m 1282 ls [])) : W p l e (cR 8192 100000 h0) s m args below meth c H locs cs ss Q (F0 m 1032 ls []) := by
  obtain ⟨S, hX, hK, hXs, hbl, hg0, hz0, hL⟩ := C
  obtain ⟨hx, hb, hml, hown, hts⟩ := id S
  obtain ⟨v, σ1, e1, e2, hLR⟩ := ho n h σ hLR
  refine lv_aload_n hx hb dL_1032 rfl (lv_at hl 1 rfl) ?_
  refine lcall (maxL := 3) (rest := []) S hX hLW (metX1_spot l F D h b v e1) (li_V (C := "RugReader") (As := []) (rest := []) S q1460 q1461 q1462 (SigOK.of hts q1463) hyX1_spot (HI.cell (ci := 0) hX hLW.1 (by decide) hT.1) hlX1_spot rfl dL_1033) (pay_in hts (lw_meth q1463)) (CodeOK.of hts q1463) q103 (Nat.le_of_ble_eq_true rfl) (Nat.le_of_ble_eq_true rfl) hl.1 (Nat.le_of_ble_eq_true rfl) rfl (fun H locs cs ss hLW => ?_)
  refine lv_aload_n hx hb dL_1036 rfl (lv_at hl 2 rfl) ?_
  refine lmodel (As := []) (rest := [.int v]) S hK hLW hg0 (metX5_spot l F Dm bm (adm z) σ (v, σ1) e2) (lw_V q2228 q2229 q2230 q111 q2231) hdX5_spot ⟨rfl, rfl, Nat.le_of_ble_eq_true rfl, Nat.le_of_ble_eq_true rfl⟩ rfl hl.1 rfl rfl (Nat.le_of_ble_eq_true rfl) dL_1037 (fun H locs hLW => ?_)
  refine lv_icmp_eq (tgt := 1282) hx hb dL_1040 (by decide) (fun _ => ?_) (fun h9 => absurd rfl h9)
  exact hk _ _ _ _ _ _ _ hLR hLW hl
set_option maxHeartbeats 4000000 in
theorem lc_ways [NoTr l] (C : LC p s m args c D Dm h0 bs L xs) (hLR : LR (n + 1) h σ) (hLW : LW D Dm h0 bm z h σ s H locs cs ss) (hj : 6 * j + 6 ≤ L) (hl : lv_has ls 7 [(0, .ref bs), (1, .ref b), (2, .ref bm), (3, .ref o), (4, .int (nI (6 * j)))]) (ho : LO_ways F b LR) (hT : kT h b = 1 ∧ True) (hk : ∀ (h' : HS) (σ' : MS) (H : Heap) (locs : List Loc) (cs ss : Nat) (ls : Array Slot), LR n h' σ' → LW D Dm h0 bm z h' σ' s H locs cs ss → lv_has ls 7 [(0, .ref bs), (1, .ref b), (2, .ref bm), (3, .ref o), (4, .int (nI (6 * j)))] → W p l e (cR 8192 100000 h0) s m args below meth c H locs cs ss Q (F0 m 1282 ls [])) : W p l e (cR 8192 100000 h0) s m args below meth c H locs cs ss Q (F0 m 1045 ls []) := by
  obtain ⟨S, hX, hK, hXs, hbl, hg0, hz0, hL⟩ := C
  obtain ⟨hx, hb, hml, hown, hts⟩ := id S
  obtain ⟨v, σ1, e1, e2, hLR⟩ := ho n h σ (xs (6 * j + 1)) hLR
  refine lv_aload_n hx hb dL_1045 rfl (lv_at hl 1 rfl) ?_
  refine lv_aload_n hx hb dL_1046 rfl (lv_at hl 0 rfl) ?_
  refine lv_iload hx hb dL_1047 (lv_at hl 4 rfl) ?_
  refine lv_iconst (v := 1) hx hb dL_1049 rfl ?_
  refine lv_iadd hx hb dL_1050 ?_
  refine lscr S hXs hbl hLW (hg0.trans hz0) (6 * j + 1) (by omega) hL (nI_add _ _) dL_1051 ?_
  refine lcall (maxL := 2) (rest := []) S hX hLW (metX1_ways l F D h b (xs (6 * j + 1)) v e1) (li_V (C := "RugReader") (As := [.int (xs (6 * j + 1))]) (rest := []) S q1447 q1448 q1449 (SigOK.of hts q1450) hyX1_ways (HI.cell (ci := 0) hX hLW.1 (by decide) hT.1) hlX1_ways rfl dL_1052) (pay_in hts (lw_meth q1450)) (CodeOK.of hts q1450) q103 (Nat.le_of_ble_eq_true rfl) (Nat.le_of_ble_eq_true rfl) hl.1 (Nat.le_of_ble_eq_true rfl) rfl (fun H locs cs ss hLW => ?_)
  refine lv_aload_n hx hb dL_1055 rfl (lv_at hl 2 rfl) ?_
  refine lv_aload_n hx hb dL_1056 rfl (lv_at hl 0 rfl) ?_
  refine lv_iload hx hb dL_1057 (lv_at hl 4 rfl) ?_
  refine lv_iconst (v := 1) hx hb dL_1059 rfl ?_
  refine lv_iadd hx hb dL_1060 ?_
  refine lscr S hXs hbl hLW (hg0.trans hz0) (6 * j + 1) (by omega) hL (nI_add _ _) dL_1061 ?_
  refine lmodel (As := [.int (xs (6 * j + 1))]) (rest := [.int v]) S hK hLW hg0 (metX5_ways l F Dm bm (adm z) σ (xs (6 * j + 1)) (v, σ1) e2) (lw_V q2239 q2240 q2241 q111 q2242) hdX5_ways ⟨rfl, rfl, Nat.le_of_ble_eq_true rfl, Nat.le_of_ble_eq_true rfl⟩ rfl hl.1 rfl rfl (Nat.le_of_ble_eq_true rfl) dL_1062 (fun H locs hLW => ?_)
  refine lv_icmp_eq (tgt := 1282) hx hb dL_1065 (by decide) (fun _ => ?_) (fun h9 => absurd rfl h9)
  exact hk _ _ _ _ _ _ _ hLR hLW hl
set_option maxHeartbeats 4000000 in
theorem lc_both [NoTr l] (C : LC p s m args c D Dm h0 bs L xs) (hLR : LR (n + 1) h σ) (hLW : LW D Dm h0 bm z h σ s H locs cs ss) (hj : 6 * j + 6 ≤ L) (hl : lv_has ls 7 [(0, .ref bs), (1, .ref b), (2, .ref bm), (3, .ref o), (4, .int (nI (6 * j)))]) (ho : LO_both F b LR) (hT : kT h b = 1 ∧ True) (hk : ∀ (h' : HS) (σ' : MS) (H : Heap) (locs : List Loc) (cs ss : Nat) (ls : Array Slot), LR n h' σ' → LW D Dm h0 bm z h' σ' s H locs cs ss → lv_has ls 7 [(0, .ref bs), (1, .ref b), (2, .ref bm), (3, .ref o), (4, .int (nI (6 * j)))] → W p l e (cR 8192 100000 h0) s m args below meth c H locs cs ss Q (F0 m 1282 ls [])) : W p l e (cR 8192 100000 h0) s m args below meth c H locs cs ss Q (F0 m 1070 ls []) := by
  obtain ⟨S, hX, hK, hXs, hbl, hg0, hz0, hL⟩ := C
  obtain ⟨hx, hb, hml, hown, hts⟩ := id S
  obtain ⟨v, σ1, e1, e2, hLR⟩ := ho n h σ (xs (6 * j + 1)) (xs (6 * j + 2)) hLR
  refine lv_aload_n hx hb dL_1070 rfl (lv_at hl 1 rfl) ?_
  refine lv_aload_n hx hb dL_1071 rfl (lv_at hl 0 rfl) ?_
  refine lv_iload hx hb dL_1072 (lv_at hl 4 rfl) ?_
  refine lv_iconst (v := 1) hx hb dL_1074 rfl ?_
  refine lv_iadd hx hb dL_1075 ?_
  refine lscr S hXs hbl hLW (hg0.trans hz0) (6 * j + 1) (by omega) hL (nI_add _ _) dL_1076 ?_
  refine lv_aload_n hx hb dL_1077 rfl (lv_at hl 0 rfl) ?_
  refine lv_iload hx hb dL_1078 (lv_at hl 4 rfl) ?_
  refine lv_iconst (v := 2) hx hb dL_1080 rfl ?_
  refine lv_iadd hx hb dL_1081 ?_
  refine lscr S hXs hbl hLW (hg0.trans hz0) (6 * j + 2) (by omega) hL (nI_add _ _) dL_1082 ?_
  refine lcall (maxL := 5) (rest := []) S hX hLW (metX1_both l F D h b (xs (6 * j + 1)) (xs (6 * j + 2)) v e1) (li_V (C := "RugReader") (As := [.int (xs (6 * j + 1)), .int (xs (6 * j + 2))]) (rest := []) S q1464 q1465 q1466 (SigOK.of hts q1467) hyX1_both (HI.cell (ci := 0) hX hLW.1 (by decide) hT.1) hlX1_both rfl dL_1083) (pay_in hts (lw_meth q1467)) (CodeOK.of hts q1467) q103 (Nat.le_of_ble_eq_true rfl) (Nat.le_of_ble_eq_true rfl) hl.1 (Nat.le_of_ble_eq_true rfl) rfl (fun H locs cs ss hLW => ?_)
  refine lv_aload_n hx hb dL_1086 rfl (lv_at hl 2 rfl) ?_
  refine lv_aload_n hx hb dL_1087 rfl (lv_at hl 0 rfl) ?_
  refine lv_iload hx hb dL_1088 (lv_at hl 4 rfl) ?_
  refine lv_iconst (v := 1) hx hb dL_1090 rfl ?_
  refine lv_iadd hx hb dL_1091 ?_
  refine lscr S hXs hbl hLW (hg0.trans hz0) (6 * j + 1) (by omega) hL (nI_add _ _) dL_1092 ?_
  refine lv_aload_n hx hb dL_1093 rfl (lv_at hl 0 rfl) ?_
  refine lv_iload hx hb dL_1094 (lv_at hl 4 rfl) ?_
  refine lv_iconst (v := 2) hx hb dL_1096 rfl ?_
  refine lv_iadd hx hb dL_1097 ?_
  refine lscr S hXs hbl hLW (hg0.trans hz0) (6 * j + 2) (by omega) hL (nI_add _ _) dL_1098 ?_
  refine lmodel (As := [.int (xs (6 * j + 1)), .int (xs (6 * j + 2))]) (rest := [.int v]) S hK hLW hg0 (metX5_both l F Dm bm (adm z) σ (xs (6 * j + 1)) (xs (6 * j + 2)) (v, σ1) e2) (lw_V q2243 q2244 q2245 q111 q2246) hdX5_both ⟨rfl, rfl, Nat.le_of_ble_eq_true rfl, Nat.le_of_ble_eq_true rfl⟩ rfl hl.1 rfl rfl (Nat.le_of_ble_eq_true rfl) dL_1099 (fun H locs hLW => ?_)
  refine lv_icmp_eq (tgt := 1282) hx hb dL_1102 (by decide) (fun _ => ?_) (fun h9 => absurd rfl h9)
  exact hk _ _ _ _ _ _ _ hLR hLW hl
set_option maxHeartbeats 4000000 in
theorem lc_years [NoTr l] (C : LC p s m args c D Dm h0 bs L xs) (hLR : LR (n + 1) h σ) (hLW : LW D Dm h0 bm z h σ s H locs cs ss) (hj : 6 * j + 6 ≤ L) (hl : lv_has ls 7 [(0, .ref bs), (1, .ref b), (2, .ref bm), (3, .ref o), (4, .int (nI (6 * j)))]) (ho : LO_years F b LR) (hT : kT h b = 1 ∧ True) (hk : ∀ (h' : HS) (σ' : MS) (H : Heap) (locs : List Loc) (cs ss : Nat) (ls : Array Slot), LR n h' σ' → LW D Dm h0 bm z h' σ' s H locs cs ss → lv_has ls 7 [(0, .ref bs), (1, .ref b), (2, .ref bm), (3, .ref o), (4, .int (nI (6 * j)))] → W p l e (cR 8192 100000 h0) s m args below meth c H locs cs ss Q (F0 m 1282 ls [])) : W p l e (cR 8192 100000 h0) s m args below meth c H locs cs ss Q (F0 m 1107 ls []) := by
  obtain ⟨S, hX, hK, hXs, hbl, hg0, hz0, hL⟩ := C
  obtain ⟨hx, hb, hml, hown, hts⟩ := id S
  obtain ⟨v, h1, σ1, e1, e2, hLR⟩ := ho n h σ (xs (6 * j + 1)) (xs (6 * j + 2)) (xs (6 * j + 3)) hLR
  refine lv_aload_n hx hb dL_1107 rfl (lv_at hl 1 rfl) ?_
  refine lv_aload_n hx hb dL_1108 rfl (lv_at hl 0 rfl) ?_
  refine lv_iload hx hb dL_1109 (lv_at hl 4 rfl) ?_
  refine lv_iconst (v := 1) hx hb dL_1111 rfl ?_
  refine lv_iadd hx hb dL_1112 ?_
  refine lscr S hXs hbl hLW (hg0.trans hz0) (6 * j + 1) (by omega) hL (nI_add _ _) dL_1113 ?_
  refine lv_aload_n hx hb dL_1114 rfl (lv_at hl 0 rfl) ?_
  refine lv_iload hx hb dL_1115 (lv_at hl 4 rfl) ?_
  refine lv_iconst (v := 2) hx hb dL_1117 rfl ?_
  refine lv_iadd hx hb dL_1118 ?_
  refine lscr S hXs hbl hLW (hg0.trans hz0) (6 * j + 2) (by omega) hL (nI_add _ _) dL_1119 ?_
  refine lv_aload_n hx hb dL_1120 rfl (lv_at hl 0 rfl) ?_
  refine lv_iload hx hb dL_1121 (lv_at hl 4 rfl) ?_
  refine lv_iconst (v := 3) hx hb dL_1123 rfl ?_
  refine lv_iadd hx hb dL_1124 ?_
  refine lscr S hXs hbl hLW (hg0.trans hz0) (6 * j + 3) (by omega) hL (nI_add _ _) dL_1125 ?_
  refine lcall (maxL := 7) (rest := []) S hX hLW (metX1_years l F D h b (xs (6 * j + 1)) (xs (6 * j + 2)) (xs (6 * j + 3)) (v, h1) e1) (li_V (C := "RugReader") (As := [.int (xs (6 * j + 1)), .int (xs (6 * j + 2)), .int (xs (6 * j + 3))]) (rest := []) S q1468 q1469 q1470 (SigOK.of hts q1471) hyX1_years (HI.cell (ci := 0) hX hLW.1 (by decide) hT.1) hlX1_years rfl dL_1126) (pay_in hts (lw_meth q1471)) (CodeOK.of hts q1471) q103 (Nat.le_of_ble_eq_true rfl) (Nat.le_of_ble_eq_true rfl) hl.1 (Nat.le_of_ble_eq_true rfl) rfl (fun H locs cs ss hLW => ?_)
  refine lv_aload_n hx hb dL_1129 rfl (lv_at hl 2 rfl) ?_
  refine lv_aload_n hx hb dL_1130 rfl (lv_at hl 0 rfl) ?_
  refine lv_iload hx hb dL_1131 (lv_at hl 4 rfl) ?_
  refine lv_iconst (v := 1) hx hb dL_1133 rfl ?_
  refine lv_iadd hx hb dL_1134 ?_
  refine lscr S hXs hbl hLW (hg0.trans hz0) (6 * j + 1) (by omega) hL (nI_add _ _) dL_1135 ?_
  refine lv_aload_n hx hb dL_1136 rfl (lv_at hl 0 rfl) ?_
  refine lv_iload hx hb dL_1137 (lv_at hl 4 rfl) ?_
  refine lv_iconst (v := 2) hx hb dL_1139 rfl ?_
  refine lv_iadd hx hb dL_1140 ?_
  refine lscr S hXs hbl hLW (hg0.trans hz0) (6 * j + 2) (by omega) hL (nI_add _ _) dL_1141 ?_
  refine lv_aload_n hx hb dL_1142 rfl (lv_at hl 0 rfl) ?_
  refine lv_iload hx hb dL_1143 (lv_at hl 4 rfl) ?_
  refine lv_iconst (v := 3) hx hb dL_1145 rfl ?_
  refine lv_iadd hx hb dL_1146 ?_
  refine lscr S hXs hbl hLW (hg0.trans hz0) (6 * j + 3) (by omega) hL (nI_add _ _) dL_1147 ?_
  refine lmodel (As := [.int (xs (6 * j + 1)), .int (xs (6 * j + 2)), .int (xs (6 * j + 3))]) (rest := [.int v]) S hK hLW hg0 (metX5_years l F Dm bm (adm z) σ (xs (6 * j + 1)) (xs (6 * j + 2)) (xs (6 * j + 3)) (v, σ1) e2) (lw_V q2250 q2251 q2252 q111 q2253) hdX5_years ⟨rfl, rfl, Nat.le_of_ble_eq_true rfl, Nat.le_of_ble_eq_true rfl⟩ rfl hl.1 rfl rfl (Nat.le_of_ble_eq_true rfl) dL_1148 (fun H locs hLW => ?_)
  refine lv_icmp_eq (tgt := 1282) hx hb dL_1151 (by decide) (fun _ => ?_) (fun h9 => absurd rfl h9)
  exact hk _ _ _ _ _ _ _ hLR hLW hl
set_option maxHeartbeats 4000000 in
theorem lc_rarest [NoTr l] (C : LC p s m args c D Dm h0 bs L xs) (hLR : LR (n + 1) h σ) (hLW : LW D Dm h0 bm z h σ s H locs cs ss) (hj : 6 * j + 6 ≤ L) (hl : lv_has ls 7 [(0, .ref bs), (1, .ref b), (2, .ref bm), (3, .ref o), (4, .int (nI (6 * j)))]) (ho : LO_rarest F b LR) (hT : kT h b = 1 ∧ True) (hk : ∀ (h' : HS) (σ' : MS) (H : Heap) (locs : List Loc) (cs ss : Nat) (ls : Array Slot), LR n h' σ' → LW D Dm h0 bm z h' σ' s H locs cs ss → lv_has ls 7 [(0, .ref bs), (1, .ref b), (2, .ref bm), (3, .ref o), (4, .int (nI (6 * j)))] → W p l e (cR 8192 100000 h0) s m args below meth c H locs cs ss Q (F0 m 1282 ls [])) : W p l e (cR 8192 100000 h0) s m args below meth c H locs cs ss Q (F0 m 1156 ls []) := by
  obtain ⟨S, hX, hK, hXs, hbl, hg0, hz0, hL⟩ := C
  obtain ⟨hx, hb, hml, hown, hts⟩ := id S
  obtain ⟨v, σ1, e1, e2, hLR⟩ := ho n h σ hLR
  refine lv_aload_n hx hb dL_1156 rfl (lv_at hl 1 rfl) ?_
  refine lcall (maxL := 3) (rest := []) S hX hLW (metX1_rarest l F D h b v e1) (li_V (C := "RugReader") (As := []) (rest := []) S q1481 q1482 q1483 (SigOK.of hts q1484) hyX1_rarest (HI.cell (ci := 0) hX hLW.1 (by decide) hT.1) hlX1_rarest rfl dL_1157) (pay_in hts (lw_meth q1484)) (CodeOK.of hts q1484) q103 (Nat.le_of_ble_eq_true rfl) (Nat.le_of_ble_eq_true rfl) hl.1 (Nat.le_of_ble_eq_true rfl) rfl (fun H locs cs ss hLW => ?_)
  refine lv_aload_n hx hb dL_1160 rfl (lv_at hl 2 rfl) ?_
  refine lmodel (As := []) (rest := [.int v]) S hK hLW hg0 (metX5_rarest l F Dm bm (adm z) σ (v, σ1) e2) (lw_V q2259 q2260 q2261 q111 q2262) hdX5_rarest ⟨rfl, rfl, Nat.le_of_ble_eq_true rfl, Nat.le_of_ble_eq_true rfl⟩ rfl hl.1 rfl rfl (Nat.le_of_ble_eq_true rfl) dL_1161 (fun H locs hLW => ?_)
  refine lv_icmp_eq (tgt := 1282) hx hb dL_1164 (by decide) (fun _ => ?_) (fun h9 => absurd rfl h9)
  exact hk _ _ _ _ _ _ _ hLR hLW hl
set_option maxHeartbeats 4000000 in
theorem lc_sentence [NoTr l] (C : LC p s m args c D Dm h0 bs L xs) (hLR : LR (n + 1) h σ) (hLW : LW D Dm h0 bm z h σ s H locs cs ss) (hj : 6 * j + 6 ≤ L) (hl : lv_has ls 7 [(0, .ref bs), (1, .ref b), (2, .ref bm), (3, .ref o), (4, .int (nI (6 * j)))]) (ho : LO_sentence F b LR) (hT : kT h b = 1 ∧ True) (hk : ∀ (h' : HS) (σ' : MS) (H : Heap) (locs : List Loc) (cs ss : Nat) (ls : Array Slot), LR n h' σ' → LW D Dm h0 bm z h' σ' s H locs cs ss → lv_has ls 7 [(0, .ref bs), (1, .ref b), (2, .ref bm), (3, .ref o), (4, .int (nI (6 * j)))] → W p l e (cR 8192 100000 h0) s m args below meth c H locs cs ss Q (F0 m 1282 ls [])) : W p l e (cR 8192 100000 h0) s m args below meth c H locs cs ss Q (F0 m 1169 ls []) := by
  obtain ⟨S, hX, hK, hXs, hbl, hg0, hz0, hL⟩ := C
  obtain ⟨hx, hb, hml, hown, hts⟩ := id S
  obtain ⟨v, h1, σ1, e1, e2, hLR⟩ := ho n h σ hLR
  refine lv_aload_n hx hb dL_1169 rfl (lv_at hl 1 rfl) ?_
  refine lcall (maxL := 3) (rest := []) S hX hLW (metX1_sentence l F D 156 3732 (rOne F 12) (recOne l F D 12) h b (v, h1) e1) (li_V (C := "RugReader") (As := []) (rest := []) S q1485 q1486 q1487 (SigOK.ofW hts q1488) hyX1_sentence (HI.cell (ci := 0) hX hLW.1 (by decide) hT.1) hlX1_sentence rfl dL_1170) (pay_in hts (lw_methW q1488)) (CodeOK.ofW hts q1488) q103 (Nat.le_of_ble_eq_true rfl) (Nat.le_of_ble_eq_true rfl) hl.1 (Nat.le_of_ble_eq_true rfl) rfl (fun H locs cs ss hLW => ?_)
  refine lv_aload_n hx hb dL_1173 rfl (lv_at hl 2 rfl) ?_
  refine lmodel (As := []) (rest := [.int v]) S hK hLW hg0 (metX5_sentence l F Dm bm (adm z) σ (v, σ1) e2) (lw_V q2263 q2264 q2265 q111 q2266) hdX5_sentence ⟨rfl, rfl, Nat.le_of_ble_eq_true rfl, Nat.le_of_ble_eq_true rfl⟩ rfl hl.1 rfl rfl (Nat.le_of_ble_eq_true rfl) dL_1174 (fun H locs hLW => ?_)
  refine lv_icmp_eq (tgt := 1282) hx hb dL_1177 (by decide) (fun _ => ?_) (fun h9 => absurd rfl h9)
  exact hk _ _ _ _ _ _ _ hLR hLW hl
set_option maxHeartbeats 4000000 in
theorem lc_said [NoTr l] (C : LC p s m args c D Dm h0 bs L xs) (hLR : LR (n + 1) h σ) (hLW : LW D Dm h0 bm z h σ s H locs cs ss) (hj : 6 * j + 6 ≤ L) (hl : lv_has ls 7 [(0, .ref bs), (1, .ref b), (2, .ref bm), (3, .ref o), (4, .int (nI (6 * j)))]) (ho : LO_said F b LR) (hT : kT h b = 1 ∧ True) (hk : ∀ (h' : HS) (σ' : MS) (H : Heap) (locs : List Loc) (cs ss : Nat) (ls : Array Slot), LR n h' σ' → LW D Dm h0 bm z h' σ' s H locs cs ss → lv_has ls 7 [(0, .ref bs), (1, .ref b), (2, .ref bm), (3, .ref o), (4, .int (nI (6 * j)))] → W p l e (cR 8192 100000 h0) s m args below meth c H locs cs ss Q (F0 m 1282 ls [])) : W p l e (cR 8192 100000 h0) s m args below meth c H locs cs ss Q (F0 m 1182 ls []) := by
  obtain ⟨S, hX, hK, hXs, hbl, hg0, hz0, hL⟩ := C
  obtain ⟨hx, hb, hml, hown, hts⟩ := id S
  obtain ⟨v, σ1, e1, e2, hLR⟩ := ho n h σ (xs (6 * j + 1)) hLR
  refine lv_aload_n hx hb dL_1182 rfl (lv_at hl 1 rfl) ?_
  refine lv_aload_n hx hb dL_1183 rfl (lv_at hl 0 rfl) ?_
  refine lv_iload hx hb dL_1184 (lv_at hl 4 rfl) ?_
  refine lv_iconst (v := 1) hx hb dL_1186 rfl ?_
  refine lv_iadd hx hb dL_1187 ?_
  refine lscr S hXs hbl hLW (hg0.trans hz0) (6 * j + 1) (by omega) hL (nI_add _ _) dL_1188 ?_
  refine lcall (maxL := 4) (rest := []) S hX hLW (metX1_said l F D 240 5220 (rHold F 60) (recHold l F D 60) h b (xs (6 * j + 1)) v e1) (li_V (C := "RugReader") (As := [.int (xs (6 * j + 1))]) (rest := []) S q1627 q1628 q1629 (SigOK.of hts q1630) hyX1_said (HI.cell (ci := 0) hX hLW.1 (by decide) hT.1) hlX1_said rfl dL_1189) (pay_in hts (lw_meth q1630)) (CodeOK.of hts q1630) q103 (Nat.le_of_ble_eq_true rfl) (Nat.le_of_ble_eq_true rfl) hl.1 (Nat.le_of_ble_eq_true rfl) rfl (fun H locs cs ss hLW => ?_)
  refine lv_aload_n hx hb dL_1192 rfl (lv_at hl 2 rfl) ?_
  refine lv_aload_n hx hb dL_1193 rfl (lv_at hl 0 rfl) ?_
  refine lv_iload hx hb dL_1194 (lv_at hl 4 rfl) ?_
  refine lv_iconst (v := 1) hx hb dL_1196 rfl ?_
  refine lv_iadd hx hb dL_1197 ?_
  refine lscr S hXs hbl hLW (hg0.trans hz0) (6 * j + 1) (by omega) hL (nI_add _ _) dL_1198 ?_
  refine lmodel (As := [.int (xs (6 * j + 1))]) (rest := [.int v]) S hK hLW hg0 (metX5_said l F Dm bm (adm z) σ (xs (6 * j + 1)) (v, σ1) e2) (lw_V q2291 q2292 q2293 q111 q2294) hdX5_said ⟨rfl, rfl, Nat.le_of_ble_eq_true rfl, Nat.le_of_ble_eq_true rfl⟩ rfl hl.1 rfl rfl (Nat.le_of_ble_eq_true rfl) dL_1199 (fun H locs hLW => ?_)
  refine lv_icmp_eq (tgt := 1282) hx hb dL_1202 (by decide) (fun _ => ?_) (fun h9 => absurd rfl h9)
  exact hk _ _ _ _ _ _ _ hLR hLW hl
set_option maxHeartbeats 4000000 in
theorem lc_image [NoTr l] (C : LC p s m args c D Dm h0 bs L xs) (hLR : LR (n + 1) h σ) (hLW : LW D Dm h0 bm z h σ s H locs cs ss) (hj : 6 * j + 6 ≤ L) (hl : lv_has ls 7 [(0, .ref bs), (1, .ref b), (2, .ref bm), (3, .ref o), (4, .int (nI (6 * j)))]) (ho : LO_image F b LR) (hT : kT h b = 1 ∧ True) (hk : ∀ (h' : HS) (σ' : MS) (H : Heap) (locs : List Loc) (cs ss : Nat) (ls : Array Slot), LR n h' σ' → LW D Dm h0 bm z h' σ' s H locs cs ss → lv_has ls 7 [(0, .ref bs), (1, .ref b), (2, .ref bm), (3, .ref o), (4, .int (nI (6 * j)))] → W p l e (cR 8192 100000 h0) s m args below meth c H locs cs ss Q (F0 m 1282 ls [])) : W p l e (cR 8192 100000 h0) s m args below meth c H locs cs ss Q (F0 m 1207 ls []) := by
  obtain ⟨S, hX, hK, hXs, hbl, hg0, hz0, hL⟩ := C
  obtain ⟨hx, hb, hml, hown, hts⟩ := id S
  obtain ⟨v, h1, σ1, e1, e2, hLR⟩ := ho n h σ (xs (6 * j + 1)) hLR
  refine lv_aload_n hx hb dL_1207 rfl (lv_at hl 1 rfl) ?_
  refine lv_aload_n hx hb dL_1208 rfl (lv_at hl 0 rfl) ?_
  refine lv_iload hx hb dL_1209 (lv_at hl 4 rfl) ?_
  refine lv_iconst (v := 1) hx hb dL_1211 rfl ?_
  refine lv_iadd hx hb dL_1212 ?_
  refine lscr S hXs hbl hLW (hg0.trans hz0) (6 * j + 1) (by omega) hL (nI_add _ _) dL_1213 ?_
  refine lcall (maxL := 2) (rest := []) S hX hLW (metX1_image l F D h b (xs (6 * j + 1)) (v, h1) e1) (li_V (C := "RugReader") (As := [.int (xs (6 * j + 1))]) (rest := []) S q1672 q1673 q1674 (SigOK.of hts q1675) hyX1_image (HI.cell (ci := 0) hX hLW.1 (by decide) hT.1) hlX1_image rfl dL_1214) (pay_in hts (lw_meth q1675)) (CodeOK.of hts q1675) q103 (Nat.le_of_ble_eq_true rfl) (Nat.le_of_ble_eq_true rfl) hl.1 (Nat.le_of_ble_eq_true rfl) rfl (fun H locs cs ss hLW => ?_)
  refine lv_aload_n hx hb dL_1217 rfl (lv_at hl 2 rfl) ?_
  refine lv_aload_n hx hb dL_1218 rfl (lv_at hl 0 rfl) ?_
  refine lv_iload hx hb dL_1219 (lv_at hl 4 rfl) ?_
  refine lv_iconst (v := 1) hx hb dL_1221 rfl ?_
  refine lv_iadd hx hb dL_1222 ?_
  refine lscr S hXs hbl hLW (hg0.trans hz0) (6 * j + 1) (by omega) hL (nI_add _ _) dL_1223 ?_
  refine lmodel (As := [.int (xs (6 * j + 1))]) (rest := [.int v]) S hK hLW hg0 (metX5_image l F Dm bm (adm z) σ (xs (6 * j + 1)) (v, σ1) e2) (lw_V q2308 q2309 q2310 q111 q2311) hdX5_image ⟨rfl, rfl, Nat.le_of_ble_eq_true rfl, Nat.le_of_ble_eq_true rfl⟩ rfl hl.1 rfl rfl (Nat.le_of_ble_eq_true rfl) dL_1224 (fun H locs hLW => ?_)
  refine lv_icmp_eq (tgt := 1282) hx hb dL_1227 (by decide) (fun _ => ?_) (fun h9 => absurd rfl h9)
  exact hk _ _ _ _ _ _ _ hLR hLW hl
set_option maxHeartbeats 4000000 in
theorem lc_restore [NoTr l] (C : LC p s m args c D Dm h0 bs L xs) (hLR : LR (n + 1) h σ) (hLW : LW D Dm h0 bm z h σ s H locs cs ss) (hj : 6 * j + 6 ≤ L) (hl : lv_has ls 7 [(0, .ref bs), (1, .ref b), (2, .ref bm), (3, .ref o), (4, .int (nI (6 * j)))]) (ho : LO_restore F b LR) (hT : kT h b = 1 ∧ True) (hk : ∀ (h' : HS) (σ' : MS) (H : Heap) (locs : List Loc) (cs ss : Nat) (ls : Array Slot), LR n h' σ' → LW D Dm h0 bm z h' σ' s H locs cs ss → lv_has ls 7 [(0, .ref bs), (1, .ref b), (2, .ref bm), (3, .ref o), (4, .int (nI (6 * j)))] → W p l e (cR 8192 100000 h0) s m args below meth c H locs cs ss Q (F0 m 1282 ls [])) : W p l e (cR 8192 100000 h0) s m args below meth c H locs cs ss Q (F0 m 1232 ls []) := by
  obtain ⟨S, hX, hK, hXs, hbl, hg0, hz0, hL⟩ := C
  obtain ⟨hx, hb, hml, hown, hts⟩ := id S
  obtain ⟨v, h1, σ1, e1, e2, hLR⟩ := ho n h σ (xs (6 * j + 1)) hLR
  refine lv_aload_n hx hb dL_1232 rfl (lv_at hl 1 rfl) ?_
  refine lv_aload_n hx hb dL_1233 rfl (lv_at hl 0 rfl) ?_
  refine lv_iload hx hb dL_1234 (lv_at hl 4 rfl) ?_
  refine lv_iconst (v := 1) hx hb dL_1236 rfl ?_
  refine lv_iadd hx hb dL_1237 ?_
  refine lscr S hXs hbl hLW (hg0.trans hz0) (6 * j + 1) (by omega) hL (nI_add _ _) dL_1238 ?_
  refine lcall (maxL := 2) (rest := []) S hX hLW (metX1_restore l F D h b (xs (6 * j + 1)) (v, h1) e1) (li_V (C := "RugReader") (As := [.int (xs (6 * j + 1))]) (rest := []) S q1676 q1677 q1678 (SigOK.of hts q1679) hyX1_restore (HI.cell (ci := 0) hX hLW.1 (by decide) hT.1) hlX1_restore rfl dL_1239) (pay_in hts (lw_meth q1679)) (CodeOK.of hts q1679) q103 (Nat.le_of_ble_eq_true rfl) (Nat.le_of_ble_eq_true rfl) hl.1 (Nat.le_of_ble_eq_true rfl) rfl (fun H locs cs ss hLW => ?_)
  refine lv_aload_n hx hb dL_1242 rfl (lv_at hl 2 rfl) ?_
  refine lv_aload_n hx hb dL_1243 rfl (lv_at hl 0 rfl) ?_
  refine lv_iload hx hb dL_1244 (lv_at hl 4 rfl) ?_
  refine lv_iconst (v := 1) hx hb dL_1246 rfl ?_
  refine lv_iadd hx hb dL_1247 ?_
  refine lscr S hXs hbl hLW (hg0.trans hz0) (6 * j + 1) (by omega) hL (nI_add _ _) dL_1248 ?_
  refine lmodel (As := [.int (xs (6 * j + 1))]) (rest := [.int v]) S hK hLW hg0 (metX5_restore l F Dm bm (adm z) σ (xs (6 * j + 1)) (v, σ1) e2) (lw_V q2312 q2313 q2314 q111 q2315) hdX5_restore ⟨rfl, rfl, Nat.le_of_ble_eq_true rfl, Nat.le_of_ble_eq_true rfl⟩ rfl hl.1 rfl rfl (Nat.le_of_ble_eq_true rfl) dL_1249 (fun H locs hLW => ?_)
  refine lv_icmp_eq (tgt := 1282) hx hb dL_1252 (by decide) (fun _ => ?_) (fun h9 => absurd rfl h9)
  exact hk _ _ _ _ _ _ _ hLR hLW hl
set_option maxHeartbeats 4000000 in
theorem lc_count [NoTr l] (C : LC p s m args c D Dm h0 bs L xs) (hLR : LR (n + 1) h σ) (hLW : LW D Dm h0 bm z h σ s H locs cs ss) (hj : 6 * j + 6 ≤ L) (hl : lv_has ls 7 [(0, .ref bs), (1, .ref b), (2, .ref bm), (3, .ref o), (4, .int (nI (6 * j)))]) (ho : LO_count F b LR) (hT : kT h b = 1 ∧ True) (hk : ∀ (h' : HS) (σ' : MS) (H : Heap) (locs : List Loc) (cs ss : Nat) (ls : Array Slot), LR n h' σ' → LW D Dm h0 bm z h' σ' s H locs cs ss → lv_has ls 7 [(0, .ref bs), (1, .ref b), (2, .ref bm), (3, .ref o), (4, .int (nI (6 * j)))] → W p l e (cR 8192 100000 h0) s m args below meth c H locs cs ss Q (F0 m 1282 ls [])) : W p l e (cR 8192 100000 h0) s m args below meth c H locs cs ss Q (F0 m 1257 ls []) := by
  obtain ⟨S, hX, hK, hXs, hbl, hg0, hz0, hL⟩ := C
  obtain ⟨hx, hb, hml, hown, hts⟩ := id S
  obtain ⟨v, σ1, e1, e2, hLR⟩ := ho n h σ (xs (6 * j + 1)) hLR
  refine lv_aload_n hx hb dL_1257 rfl (lv_at hl 1 rfl) ?_
  refine lv_aload_n hx hb dL_1258 rfl (lv_at hl 0 rfl) ?_
  refine lv_iload hx hb dL_1259 (lv_at hl 4 rfl) ?_
  refine lv_iconst (v := 1) hx hb dL_1261 rfl ?_
  refine lv_iadd hx hb dL_1262 ?_
  refine lscr S hXs hbl hLW (hg0.trans hz0) (6 * j + 1) (by omega) hL (nI_add _ _) dL_1263 ?_
  refine lcall (maxL := 2) (rest := []) S hX hLW (metX1_count l F D h b (xs (6 * j + 1)) v e1) (li_V (C := "RugReader") (As := [.int (xs (6 * j + 1))]) (rest := []) S q1680 q1681 q1682 (SigOK.of hts q1683) hyX1_count (HI.cell (ci := 0) hX hLW.1 (by decide) hT.1) hlX1_count rfl dL_1264) (pay_in hts (lw_meth q1683)) (CodeOK.of hts q1683) q103 (Nat.le_of_ble_eq_true rfl) (Nat.le_of_ble_eq_true rfl) hl.1 (Nat.le_of_ble_eq_true rfl) rfl (fun H locs cs ss hLW => ?_)
  refine lv_aload_n hx hb dL_1267 rfl (lv_at hl 2 rfl) ?_
  refine lv_aload_n hx hb dL_1268 rfl (lv_at hl 0 rfl) ?_
  refine lv_iload hx hb dL_1269 (lv_at hl 4 rfl) ?_
  refine lv_iconst (v := 1) hx hb dL_1271 rfl ?_
  refine lv_iadd hx hb dL_1272 ?_
  refine lscr S hXs hbl hLW (hg0.trans hz0) (6 * j + 1) (by omega) hL (nI_add _ _) dL_1273 ?_
  refine lmodel (As := [.int (xs (6 * j + 1))]) (rest := [.int v]) S hK hLW hg0 (metX5_count l F Dm bm (adm z) σ (xs (6 * j + 1)) (v, σ1) e2) (lw_V q2316 q2317 q2318 q111 q2319) hdX5_count ⟨rfl, rfl, Nat.le_of_ble_eq_true rfl, Nat.le_of_ble_eq_true rfl⟩ rfl hl.1 rfl rfl (Nat.le_of_ble_eq_true rfl) dL_1274 (fun H locs hLW => ?_)
  refine lv_icmp_eq (tgt := 1282) hx hb dL_1277 (by decide) (fun _ => ?_) (fun h9 => absurd rfl h9)
  exact hk _ _ _ _ _ _ _ hLR hLW hl
theorem lc_gt (L j : Nat) (hL : L ≤ 384) (h : 64 ≤ j ∧ j ≤ 64 ∨ 64 = j) : nI L - 6 < nI (6 * j) := by
  by_cases h6 : 6 ≤ L
  · rw [show nI L - (6 : Int32) = nI (L - 6) from pk_sub h6]
    exact nI_lt (by omega) (by omega)
  · have h1 : nI L - (6 : Int32) < 0 := pk_sneg (a := L) (b := 6) (by decide) (by omega)
    rw [Int32.lt_iff_toInt_lt] at h1 ⊢
    rw [nI_toInt (by omega)]
    have : (0 : Int32).toInt = 0 := by decide
    omega
theorem lc_le (L j : Nat) (hL : L ≤ 384) (hj : j < 64) (h : ¬ nI L - 6 < nI (6 * j)) : 6 * j + 6 ≤ L := by
  by_cases h6 : 6 ≤ L
  · rw [show nI L - (6 : Int32) = nI (L - 6) from pk_sub h6] at h
    rcases Nat.lt_or_ge (L - 6) (6 * j) with h1 | h1
    · exact absurd (nI_lt h1 (by omega)) h
    · omega
  · exfalso
    apply h
    have h1 : nI L - (6 : Int32) < 0 := pk_sneg (a := L) (b := 6) (by decide) (by omega)
    rw [Int32.lt_iff_toInt_lt] at h1 ⊢
    rw [nI_toInt (by omega)]
    have : (0 : Int32).toInt = 0 := by decide
    omega
set_option maxHeartbeats 4000000 in
set_option maxRecDepth 100000 in
theorem lc_loop [NoTr l] (C : LC p s m args c D Dm h0 bs L xs) (hO : LOK F b o LR) (hend : ∀ (h' : HS) (σ' : MS) (H : Heap) (locs : List Loc) (cs ss : Nat) (ls : Array Slot), LW D Dm h0 bm z h' σ' s H locs cs ss → W p l e (cR 8192 100000 h0) s m args below meth c H locs cs ss Q (F0 m 1288 ls [])) : ∀ (n j : Nat) (h : HS) (σ : MS) (H : Heap) (locs : List Loc) (cs ss : Nat) (ls : Array Slot), j + n = 64 → LR n h σ → LW D Dm h0 bm z h σ s H locs cs ss → lv_has ls 7 [(0, .ref bs), (1, .ref b), (2, .ref bm), (3, .ref o), (4, .int (nI (6 * j)))] → W p l e (cR 8192 100000 h0) s m args below meth c H locs cs ss Q (F0 m 23 ls []) := by
  intro n
  induction n with
  | zero =>
    intro j h σ H locs cs ss ls hj hLR hLW hl
    obtain ⟨S, hX, hK, hXs, hbl, hg0, hz0, hL⟩ := id C
    obtain ⟨hx, hb, hml, hown, hts⟩ := id S
    refine lv_iload hx hb dL_23 (lv_at hl 4 rfl) ?_
    refine lv_aload_n hx hb dL_25 rfl (lv_at hl 0 rfl) ?_
    refine lscl S hXs hbl hLW (hg0.trans hz0) dL_26 ?_
    refine lv_bipush (v := 6) hx hb dL_27 rfl ?_
    refine lv_isub hx hb dL_29 ?_
    refine lv_icmp_gt (tgt := 1288) hx hb dL_30 (by decide) (fun _ => hend _ _ _ _ _ _ _ hLW) (fun h9 => absurd (lc_gt L j (by omega) (by omega)) h9)
  | succ n ih =>
    intro j h σ H locs cs ss ls hj hLR hLW hl
    obtain ⟨S, hX, hK, hXs, hbl, hg0, hz0, hL⟩ := id C
    obtain ⟨hx, hb, hml, hown, hts⟩ := id S
    refine lv_iload hx hb dL_23 (lv_at hl 4 rfl) ?_
    refine lv_aload_n hx hb dL_25 rfl (lv_at hl 0 rfl) ?_
    refine lscl S hXs hbl hLW (hg0.trans hz0) dL_26 ?_
    refine lv_bipush (v := 6) hx hb dL_27 rfl ?_
    refine lv_isub hx hb dL_29 ?_
    refine lv_icmp_gt (tgt := 1288) hx hb dL_30 (by decide) (fun _ => hend _ _ _ _ _ _ _ hLW) (fun h9 => ?_)
    have h6 : 6 * j + 6 ≤ L := lc_le L j (by omega) (by omega) h9
    refine lv_aload_n hx hb dL_33 rfl (lv_at hl 0 rfl) ?_
    refine lv_iload hx hb dL_34 (lv_at hl 4 rfl) ?_
    refine lscr S hXs hbl hLW (hg0.trans hz0) (6 * j) (by omega) hL rfl dL_36 ?_
    refine lv_bipush (v := 63) hx hb dL_37 rfl ?_
    refine lv_iand hx hb dL_39 ?_
    have hk : ∀ (h' : HS) (σ' : MS) (H : Heap) (locs : List Loc) (cs ss : Nat) (ls : Array Slot), LR n h' σ' → LW D Dm h0 bm z h' σ' s H locs cs ss → lv_has ls 7 [(0, .ref bs), (1, .ref b), (2, .ref bm), (3, .ref o), (4, .int (nI (6 * j)))] → W p l e (cR 8192 100000 h0) s m args below meth c H locs cs ss Q (F0 m 1282 ls []) := by
      intro h' σ' H locs cs ss ls a1 a2 a3
      refine lv_iinc (k := 4) (v := nI (6 * (j + 1))) (lv' := [(4, .int (nI (6 * (j + 1)))), (0, .ref bs), (1, .ref b), (2, .ref bm), (3, .ref o)]) hx hb dL_1282 a3 rfl (nI_add (6 * j) 6) (by decide) rfl (fun ls a3 => ?_)
      refine lv_goto (tgt := 23) hx hb dL_1285 (by decide) ?_
      exact ih (j + 1) h' σ' H locs cs ss ls (by omega) a1 a2 (lv_sub a3 [1, 2, 3, 4, 0] rfl)
    obtain ⟨k, hk64, ek⟩ := pk_andE (xs (6 * j)) (m := 63) 6 (by decide)
    rw [ek]
    obtain ⟨hB, hM, o_feed, o_end, o_house, o_fault, o_person, o_tuft, o_way, o_goes, o_days, o_beat, o_undo, o_hidden, o_missing, o_soles, o_deepest, o_who, o_age, o_readings, o_read, o_fewest, o_sign, o_steps, o_walk, o_walked, o_seen, o_lay, o_spot, o_ways, o_both, o_years, o_rarest, o_sentence, o_said, o_image, o_restore, o_count⟩ := hO
    have hkt : (nI k).toInt = (k : Int) := nI_toInt (by omega)
    by_cases hk36 : 36 ≤ k
    · refine lv_tableOut (tgt := 1282) hx hb dL_40 (Or.inr (by rw [hkt]; omega)) (by decide) ?_
      exact hk h σ H locs cs ss ls (hM n h σ hLR) hLW hl
    by_cases e0 : k = 0
    · subst e0
      exact lv_tableIn (tgt := 200) (off := 160) hx hb dL_40 (by decide) (by decide) rfl (by decide) (lc_feed C hLR hLW h6 hl o_feed ⟨(hB _ h σ hLR).1, trivial⟩ hk)
    by_cases e1 : k = 1
    · subst e1
      exact lv_tableIn (tgt := 273) (off := 233) hx hb dL_40 (by decide) (by decide) rfl (by decide) (lc_end C hLR hLW h6 hl o_end ⟨(hB _ h σ hLR).1, trivial⟩ hk)
    by_cases e2 : k = 2
    · subst e2
      exact lv_tableIn (tgt := 298) (off := 258) hx hb dL_40 (by decide) (by decide) rfl (by decide) (lc_house C hLR hLW h6 hl o_house ⟨(hB _ h σ hLR).1, trivial⟩ hk)
    by_cases e3 : k = 3
    · subst e3
      exact lv_tableIn (tgt := 311) (off := 271) hx hb dL_40 (by decide) (by decide) rfl (by decide) (lc_fault C hLR hLW h6 hl o_fault ⟨(hB _ h σ hLR).1, trivial⟩ hk)
    by_cases e4 : k = 4
    · subst e4
      exact lv_tableIn (tgt := 324) (off := 284) hx hb dL_40 (by decide) (by decide) rfl (by decide) (lc_person C hLR hLW h6 hl o_person ⟨(hB _ h σ hLR).1, fun h σ h9 => (hB n h σ h9).2⟩ hk)
    by_cases e5 : k = 5
    · subst e5
      exact lv_tableIn (tgt := 392) (off := 352) hx hb dL_40 (by decide) (by decide) rfl (by decide) (lc_tuft C hLR hLW h6 hl o_tuft ⟨(hB _ h σ hLR).1, fun h σ h9 => (hB n h σ h9).2⟩ hk)
    by_cases e6 : k = 6
    · subst e6
      exact lv_tableIn (tgt := 460) (off := 420) hx hb dL_40 (by decide) (by decide) rfl (by decide) (lc_way C hLR hLW h6 hl o_way ⟨(hB _ h σ hLR).1, trivial⟩ hk)
    by_cases e7 : k = 7
    · subst e7
      exact lv_tableIn (tgt := 497) (off := 457) hx hb dL_40 (by decide) (by decide) rfl (by decide) (lc_goes C hLR hLW h6 hl o_goes ⟨(hB _ h σ hLR).1, trivial⟩ hk)
    by_cases e8 : k = 8
    · subst e8
      exact lv_tableIn (tgt := 546) (off := 506) hx hb dL_40 (by decide) (by decide) rfl (by decide) (lc_days C hLR hLW h6 hl o_days ⟨(hB _ h σ hLR).1, trivial⟩ hk)
    by_cases e9 : k = 9
    · subst e9
      exact lv_tableIn (tgt := 571) (off := 531) hx hb dL_40 (by decide) (by decide) rfl (by decide) (lc_beat C hLR hLW h6 hl o_beat ⟨(hB _ h σ hLR).1, trivial⟩ hk)
    by_cases e10 : k = 10
    · subst e10
      exact lv_tableIn (tgt := 608) (off := 568) hx hb dL_40 (by decide) (by decide) rfl (by decide) (lc_undo C hLR hLW h6 hl o_undo ⟨(hB _ h σ hLR).1, trivial⟩ hk)
    by_cases e11 : k = 11
    · subst e11
      exact lv_tableIn (tgt := 621) (off := 581) hx hb dL_40 (by decide) (by decide) rfl (by decide) (lc_hidden C hLR hLW h6 hl o_hidden ⟨(hB _ h σ hLR).1, trivial⟩ hk)
    by_cases e12 : k = 12
    · subst e12
      exact lv_tableIn (tgt := 646) (off := 606) hx hb dL_40 (by decide) (by decide) rfl (by decide) (lc_missing C hLR hLW h6 hl o_missing ⟨(hB _ h σ hLR).1, trivial⟩ hk)
    by_cases e13 : k = 13
    · subst e13
      exact lv_tableIn (tgt := 671) (off := 631) hx hb dL_40 (by decide) (by decide) rfl (by decide) (lc_soles C hLR hLW h6 hl o_soles ⟨(hB _ h σ hLR).1, trivial⟩ hk)
    by_cases e14 : k = 14
    · subst e14
      exact lv_tableIn (tgt := 696) (off := 656) hx hb dL_40 (by decide) (by decide) rfl (by decide) (lc_deepest C hLR hLW h6 hl o_deepest ⟨(hB _ h σ hLR).1, trivial⟩ hk)
    by_cases e15 : k = 15
    · subst e15
      exact lv_tableIn (tgt := 709) (off := 669) hx hb dL_40 (by decide) (by decide) rfl (by decide) (lc_who C hLR hLW h6 hl o_who ⟨(hB _ h σ hLR).1, trivial⟩ hk)
    by_cases e16 : k = 16
    · subst e16
      exact lv_tableIn (tgt := 734) (off := 694) hx hb dL_40 (by decide) (by decide) rfl (by decide) (lc_age C hLR hLW h6 hl o_age ⟨(hB _ h σ hLR).1, trivial⟩ hk)
    by_cases e17 : k = 17
    · subst e17
      exact lv_tableIn (tgt := 771) (off := 731) hx hb dL_40 (by decide) (by decide) rfl (by decide) (lc_readings C hLR hLW h6 hl o_readings ⟨(hB _ h σ hLR).1, trivial⟩ hk)
    by_cases e18 : k = 18
    · subst e18
      exact lv_tableIn (tgt := 784) (off := 744) hx hb dL_40 (by decide) (by decide) rfl (by decide) (lc_read C hLR hLW h6 hl o_read ⟨(hB _ h σ hLR).1, trivial⟩ hk)
    by_cases e19 : k = 19
    · subst e19
      exact lv_tableIn (tgt := 821) (off := 781) hx hb dL_40 (by decide) (by decide) rfl (by decide) (lc_fewest C hLR hLW h6 hl o_fewest ⟨(hB _ h σ hLR).1, trivial⟩ hk)
    by_cases e20 : k = 20
    · subst e20
      exact lv_tableIn (tgt := 834) (off := 794) hx hb dL_40 (by decide) (by decide) rfl (by decide) (lc_sign C hLR hLW h6 hl o_sign ⟨(hB _ h σ hLR).1, trivial⟩ hk)
    by_cases e21 : k = 21
    · subst e21
      exact lv_tableIn (tgt := 883) (off := 843) hx hb dL_40 (by decide) (by decide) rfl (by decide) (lc_steps C hLR hLW h6 hl o_steps ⟨(hB _ h σ hLR).1, trivial⟩ hk)
    by_cases e22 : k = 22
    · subst e22
      exact lv_tableIn (tgt := 932) (off := 892) hx hb dL_40 (by decide) (by decide) rfl (by decide) (lc_walk C hLR hLW h6 hl o_walk ⟨(hB _ h σ hLR).1, trivial⟩ hk)
    by_cases e23 : k = 23
    · subst e23
      exact lv_tableIn (tgt := 945) (off := 905) hx hb dL_40 (by decide) (by decide) rfl (by decide) (lc_walked C hLR hLW h6 hl o_walked ⟨(hB _ h σ hLR).1, trivial⟩ hk)
    by_cases e24 : k = 24
    · subst e24
      exact lv_tableIn (tgt := 970) (off := 930) hx hb dL_40 (by decide) (by decide) rfl (by decide) (lc_seen C hLR hLW h6 hl o_seen ⟨(hB _ h σ hLR).1, trivial⟩ hk)
    by_cases e25 : k = 25
    · subst e25
      exact lv_tableIn (tgt := 1007) (off := 967) hx hb dL_40 (by decide) (by decide) rfl (by decide) (lc_lay C hLR hLW h6 hl o_lay ⟨(hB _ h σ hLR).1, trivial⟩ hk)
    by_cases e26 : k = 26
    · subst e26
      exact lv_tableIn (tgt := 1032) (off := 992) hx hb dL_40 (by decide) (by decide) rfl (by decide) (lc_spot C hLR hLW h6 hl o_spot ⟨(hB _ h σ hLR).1, trivial⟩ hk)
    by_cases e27 : k = 27
    · subst e27
      exact lv_tableIn (tgt := 1045) (off := 1005) hx hb dL_40 (by decide) (by decide) rfl (by decide) (lc_ways C hLR hLW h6 hl o_ways ⟨(hB _ h σ hLR).1, trivial⟩ hk)
    by_cases e28 : k = 28
    · subst e28
      exact lv_tableIn (tgt := 1070) (off := 1030) hx hb dL_40 (by decide) (by decide) rfl (by decide) (lc_both C hLR hLW h6 hl o_both ⟨(hB _ h σ hLR).1, trivial⟩ hk)
    by_cases e29 : k = 29
    · subst e29
      exact lv_tableIn (tgt := 1107) (off := 1067) hx hb dL_40 (by decide) (by decide) rfl (by decide) (lc_years C hLR hLW h6 hl o_years ⟨(hB _ h σ hLR).1, trivial⟩ hk)
    by_cases e30 : k = 30
    · subst e30
      exact lv_tableIn (tgt := 1156) (off := 1116) hx hb dL_40 (by decide) (by decide) rfl (by decide) (lc_rarest C hLR hLW h6 hl o_rarest ⟨(hB _ h σ hLR).1, trivial⟩ hk)
    by_cases e31 : k = 31
    · subst e31
      exact lv_tableIn (tgt := 1169) (off := 1129) hx hb dL_40 (by decide) (by decide) rfl (by decide) (lc_sentence C hLR hLW h6 hl o_sentence ⟨(hB _ h σ hLR).1, trivial⟩ hk)
    by_cases e32 : k = 32
    · subst e32
      exact lv_tableIn (tgt := 1182) (off := 1142) hx hb dL_40 (by decide) (by decide) rfl (by decide) (lc_said C hLR hLW h6 hl o_said ⟨(hB _ h σ hLR).1, trivial⟩ hk)
    by_cases e33 : k = 33
    · subst e33
      exact lv_tableIn (tgt := 1207) (off := 1167) hx hb dL_40 (by decide) (by decide) rfl (by decide) (lc_image C hLR hLW h6 hl o_image ⟨(hB _ h σ hLR).1, trivial⟩ hk)
    by_cases e34 : k = 34
    · subst e34
      exact lv_tableIn (tgt := 1232) (off := 1192) hx hb dL_40 (by decide) (by decide) rfl (by decide) (lc_restore C hLR hLW h6 hl o_restore ⟨(hB _ h σ hLR).1, trivial⟩ hk)
    by_cases e35 : k = 35
    · subst e35
      exact lv_tableIn (tgt := 1257) (off := 1217) hx hb dL_40 (by decide) (by decide) rfl (by decide) (lc_count C hLR hLW h6 hl o_count ⟨(hB _ h σ hLR).1, trivial⟩ hk)
    omega
end LCA
