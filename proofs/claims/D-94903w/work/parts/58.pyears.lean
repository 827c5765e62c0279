/-! operation: years -/
section PYR
variable {h : HS} {g : Nat → Nat → Int32} {σ : MS} {N b a n : Nat} {F : Nat → Nat} {nm : Nat → Int64}
theorem ush_n (x : Int32) : ∃ k, k < 2147483648 ∧ ush x 8 = nI k := by
  refine ⟨(x.toUInt32 >>> 8).toNat, ?_, ?_⟩
  · rw [UInt32.toNat_shiftRight]
    have := x.toUInt32.toNat_lt
    show x.toUInt32.toNat >>> 8 < _
    rw [Nat.shiftRight_eq_div_pow]
    omega
  · show (x.toUInt32 >>> 8).toInt32 = nI _
    have e : (x.toUInt32 >>> 8) = ⟨BitVec.ofNat 32 (x.toUInt32 >>> 8).toNat⟩ := by
      show _ = UInt32.ofBitVec (BitVec.ofNat 32 (x.toUInt32 >>> 8).toBitVec.toNat)
      rw [BitVec.ofNat_toNat, BitVec.setWidth_eq]
    exact congrArg UInt32.toInt32 e
theorem LRF.seed (hL : LRF b n h σ F a) (v w : Int32) : LRF b n (iS h (u2 (kI h) b 30 v)) (sI σ 44 w) F a := by
  obtain ⟨⟨hF, hO, hz⟩, hC, hT, ⟨hH, hU⟩, hK, hR, hM⟩ := hL
  have p3 : ∀ x, x ≠ b → u2 (kI h) b 30 v x = kI h x := fun x hx => u2_nf hx
  have p4 : ∀ k, k ≠ 30 → u2 (kI h) b 30 v b k = kI h b k := fun k hk => u2_ne (Or.inr hk)
  have K : kept b h (iS h (u2 (kI h) b 30 v)) (kI h) (u2 (kI h) b 30 v) := ⟨Nat.le_refl _, fun q hq => ⟨rfl, rfl, rfl, p3 q (by obtain ⟨_, h9⟩ := hq; omega)⟩⟩
  exact ⟨⟨hF, hO, hz⟩, hC.keep K rfl, hT.of (p4 1 (by decide)) (p4 2 (by decide)) (p3 (b + 1) (by omega)) rfl rfl rfl, ⟨hH.keep K rfl (fun q q1 q2 => p3 q (by omega)) fun _ _ => rfl, hU.of (p4 7 (by decide)) rfl (fun q q1 q2 => ⟨p3 q (by omega), rfl⟩) rfl rfl⟩, hK.of K (fun q q1 q2 => ⟨p3 q (by omega), rfl⟩) rfl rfl rfl, hR.of (p4 16 (by decide)) (p4 17 (by decide)) (p4 29 (by decide)) ⟨p3 (b + 2037) (by omega), p3 (b + 2038) (by omega), p3 (b + 2048) (by omega), p3 (b + 2198) (by omega)⟩ ⟨rfl, rfl, rfl, rfl⟩ ⟨rfl, rfl, rfl, rfl⟩, hM⟩
/-- what holds all through the years: the relation, the seed, the day -/
def YR (b n : Nat) (F : Nat → Nat) (a d : Nat) (s : HS) (s' : MS) : Prop := LRF b n s s' F a ∧ kI s b 30 = gI s' 44 ∧ gA s' 6 429 = nI d
theorem YR.draw {d m : Nat} {s : HS} {s' : MS} (hY : YR b n F a d s s') (h1 : 1 ≤ m) (h2 : m < 2147483648) : ∃ v t t', v < m ∧ fX1_draw N s b (nI m) = some (nI v, t) ∧ fX5_draw N s' (nI m) = some (nI v, t') ∧ YR b n F a d t t' := by
  obtain ⟨hf, e1, e2⟩ := hY
  have W := hf.nw
  obtain ⟨k, k1, k2⟩ := ush_n (gI s' 44 * 1103515245 + 12345)
  have O := oI_n (h := s) (k := 30) (Nat.le_of_eq W.1.1.symm) (Nat.le_of_eq W.1.1)
  have P := fx_p W.1 (kI s) (k := 30) (v := kI s b 30 * 1103515245 + 12345)
  rw [iS_k] at P
  have O2 := fx_b W.1 (u2 (kI s) b 30 (kI s b 30 * 1103515245 + 12345)) (k := 30)
  rw [u2_eq] at O2
  have z : ¬ nI m = 0 := fun e => by have := (nI_eq (b := 0) h2 (by decide)).mp e; omega
  have r : irm (nI k) (nI m) = nI (k % m) := pk_rem k1 (by omega) h2
  refine ⟨k % m, iS s (u2 (kI s) b 30 (kI s b 30 * 1103515245 + 12345)), sI s' 44 (gI s' 44 * 1103515245 + 12345), Nat.mod_lt _ (by omega), ?_, ?_, hf.seed _ _, ?_, e2⟩
  · unfold fX1_draw
    rw [O]
    simp only [Option.bind_some, P, O2, gZ, if_neg z]
    rw [e1, k2, r]
  · unfold fX5_draw
    simp only [lt_, gZ, if_neg z, gI_sI, if_true]
    rw [k2, r]
  · show u2 (kI s) b 30 (kI s b 30 * 1103515245 + 12345) b 30 = _
    rw [u2_eq, e1, gI_sI, if_pos rfl]
theorem YR.rug {d d' : Nat} {s t : HS} {s' t' : MS} (hY : YR b n F a d s s') (hP : RPD s (kI s) s' b F d' t t') : YR b n F a d' t t' := by
  obtain ⟨hf, e1, e2⟩ := hY
  refine ⟨hf.rug hP.rp, ?_⟩
  obtain ⟨g', f', rfl, rfl, p1, p2, p3, p4⟩ := hP
  refine ⟨?_, by rw [gA_same]; exact p4⟩
  rw [kI_iS, p3 b (by omega)]; exact e1
theorem YR.p {d : Nat} {s : HS} {s' : MS} (hY : YR b n F a d s s') : RP s (kI s) s' b F s s' := ⟨kI s, gA s' 6, rfl, (aS_id s' 6).symm, hY.1.nw.rr, fun _ _ => rfl, fun _ _ => rfl⟩
/-- what the component reads of itself, at any time -/
theorem YR.rd {d : Nat} {s : HS} {s' : MS} (hY : YR b n F a d s s') : fR s b 1 1 3 = some a ∧ fR s b 1 1 4 = some (b + 8) ∧ (∀ {α : Type} (x : Option α), gT s b 1 1 x = x) ∧ (∀ {α : Type} (x : Option α), gT s (b + 8) 3 3 x = x) ∧ fR s a 2 2 5 = some (rf s a 5) ∧ fR s a 2 2 6 = some (rf s a 6) ∧ (∀ {α : Type} (x : Option α), gT s (rf s a 5) 15 15 x = x) ∧ (∀ {α : Type} (x : Option α), gT s (rf s a 6) 15 15 x = x) ∧ fJ2_size N s (rf s a 5) = some (nI (F 2)) ∧ fJ2_size N s (rf s a 6) = some (nI (F 3)) ∧ oI s a 2 2 0 = some (nI (F 0)) ∧ oI s a 2 2 1 = some (nI (F 1)) := by
  have W := hY.1.nw
  exact ⟨W.r3, W.r4, fun x => fx_g W.1 (kI s), fun x => ru_g W.ru (kI s), ho_R W.ho (by decide) (by decide), ho_R W.ho (by decide) (by decide), fun x => ls_g (ho_p W.ho), fun x => ls_g (ho_w W.ho), ls_size (ho_p W.ho), ls_size (ho_w W.ho), ho_0 W.ho, ho_1 W.ho⟩
theorem YR.mr {d i : Nat} {s : HS} {s' : MS} (hY : YR b n F a d s s') (hi : i < 429) : rA s' 6 (nI i) = some (nI (F i)) := mo_i hY.1.nw.mh hi
theorem yr_walks (hN : 200000 ≤ N) {d k : Nat} (h2 : 1 ≤ F 2) (h3 : 1 ≤ F 3) (hk : k < 1000) {y1 y4 : Int32} {s : HS} {s' : MS} (hY : YR b n F a d s s') : ∃ t t', lX1_years_84 N N s b y1 (nI k) y4 0 = some t ∧ lX5_years_82 N N s' y1 (nI k) y4 0 = some t' ∧ YR b n F a d t t' := by
  refine lp_two (fun m (x : HS) i => lX1_years_84 N m x b y1 (nI k) y4 i) (fun m (x : MS) i => lX5_years_82 N m x y1 (nI k) y4 i) k (fun i x y => YR b n F a d x y) (fun x y => YR b n F a d x y) ?_ ?_ k 0 s s' N (by omega) (by omega) hY
  · intro m i x y hi hY
    right
    have k2 : F 2 ≤ 6 := hY.1.nw.mh.1.1.2.2.1
    have k3 : F 3 ≤ 6 := hY.1.nw.mh.1.1.2.2.2.1
    obtain ⟨v, x1, y1', v1, c1, m1, Y1⟩ := YR.draw (N := N) hY h2 (by omega)
    obtain ⟨w, x2, y2', w1, c2, m2, Y2⟩ := YR.draw (N := N) Y1 h3 (by omega)
    have W := Y2.1.nw
    obtain ⟨x3, y3', R, c3, m3⟩ := goes_all (N := N) hN W.ho W.ru W.2.2.2.2.1 W.mh v1 w1 v1 Y2.p
    have Y3 := Y2.rug (R.d Y2.2.2)
    obtain ⟨q1, q2, q3, q4, q5, q6, q7, q8, q9, q10, q11, q12⟩ := YR.rd (N := N) hY
    obtain ⟨r1, r2, r3, r4, r5, r6, r7, r8, r9, r10, r11, r12⟩ := YR.rd (N := N) Y1
    obtain ⟨u1, u2_, u3, u4, u5, u6, u7, u8, u9, u10, u11, u12⟩ := YR.rd (N := N) Y2
    have l1 : ¬ nI k ≤ nI i := nI_ge (by omega) (by omega)
    have n2 : nI i + 1 = nI (i + 1) := nI_add _ 1
    have a1 : rA y 6 2 = some (nI (F 2)) := hY.mr (i := 2) (by decide)
    have a2 : rA y1' 6 3 = some (nI (F 3)) := Y1.mr (i := 3) (by decide)
    have a3 : rA y2' 6 (13 + nI v) = some (nI (F (13 + v))) := by rw [pl_la]; exact Y2.mr (by show 13 + v < 429; omega)
    refine ⟨x3, y3', Y3, ?_, ?_⟩
    · rw [lX1_years_84, if_neg l1]
      simp only [q1, q5, q7, q9, q3, c1, r2, r1, r6, r8, r10, r3, c2, u4, c3, n2, Option.bind_some]
    · rw [lX5_years_82, if_neg l1]
      simp only [a1, m1, a2, m2, a3, m3, n2, Option.bind_some]
  · intro m x y hxy
    refine ⟨x, y, ?_, ?_, hxy⟩
    · rw [lX1_years_84, if_pos (Int32.le_refl _)]
    · rw [lX5_years_82, if_pos (Int32.le_refl _)]
theorem six : nI 6 = (6 : Int32) := by decide
def ymC (N b : Nat) (v : Int32) (x2 : HS) : Option HS := (if v = 0 then ((fR x2 b 1 1 3).bind fun a34 => ((oI x2 a34 2 2 0).bind fun v35 => gT x2 b 1 1 (((fX1_draw N x2 b v35).bind fun r36 => ((fR r36.2 b 1 1 4).bind fun a37 => ((fR r36.2 b 1 1 3).bind fun a38 => ((oI r36.2 a38 2 2 1).bind fun v39 => gT r36.2 b 1 1 (((fX1_draw N r36.2 b v39).bind fun r40 => gT r40.2 a37 3 3 (((fX3_clean N r40.2 a37 (r36.1 + (12 * r40.1))).bind fun r41 => some r41))))))))))) else (some x2))
def ymM (N : Nat) (v : Int32) (y2 : MS) : Option MS := (if v = 0 then ((rA y2 6 0).bind fun v26 => ((fX5_draw N y2 v26).bind fun r27 => ((rA r27.2 6 1).bind fun v28 => ((fX5_draw N r27.2 v28).bind fun r29 => ((fX5_beats N r29.2 ((12 * r29.1) + r27.1)).bind fun r30 => some r30.2))))) else (some y2))
theorem yr75_c {m : Nat} {j k i i' v : Int32} {x x1 x2 x5 x6 : HS} (l1 : ¬ j ≤ i) (c1 : lX1_years_84 N N x b j k i 0 = some x1) (p3 : ∀ {α : Type} (x : Option α), gT x1 b 1 1 x = x) (c2 : fX1_draw N x1 b 6 = some (v, x2)) (c5 : ymC N b v x2 = some x5) (r2 : fR x5 b 1 1 4 = some (b + 8)) (r4 : ∀ {α : Type} (x : Option α), gT x5 (b + 8) 3 3 x = x) (c6 : fX3_dawn N x5 (b + 8) = some x6) (n2 : i + 1 = i') : lX1_years_75 N (m + 1) x b j k i = lX1_years_75 N m x6 b j k i' := by
  unfold ymC at c5
  rw [lX1_years_75, if_neg l1, c1]
  simp only [Option.bind_some, p3, c2]
  rw [c5]
  simp only [Option.bind_some, r2, r4, c6, n2]
theorem yr73_m {m : Nat} {j k i i' v : Int32} {x x1 x2 x5 x6 : MS} (l1 : ¬ j ≤ i) (c1 : lX5_years_82 N N x j k i 0 = some x1) (c2 : fX5_draw N x1 6 = some (v, x2)) (c5 : ymM N v x2 = some x5) (c6 : fX5_day N x5 = some x6) (n2 : i + 1 = i') : lX5_years_73 N (m + 1) x j k i = lX5_years_73 N m x6 j k i' := by
  rw [lX5_years_73, if_neg l1, c1, Option.bind_some, c2, Option.bind_some]
  show ((ymM N v x2).bind fun q24 => (fX5_day N q24).bind fun r31 => lX5_years_73 N m r31 j k (i + 1)) = _
  rw [c5, Option.bind_some, c6, Option.bind_some, n2]
theorem yr_mid (hN : 200000 ≤ N) {d : Nat} (h0 : 1 ≤ F 0) (h1 : 1 ≤ F 1) {v : Int32} {x2 : HS} {y2 : MS} (Y2 : YR b n F a d x2 y2) : ∃ x5 y5, ymC N b v x2 = some x5 ∧ ymM N v y2 = some y5 ∧ YR b n F a d x5 y5 := by
  have k0 : F 0 ≤ 12 := Y2.1.nw.mh.1.1.1
  have k1 : F 1 ≤ 12 := Y2.1.nw.mh.1.1.2.1
  by_cases c : v = 0
  · obtain ⟨w, x3, y3, w1, c3, m3, Y3⟩ := YR.draw (N := N) Y2 h0 (by omega)
    obtain ⟨z, x4, y4, z1, c4, m4, Y4⟩ := YR.draw (N := N) Y3 h1 (by omega)
    have W := Y4.1.nw
    obtain ⟨x5, y5, _, e, b1, b2, b3, b4, b5, b6, b7, b8⟩ := beat_one (N := N) (t := w + 12 * z) hN W.1 W.ru (by omega) Y4.p
    obtain ⟨q1, q2, q3, q4, q5, q6, q7, q8, q9, q10, q11, q12⟩ := YR.rd (N := N) Y2
    obtain ⟨r1, r2, r3, r4, r5, r6, r7, r8, r9, r10, r11, r12⟩ := YR.rd (N := N) Y3
    have a1 : rA y2 6 0 = some (nI (F 0)) := Y2.mr (i := 0) (by decide)
    have a2 : rA y3 6 1 = some (nI (F 1)) := Y3.mr (i := 1) (by decide)
    have n3 : nI w + 12 * nI z = nI (w + 12 * z) := by rw [pl_lm, nI_add]
    have n4 : 12 * nI z + nI w = nI (w + 12 * z) := by rw [Int32.add_comm]; exact n3
    refine ⟨x5, y5, ?_, ?_, Y4.rug (b1.d Y4.2.2)⟩
    · unfold ymC
      rw [if_pos c]
      simp only [q1, q11, q3, c3, r2, r1, r12, r3, c4, b6, n3, b7, Option.bind_some]
    · unfold ymM
      rw [if_pos c]
      simp only [a1, m3, a2, m4, n4, b8, Option.bind_some]
  · exact ⟨x2, y2, if_neg c, if_neg c, Y2⟩
theorem yr_step (hN : 200000 ≤ N) {d k j i m : Nat} (h0 : 1 ≤ F 0) (h1 : 1 ≤ F 1) (h2 : 1 ≤ F 2) (h3 : 1 ≤ F 3) (hk : k < 1000) (hi : i < j) (hd : d + 1 ≤ 999) (hj : j ≤ 999) {x : HS} {y : MS} (hY : YR b n F a d x y) : ∃ t t', YR b n F a (d + 1) t t' ∧ lX1_years_75 N (m + 1) x b (nI j) (nI k) (nI i) = lX1_years_75 N m t b (nI j) (nI k) (nI (i + 1)) ∧ lX5_years_73 N (m + 1) y (nI j) (nI k) (nI i) = lX5_years_73 N m t' (nI j) (nI k) (nI (i + 1)) := by
  obtain ⟨x1, y1, c1, m1, Y1⟩ := yr_walks (N := N) (y1 := nI j) (y4 := nI i) hN h2 h3 hk hY
  obtain ⟨v, x2, y2, v1, c2, m2, Y2⟩ := YR.draw (N := N) (m := 6) Y1 (by decide) (by decide)
  rw [six] at c2 m2
  obtain ⟨p1, p2, p3, -⟩ := YR.rd (N := N) Y1
  have l1 : ¬ nI j ≤ nI i := nI_ge (by omega) (by omega)
  have n2 : nI i + 1 = nI (i + 1) := nI_add _ 1
  obtain ⟨x5, y5, c5, m5, Y5⟩ := yr_mid (N := N) (v := nI v) hN h0 h1 Y2
  have W := Y5.1.nw
  obtain ⟨r1, r2, r3, r4, -⟩ := YR.rd (N := N) Y5
  obtain ⟨x6, y6, c6, m6, P6⟩ := day_both (N := N) (d := d) hN W.ho W.ru W.2.2.2.2.1 W.mh hd (Y5.p.d Y5.2.2)
  exact ⟨x6, y6, Y5.rug P6, yr75_c l1 c1 p3 c2 c5 r2 r4 c6 n2, yr73_m l1 m1 m2 m5 m6 n2⟩
theorem yr_all (hN : 200000 ≤ N) {d k j : Nat} (h0 : 1 ≤ F 0) (h1 : 1 ≤ F 1) (h2 : 1 ≤ F 2) (h3 : 1 ≤ F 3) (hk : k < 1000) (hj : d + j ≤ 999) {s : HS} {s' : MS} (hY : YR b n F a (d + 0) s s') : ∃ t t', lX1_years_75 N N s b (nI j) (nI k) (nI 0) = some t ∧ lX5_years_73 N N s' (nI j) (nI k) (nI 0) = some t' ∧ YR b n F a (d + j) t t' := by
  refine lp_two (fun m (x : HS) i => lX1_years_75 N m x b (nI j) (nI k) i) (fun m (x : MS) i => lX5_years_73 N m x (nI j) (nI k) i) j (fun i x y => YR b n F a (d + i) x y) (fun x y => YR b n F a (d + j) x y) ?_ ?_ j 0 s s' N (by omega) (by omega) hY
  · intro m i x y hi hY
    exact Or.inr (yr_step (d := d + i) hN h0 h1 h2 h3 hk hi (by omega) (by omega) hY)
  · intro m x y hxy
    refine ⟨x, y, ?_, ?_, hxy⟩
    · rw [lX1_years_75, if_pos (Int32.le_refl _)]
    · rw [lX5_years_73, if_pos (Int32.le_refl _)]
end PYR
