/-! houses: the house that is read -/
def rK (rd : Nat) (h h' : HS) : Prop := ond (fun q => q = rd) h h' ∧ kT h' rd = kT h rd ∧ kR h' rd 9 = kR h rd 9
def fN (j : Nat) : Nat := if j = 4 then 5 else j
def HBc (b rd : Nat) (h : HS) (F : Nat → Nat) (nm : Nat → Int64) : Prop := HouR h (kI h) b (rd + 1) F nm ∧ (∀ k, 5 ≤ k → k ≤ 9 → rf h (rd + 1) k = rd + k - 3) ∧ (∀ j, 2 ≤ j → j ≤ 4 → LB rd h (rd + j) (F (fN j))) ∧ (∀ j k, 2 ≤ j → j ≤ 4 → 2 ≤ k → k ≤ 4 → j ≠ k → 1 ≤ F (fN j) → 1 ≤ F (fN k) → rf h (rd + j) 1 ≠ rf h (rd + k) 1) ∧ kG h 12 < rd ∧ kT h rd = 5 ∧ kR h rd 9 = some (rd + 1)
/-- what the Model keeps while a house is read -/
def HMe (σ0 σ : MS) : Prop := (∀ j, j ≠ 7 → gA σ j = gA σ0 j) ∧ (∀ j, j ≠ 9 → gJ σ j = gJ σ0 j) ∧ (∀ i, i < 12 → gJ σ 9 i = gJ σ0 9 i) ∧ ∀ k, k ≠ 4 → (k < 11 ∨ 16 < k) → k ≠ 18 → k ≠ 19 → k ≠ 20 → k ≠ 21 → gI σ k = gI σ0 k
def hT (F : Nat → Nat) : Nat := 2 * F 2 + 4 * F 3 + 2 * F 5
def HBS (h0 : HS) (b rd sz Z W : Nat) (σ0 : MS) (F : Nat → Nat) (P : Nat) (h : HS) (σ : MS) : Prop := PRS h0 b rd sz 900 (Z + hT F) (W + 60 * hT F) true P h σ ∧ HBc b rd h F (fun i => gJ σ 9 (12 + i)) ∧ (∀ i, i < 429 → gA σ 7 i = nI (F i)) ∧ HMe σ0 σ ∧ gI σ 15 = 0 ∧ kI h (rd + 1) 3 = gI σ 19 ∧ ∃ u v, (u < 2 ∧ v < 2) ∧ kI h rd 10 = nI (u + 2 * v) ∧ gI σ 20 = nI u ∧ gI σ 21 = nI v ∧ (u = 0 → F 0 = 0)
/-- one line, both sides -/
def LinC (h0 : HS) (b rd sz Z W : Nat) (σ0 : MS) (r : Option ((Nat ⊕ Unit) × HS)) (m : Option (Int32 × MS)) (P : Nat) : Prop :=
  (∃ fa h' σ', r = some (.inl fa, h') ∧ m = some (0, σ') ∧ FLT h0 (Z + 60) (W + 3600) h' fa σ' ∧ HMe σ0 σ') ∨
  ∃ h' σ' F' P', r = some (.inr (), h') ∧ m = some (1, σ') ∧ HBS h0 b rd sz Z W σ0 F' P' h' σ' ∧ P ≤ P' ∧ (kI h' rd 4 ≠ 0 → kI h' rd 4 ≠ 5 → P < P')
section PVC
variable {S : Nat → Prop} {h0 h h' h2 : HS} {σ0 σ σ' : MS} {N b rd sz lim P Zm Wm Z W a l n q p w : Nat} {sp : Bool} {F F' : Nat → Nat} {nm nm' : Nat → Int64}
theorem rK.refl : rK rd h h := ⟨ond.refl, rfl, rfl⟩
theorem rK.trans (k1 : rK rd h h') (k2 : rK rd h' h2) : rK rd h h2 := ⟨k1.1.trans k2.1, k2.2.1.trans k1.2.1, k2.2.2.trans k1.2.2⟩
theorem cK.r (k : cK rd h h') : rK rd h h' := ⟨k.1, k.2.1, k.2.2.1 9 (by decide)⟩
theorem rK.tI {k : Nat} {v : Int32} : rK rd h (tI h rd k v) := ⟨ond.tI, rfl, rfl⟩
theorem HMe.mk (hS : HMe σ0 σ) (K : mK σ σ') : HMe σ0 σ' := ⟨fun j j1 => by rw [K.1]; exact hS.1 j j1, fun j j1 => by rw [K.2.1]; exact hS.2.1 j j1, fun i hi => by rw [K.2.1]; exact hS.2.2.1 i hi, fun k k1 k2 k3 k4 k5 k6 => (K.2.2 k k1 (by omega) (by omega) (by omega) (by omega) (by omega) (by omega) k3).trans (hS.2.2.2 k k1 k2 k3 k4 k5 k6)⟩
theorem HMe.bad {k : Int32} (hS : HMe σ0 σ) : HMe σ0 (fX5_bad σ k).2 := hS.mk (bad_m k)
theorem HMe.as {f : Nat → Int32} (hS : HMe σ0 σ) : HMe σ0 (aS σ 7 f) := ⟨fun j j1 => by rw [gA_o j1]; exact hS.1 j j1, hS.2.1, hS.2.2.1, hS.2.2.2⟩
theorem HMe.si {k : Nat} {v : Int32} (hS : HMe σ0 σ) (hk : k = 18 ∨ k = 19 ∨ k = 20 ∨ k = 21) : HMe σ0 (sI σ k v) := ⟨hS.1, hS.2.1, hS.2.2.1, fun j j1 j2 j3 j4 j5 j6 => by rw [gI_sI, if_neg (by omega)]; exact hS.2.2.2 j j1 j2 j3 j4 j5 j6⟩
theorem gJ_sJo {k i j : Nat} {v : Int64} (hj : j ≠ k) : gJ (sJ σ k i v) j = gJ σ j := by
  funext x; show (if j = k then vp_updL (σ.2.2.2 k) i v else σ.2.2.2 j) x = σ.2.2.2 j x; rw [if_neg hj]
theorem gJ_sJs {k i : Nat} {v : Int64} : gJ (sJ σ k i v) k = vp_updL (gJ σ k) i v := by
  funext x; show (if k = k then vp_updL (σ.2.2.2 k) i v else σ.2.2.2 k) x = _; rw [if_pos rfl]; rfl
theorem HMe.sj {i : Nat} {v : Int64} (hS : HMe σ0 σ) (hi : 12 ≤ i) : HMe σ0 (sJ σ 9 i v) := ⟨hS.1, fun j hj => by rw [gJ_sJo hj]; exact hS.2.1 j hj, fun k hk => by
  rw [gJ_sJs]; unfold vp_updL; rw [if_neg (by omega)]; exact hS.2.2.1 k hk, hS.2.2.2⟩
/-- the master row: a house from the one ahead -/
theorem hou_mk (K : ond S h h') (hE : nEl S h) (hH : HouR h (kI h) b a F nm) (ok : HOK F') (ta : kT h' a = 2) (ra : ∀ k, 5 ≤ k → k ≤ 9 → kR h' a k = kR h a k) (ia : kI h' a 0 = nI (F' 0) ∧ kI h' a 1 = nI (F' 1) ∧ kI h' a 2 = nI (F' 6) ∧ kI h' a 4 = nI (F' 4))
    (l5 : LstR h' (kI h') b (rf h a 5) (F' 2)) (l6 : LstR h' (kI h') b (rf h a 6) (F' 3)) (l7 : LstR h' (kI h') b (rf h a 7) (F' 5))
    (p5 : ∀ p, p < F' 2 → (p < F 2 ∧ le h' (rf h a 5) p = le h (rf h a 5) p ∧ F' (7 + p) = F (7 + p) ∧ F' (13 + p) = F (13 + p) ∧ F' (19 + p) = F (19 + p) ∧ nm' p = nm p) ∨ perR h' (kI h') b F' nm' (le h' (rf h a 5) p) p)
    (p6 : ∀ w, w < F' 3 → (w < F 3 ∧ le h' (rf h a 6) w = le h (rf h a 6) w ∧ F' (177 + w) = F (177 + w) ∧ (∀ i, i < F (177 + w) → F' (183 + 41 * w + i) = F (183 + 41 * w + i)) ∧ nm' (6 + w) = nm (6 + w)) ∨ wayR h' (kI h') b F' nm' (le h' (rf h a 6) w) w)
    (p7 : ∀ k, k < F' 5 → (k < F 5 ∧ le h' (rf h a 7) k = le h (rf h a 7) k ∧ F' (169 + k) = F (169 + k)) ∨ (kT h' (le h' (rf h a 7) k) = 18 ∧ kI h' (le h' (rf h a 7) k) 0 = nI (F' (169 + k))))
    (w8 : wlR h' (kI h') b F' (rf h a 8)) (d9 : drR h' (kI h') b F' (rf h a 9)) : HouR h' (kI h') b a F' nm' := by
  obtain ⟨c0, c1, c2, c3, c4, c5, c6, c7, c8, c9, c10, c11, c12⟩ := hH
  have er : ∀ k, 5 ≤ k → k ≤ 9 → rf h' a k = rf h a k := fun k k1 k2 => by unfold rf; rw [ra k k1 k2]
  refine ⟨ok, c1.up K.1, ta, fun k k1 k2 => by unfold isr; rw [er k k1 k2, ra k k1 k2]; exact c3 k k1 k2, ia, by rw [er 5 (by decide) (by decide)]; exact l5, by rw [er 6 (by decide) (by decide)]; exact l6, by rw [er 7 (by decide) (by decide)]; exact l7, fun p hp => ?_, fun w hw => ?_, fun k hk => ?_, by rw [er 8 (by decide) (by decide)]; exact w8, by rw [er 9 (by decide) (by decide)]; exact d9⟩
  · rw [er 5 (by decide) (by decide)]
    rcases p5 p hp with ⟨x1, x2, x3, x4, x5, x6⟩ | x
    · rw [x2]
      exact (perR.ond K hE (c5.2.2.2.2.2 p x1).2.1 (c8 p x1)).cg x3 x4 x5 x6
    · exact x
  · rw [er 6 (by decide) (by decide)]
    rcases p6 w hw with ⟨x1, x2, x3, x4, x5⟩ | x
    · rw [x2]
      exact (wayR.ond K hE (c6.2.2.2.2.2 w x1).2.1 (c9 w x1)).cg x3 x4 x5
    · exact x
  · rw [er 7 (by decide) (by decide)]
    rcases p7 k hk with ⟨x1, x2, x3⟩ | x
    · rw [x2, x3]
      obtain ⟨y1, y2⟩ := c10 k x1
      obtain ⟨b1, b2, b3, b4⟩ := K.2.2 _ (c7.2.2.2.2.2 k x1).2.1 (fun z => (hE _ (c7.2.2.2.2.2 k x1).2.1 z).2.2.2.1 y1)
      rw [b1, b3]
      exact ⟨y1, y2⟩
    · exact x
theorem wlR.ond (K : ond S h h') (n1 : ¬ S q) (H : wlR h (kI h) b F q) : wlR h' (kI h') b F q := by
  obtain ⟨x1, x2, x3, x4⟩ := H
  obtain ⟨b1, b2, b3, b4⟩ := K.2.2 _ x1.1 n1
  exact ⟨x1.up K.1, by rw [b1]; exact x2, by rw [b2]; exact x3, by rw [b3]; exact x4⟩
theorem drR.ond (K : ond S h h') (n1 : ¬ S q) (H : drR h (kI h) b F q) : drR h' (kI h') b F q := by
  obtain ⟨x1, x2, x3, x4⟩ := H
  obtain ⟨b1, b2, b3, b4⟩ := K.2.2 _ x1.1 n1
  exact ⟨x1.up K.1, by rw [b1]; exact x2, by rw [b2]; exact x3, by rw [b3]; exact x4⟩
theorem hb_lst (H : HBc b rd h F nm) {j : Nat} (j1 : 2 ≤ j) (j2 : j ≤ 4) : LstR h (kI h) b (rd + j) (F (fN j)) := by
  obtain ⟨hH, er, -⟩ := H
  obtain ⟨-, -, -, -, -, c5, c6, c7, -⟩ := hH
  rw [er 5 (by decide) (by decide)] at c5
  rw [er 6 (by decide) (by decide)] at c6
  rw [er 7 (by decide) (by decide)] at c7
  have hj : j = 2 ∨ j = 3 ∨ j = 4 := by omega
  rcases hj with rfl | rfl | rfl
  · exact c5
  · exact c6
  · exact c7
theorem hb_z (H : HBc b rd h F nm) : rd + 7 ≤ kZ h := by
  obtain ⟨hH, er, -⟩ := H
  have := hH.2.2.2.2.2.2.2.2.2.2.2.2.1.1
  rw [er 9 (by decide) (by decide)] at this
  omega
theorem LB.ond (K : ond S h h') (hL : LstR h (kI h) b l n) (n1 : ¬ S l) (n2 : ¬ S (rf h l 1)) (H : LB rd h l n) : LB rd h' l n ∧ rf h' l 1 = rf h l 1 := by
  have e := K.rfe (k := 1) hL.1.1 n1
  unfold LB
  rw [e, K.2.1, (K.2.2 _ hL.2.2.2.1.1.1 n2).2.1]
  exact ⟨H, rfl⟩
theorem HBc.rk (K : rK rd h h') (H : HBc b rd h F nm) : HBc b rd h' F nm := by
  have hz := hb_z H
  have hl : ∀ j, 2 ≤ j → j ≤ 4 → LstR h (kI h) b (rd + j) (F (fN j)) := fun j j1 j2 => hb_lst H j1 j2
  obtain ⟨hH, er, lb, ds, g12, t5, r9⟩ := H
  have n39 : ∀ j, 2 ≤ j → j ≤ 4 → ¬ rf h (rd + j) 1 = rd := fun j j1 j2 z => by
    have := (hl j j1 j2).2.2.2.1.2.1
    rw [z, t5] at this; omega
  have lb' : ∀ j, 2 ≤ j → j ≤ 4 → LB rd h' (rd + j) (F (fN j)) ∧ rf h' (rd + j) 1 = rf h (rd + j) 1 := fun j j1 j2 => (lb j j1 j2).ond K.1 (hl j j1 j2) (show ¬ rd + j = rd by omega) (n39 j j1 j2)
  refine ⟨hH.ond K.1 (fun q _ z => by have z : q = rd := z; rw [z, t5]; exact ⟨by decide, by decide⟩), fun k k1 k2 => ?_, fun j j1 j2 => (lb' j j1 j2).1, fun j k j1 j2 k1 k2 jk x y => by rw [(lb' j j1 j2).2, (lb' k k1 k2).2]; exact ds j k j1 j2 k1 k2 jk x y, by rw [K.1.2.1]; exact g12, K.2.1.trans t5, K.2.2.trans r9⟩
  rw [K.1.rfe (by omega) (show ¬ rd + 1 = rd by omega)]; exact er k k1 k2
theorem HBc.ck (K : cK rd h h') (H : HBc b rd h F nm) : HBc b rd h' F nm := H.rk K.r
theorem HBc.i3 (K : rK rd h h') (H : HBc b rd h F nm) : kI h' (rd + 1) = kI h (rd + 1) := (K.1.2.2 _ (by have := hb_z H; omega) (show ¬ rd + 1 = rd by omega)).2.2.1
theorem HBc.a9 (H : HBc b rd h F nm) : fR h rd 5 5 9 = some (rd + 1) := (fR_n (Nat.le_of_eq H.2.2.2.2.2.1.symm) (Nat.le_of_eq H.2.2.2.2.2.1)).trans H.2.2.2.2.2.2
theorem HBc.ar (H : HBc b rd h F nm) {k : Nat} (k1 : 5 ≤ k) (k2 : k ≤ 9) : fR h (rd + 1) 2 2 k = some (rd + k - 3) := by
  have := ho_R (h := h) (g := kI h) H.1 k1 k2
  rw [H.2.1 k k1 k2] at this
  exact this
theorem HBc.gt {α : Type} {x : Option α} (H : HBc b rd h F nm) : gT h rd 5 5 x = x := gT_n (Nat.le_of_eq H.2.2.2.2.2.1.symm) (Nat.le_of_eq H.2.2.2.2.2.1)
theorem HBc.g57 {α : Type} {x : Option α} (H : HBc b rd h F nm) : gT h rd 5 7 x = x := gT_n (Nat.le_of_eq H.2.2.2.2.2.1.symm) (by rw [H.2.2.2.2.2.1]; decide)
theorem HBc.o (H : HBc b rd h F nm) {k : Nat} : oI h rd 5 5 k = some (kI h rd k) := oI_n (Nat.le_of_eq H.2.2.2.2.2.1.symm) (Nat.le_of_eq H.2.2.2.2.2.1)
theorem hou_nm (hH : HouR h (kI h) b a F nm) (e1 : ∀ p, p < F 2 → nm' p = nm p) (e2 : ∀ w, w < F 3 → nm' (6 + w) = nm (6 + w)) : HouR h (kI h) b a F nm' := by
  obtain ⟨c0, c1, c2, c3, c4, c5, c6, c7, c8, c9, c10⟩ := hH
  exact ⟨c0, c1, c2, c3, c4, c5, c6, c7, fun p hp => perR.cg (c8 p hp) rfl rfl rfl (e1 p hp), fun w hw => wayR.cg (c9 w hw) rfl (fun _ _ => rfl) (e2 w hw), c10⟩
theorem hb_nm (H : HBc b rd h F nm) (e1 : ∀ p, p < F 2 → nm' p = nm p) (e2 : ∀ w, w < F 3 → nm' (6 + w) = nm (6 + w)) : HBc b rd h F nm' := ⟨hou_nm H.1 e1 e2, H.2⟩
/-- a new name -/
theorem fresh_both (hN : 200000 ≤ N) (R : PRS h0 b rd sz lim Zm Wm true P h σ) (H : HBc b rd h F (fun i => gJ σ 9 (12 + i))) (m2 : gA σ 7 2 = nI (F 2)) (m3 : gA σ 7 3 = nI (F 3)) {to : Nat} (ht : to < 24) :
    (∃ fa h' σ', fX7_fresh N h rd = some (.inl fa, h') ∧ fX5_fresh N σ (nI to) = some (0, σ') ∧ FLT h0 Zm Wm h' fa σ' ∧ mK σ σ') ∨
    (∃ q l h' σ' P', fX7_fresh N h rd = some (.inr q, h') ∧ fX5_fresh N σ (nI to) = some (1, σ') ∧ okW l ∧ StrR h' (kI h') b q l ∧ PRS h0 b rd sz lim Zm Wm true P' h' σ' ∧ P ≤ P' ∧ (kI h' rd 4 ≠ 0 → kI h' rd 4 ≠ 5 → P < P') ∧ cK rd h h' ∧ mK (sJ σ 9 to (enc l)) σ' ∧ gI σ' 15 = gI σ 15) := by
  obtain ⟨v, h1, n1, n2, R1, K1, kr1, ki1, hv⟩ := nm_both (N := N) hN R
  have H1 := H.ck K1
  have f2 : F 2 ≤ 6 := H.1.1.1.2.2.1
  have f3 : F 3 ≤ 6 := H.1.1.1.2.2.2.1
  have e0 : fX7_fresh N h rd = ((fX6_need N h1 rd v 1).bind fun r2 => thr r2.1 (fun b2 => some (.inl b2, r2.2)) fun w2 => ((fR r2.2 rd 5 5 9).bind fun a3 => ((fR r2.2 a3 2 2 5).bind fun a4 => gT r2.2 rd 5 5 (((fX6_find N r2.2 rd a4).bind fun r5 => ((if r5 = (-1) then ((fR r2.2 rd 5 5 9).bind fun a8 => ((fR r2.2 a8 2 2 6).bind fun a9 => gT r2.2 rd 5 5 (((fX6_find N r2.2 rd a9).bind fun r10 => (if r10 = (-1) then (some false) else (some true)))))) else (some true)).bind fun q6 => (if q6 = true then (gT r2.2 rd 5 5 (((fX6_need N r2.2 rd 0 3).bind fun r12 => thr r12.1 (fun b12 => some (.inl b12, r12.2)) fun w12 => ((fR r12.2 rd 5 5 8).bind fun a13 => gT r12.2 rd 5 5 (((fX6_go N r12.2 rd).bind fun r14 => some ((Sum.inr a13 : Nat ⊕ Nat), r14))))))) else (gT r2.2 rd 5 5 (((fX6_need N r2.2 rd 1 3).bind fun r15 => thr r15.1 (fun b15 => some (.inl b15, r15.2)) fun w15 => ((fR r15.2 rd 5 5 8).bind fun a16 => gT r15.2 rd 5 5 (((fX6_go N r15.2 rd).bind fun r17 => some (.inr a16, r17)))))))))))))) := by
    unfold fX7_fresh
    rw [H.gt, n1, Option.bind_some]
    exact H1.gt
  have r7 : ∀ k, k < 429 → rA σ 7 (nI k) = some (gA σ 7 k) := fun k hk => rA7 hk
  rcases hv with rfl | ⟨rfl, kd, k11⟩
  · obtain ⟨fa, h', e1, e2⟩ := need_0 (N := N) R1 (k := 1) fun _ => rfl
    refine Or.inl ⟨fa, h', (fX5_bad σ 1).2, ?_, ?_, e2, bad_m 1⟩
    · rw [e0, e1]; rfl
    · unfold fX5_fresh
      rw [n2, Option.bind_some, if_pos rfl]; rfl
  · have kd1 : kI h1 rd 4 = 2 := by rw [ki1]; exact kd
    rcases tk_word R1.tk with ⟨-, -, q, l, t3, t4, t5, t6⟩ | ⟨z, -⟩
    · have q3 : kI h1 rd 4 = 1 ∨ kI h1 rd 4 = 5 → (3 : Int32) = 1 := fun z => by rw [kd1] at z; rcases z with z | z <;> exact absurd z (by decide)
      obtain ⟨r, d1, d2, d3⟩ := fd_both (N := N) hN R1.rb t3 t4 t5 t6 (lst := rd + 2) (n := F 2) (base := 12) (hb_lst H1 (j := 2) (by decide) (by decide)) (by omega) (by omega) (fun i hi => by
        have := H1.1.2.2.2.2.2.2.2.2.1 i hi
        rw [H1.2.1 5 (by decide) (by decide)] at this
        obtain ⟨x1, -, -, -, x5, x6⟩ := this
        exact ⟨Nat.le_of_eq x1.symm, by rw [show rd + 2 = rd + 5 - 3 by omega, x1]; decide, x5, x6⟩)
      obtain ⟨r', d1', d2', d3'⟩ := fd_both (N := N) hN R1.rb t3 t4 t5 t6 (lst := rd + 3) (n := F 3) (base := 18) (hb_lst H1 (j := 3) (by decide) (by decide)) (by omega) (by omega) (fun i hi => by
        have := H1.1.2.2.2.2.2.2.2.2.2.1 i hi
        rw [H1.2.1 6 (by decide) (by decide)] at this
        obtain ⟨x1, -, -, -, -, -, -, x5, x6⟩ := this
        refine ⟨by rw [show rd + 3 = rd + 6 - 3 by omega, x1]; decide, Nat.le_of_eq x1, x5, ?_⟩
        rw [show 18 + i = 12 + (6 + i) by omega]; exact x6)
      have neg : ∀ {r : Int32} {m : Nat}, m ≤ 6 → (r = -1 ∨ ∃ i, i < m ∧ r = nI i) → r ≠ -1 → 0 ≤ r := fun hm h hr => by
        rcases h with z | ⟨i, hi, z⟩
        · exact absurd z hr
        · rw [z]; exact nI_le (a := 0) (by omega) (by omega)
      have nng : ∀ {r : Int32} {m : Nat}, m ≤ 6 → (r = -1 ∨ ∃ i, i < m ∧ r = nI i) → r ≠ -1 → ¬ r < 0 := fun hm h hr => by
        rcases h with z | ⟨i, hi, z⟩
        · exact absurd z hr
        · rw [z]; exact nI_nlt (b := 0) (by omega) (by omega)
      -- whether it is there
      by_cases both : r = -1 ∧ r' = -1
      · obtain ⟨er, er'⟩ := both
        subst er er'
        obtain ⟨σ1, es1⟩ : ∃ s, s = sJ σ 9 to (enc l) := ⟨_, rfl⟩
        have R2 : PRS h0 b rd sz lim Zm Wm false P h1 σ1 := R1.ms (by rw [es1]; rfl) (by rw [es1, gJ_sJo (by decide)]) (by rw [es1]; rfl) (fun k hk => by rw [es1]; rfl)
        obtain ⟨h3, σ3, P', g1, g2, R4, g4, g5, g6⟩ := go_both (N := N) hN R2.1
        refine Or.inr ⟨q, l, h3, σ3, P', ?_, ?_, t4, ?_, R4, g4, g5, K1.trans g6.c, ?_, ?_⟩
        · rw [e0, need_1, Option.bind_some]
          simp only [thr]
          rw [H1.a9, Option.bind_some, H1.ar (by decide) (by decide), Option.bind_some, H1.gt, show rd + 5 - 3 = rd + 2 by omega, d1, Option.bind_some, if_pos rfl, Option.bind_some, H1.ar (by decide) (by decide), Option.bind_some, H1.gt, show rd + 6 - 3 = rd + 3 by omega, d1', Option.bind_some, if_pos rfl, Option.bind_some, if_neg (by decide), H1.gt, need_1, Option.bind_some]
          show ((fR h1 rd 5 5 8).bind fun a16 => gT h1 rd 5 5 (((fX6_go N h1 rd).bind fun r17 => some ((Sum.inr a16 : Nat ⊕ Nat), r17)))) = _
          rw [show fR h1 rd 5 5 8 = some q from (fR_n (Nat.le_of_eq H1.2.2.2.2.2.1.symm) (Nat.le_of_eq H1.2.2.2.2.2.1)).trans t3, Option.bind_some, H1.gt, g1, Option.bind_some]
        · unfold fX5_fresh
          rw [n2, Option.bind_some, if_neg (by decide), show rA σ 7 2 = some (nI (F 2)) from (r7 2 (by decide)).trans (by rw [m2]), Option.bind_some, show fX5_find N σ 12 (nI (F 2)) = some (-1) from d2, Option.bind_some, if_neg (by decide), show rA σ 7 3 = some (nI (F 3)) from (r7 3 (by decide)).trans (by rw [m3]), Option.bind_some, show fX5_find N σ 18 (nI (F 3)) = some (-1) from d2', Option.bind_some, if_pos (by decide), Option.bind_some, if_neg (by decide), wJ9 ht, Option.bind_some, t6, ← es1, g2, Option.bind_some]
        · exact t5.ond g6.1 (fun z => by have z : q = rd := z; have y := t5.2.1; rw [z, H1.2.2.2.2.2.1] at y; omega) (fun z => by have z : rf h1 q 0 = rd := z; have y := t5.2.2.2.2.1; rw [z, H1.2.2.2.2.2.1] at y; omega)
        · rw [← es1]; exact g6.m
        · rw [g6.2.2.2.2.2.2 15 (by decide) (by decide) (by decide) (by decide) (by decide), es1]; rfl
      · obtain ⟨fa, h', e1, e2⟩ := need_0 (N := N) R1 (k := 3) q3
        have qc : (if r = (-1) then (some r').bind (fun r10 => (if r10 = (-1) then (some false) else (some true))) else (some true)) = some true := by
          by_cases c : r = -1
          · rw [if_pos c, Option.bind_some, if_neg (fun z => both ⟨c, z⟩)]
          · rw [if_neg c]
        refine Or.inl ⟨fa, h', (fX5_bad σ 3).2, ?_, ?_, e2, bad_m 3⟩
        · rw [e0, need_1, Option.bind_some]
          simp only [thr]
          rw [H1.a9, Option.bind_some, H1.ar (by decide) (by decide), Option.bind_some, H1.gt, show rd + 5 - 3 = rd + 2 by omega, d1, Option.bind_some, Option.bind_some, H1.ar (by decide) (by decide), Option.bind_some, H1.gt, show rd + 6 - 3 = rd + 3 by omega, d1', qc, Option.bind_some, if_pos rfl, H1.gt, e1, Option.bind_some]
        · unfold fX5_fresh
          have qm : (if 0 ≤ r then (some true) else ((some (nI (F 3))).bind fun v7 => ((fX5_find N σ 18 v7).bind fun r8 => (if r8 < 0 then (some false) else (some true))))) = some true := by
            by_cases c : r = -1
            · have c' : r' ≠ -1 := fun z => both ⟨c, z⟩
              have p := neg f3 d3' c'
              rw [c, if_neg (by decide), Option.bind_some, show fX5_find N σ 18 (nI (F 3)) = some r' from d2', Option.bind_some, if_neg (nng f3 d3' c')]
            · rw [if_pos (neg f2 d3 c)]
          rw [n2, Option.bind_some, if_neg (by decide), show rA σ 7 2 = some (nI (F 2)) from (r7 2 (by decide)).trans (by rw [m2]), Option.bind_some, show fX5_find N σ 12 (nI (F 2)) = some r from d2, Option.bind_some, show rA σ 7 3 = some (nI (F 3)) from (r7 3 (by decide)).trans (by rw [m3]), qm, Option.bind_some, if_pos rfl]
          rfl
    · exact absurd kd1 z
end PVC
