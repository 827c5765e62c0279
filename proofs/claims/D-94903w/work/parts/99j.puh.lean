/-! sentences: the leaves -/
/-- what the Model keeps when a sentence has a fault -/
def SMe (σ0 σ : MS) : Prop := (∀ j, j ≠ 8 → j ≠ 45 → gA σ j = gA σ0 j) ∧ gJ σ = gJ σ0 ∧ ∀ k, k ≠ 4 → (k < 11 ∨ 16 < k) → k ≠ 18 → (k < 46 ∨ 50 < k) → gI σ k = gI σ0 k
/-- what is there all the while -/
def SF (h0 : HS) (b a : Nat) (F : Nat → Nat) (σ0 : MS) : Prop := HouR h0 (kI h0) b a F (gJ σ0 9) ∧ ∀ i, i < 429 → gA σ0 6 i = nI (F i)
section PUH
variable {h0 h h' h2 : HS} {σ0 σ σ' : MS} {N b rd sz lim P Zm Wm a O x : Nat} {sp wh : Bool} {F : Nat → Nat} {S : List Nat} {C : List CD3}
theorem SM.e (hS : SM σ0 S C O wh σ) : SMe σ0 σ := hS.2.2.2
theorem SMe.bad {k : Int32} (hS : SMe σ0 σ) : SMe σ0 (fX5_bad σ k).2 := ⟨hS.1, hS.2.1, fun j j1 j2 j3 j4 => by
  show gI (sI (sI σ 15 k) 16 _) j = _
  rw [gI_sI, if_neg (by omega), gI_sI, if_neg (by omega)]; exact hS.2.2 j j1 j2 j3 j4⟩
theorem SMe.mk (hS : SMe σ0 σ) (K : mK σ σ') : SMe σ0 σ' := ⟨fun j j1 j2 => by rw [K.1]; exact hS.1 j j1 j2, K.2.1.trans hS.2.1, fun k k1 k2 k3 k4 => (K.2.2 k k1 (by omega) (by omega) (by omega) (by omega) (by omega) (by omega) k3).trans (hS.2.2 k k1 k2 k3 k4)⟩
theorem sK.w (K : sK rd h h') (K2 : ond (fun q => q = x) h' h2) (hx : kZ h ≤ x) (hr : rd < kZ h) : sK rd h h2 := by
  obtain ⟨p1, p2, p3, p4⟩ := K2.2.2 rd (Nat.lt_of_lt_of_le hr K.1.1) (show ¬ rd = x by omega)
  exact ⟨K.1.tr K2 fun q hq z => by have : q = x := z; omega, p1.trans K.2.1, fun k hk => by rw [p4]; exact K.2.2.1 k hk, fun k hk => by rw [p3]; exact K.2.2.2 k hk⟩
theorem sK.n {k n : Nat} (K : sK rd h h') (hr : rd < kZ h) : sK rd h (tA h' k 0 n) := by
  have e : ond (fun _ => False) h' (tA h' k 0 n) := ond.tA
  obtain ⟨p1, p2, p3, p4⟩ := e.2.2 rd (Nat.lt_of_lt_of_le hr K.1.1) id
  exact ⟨K.1.tr e fun q hq z => z.elim, p1.trans K.2.1, fun k hk => by rw [p4]; exact K.2.2.1 k hk, fun k hk => by rw [p3]; exact K.2.2.2 k hk⟩
theorem tr_both (hN : 200000 ≤ N) (X : SF h0 b a F σ0) (R : PRS h0 b rd sz lim Zm Wm true P h σ) (T : kT h rd = 7) (A : kR h rd 9 = some a) (r1 : Zm + 1 + 10 ≤ kG h0 1) (r2 : Wm + 8 + 100 ≤ kG h0 2) (hS : SM σ0 S C O wh σ) (hC : C.length < 45) :
    (∃ fa h' σ', fX13_trod N h rd = some (.inl fa, h') ∧ opT N σ = some (0, σ') ∧ FLT h0 Zm Wm h' fa σ' ∧ SMe σ0 σ') ∨
    ∃ c h' σ' P' w, fX13_trod N h rd = some (.inr c, h') ∧ opT N σ = some (1, σ') ∧ PRS h0 b rd sz lim (Zm + 1) (Wm + 8) true P' h' σ' ∧ P ≤ P' ∧ sK rd h h' ∧ kI h' rd 10 = kI h rd 10 ∧ kI h' rd 11 = kI h rd 11 ∧ CondR h' (kI h') b F 1 c [(0, 0, w)] ∧ SM σ0 S (C ++ [(0, 0, w)]) O wh σ' ∧ gI σ' 15 = gI σ 15 := by
  have gr := R.1.2.1.1
  have kg := gr.2.1
  have H : ∀ {h1 : HS}, grow h0 h1 → HouR h1 (kI h1) b a F (gJ σ0 9) := fun g => X.1.keep g.kept
  have HO := X.1.1
  have ia := X.1.2.1
  have ra : ∀ {h1 : HS}, grow h0 h1 → rf h1 a 6 = rf h0 a 6 := fun g => by unfold rf; rw [(g.2.2 a ia.1).2.2.2]
  have f3 : F 3 ≤ 6 := HO.1.2.2.2.1
  have s63 : rA σ 6 3 = some (nI (F 3)) := by
    rw [show rA σ 6 3 = some (gA σ 6 3) from rfl, hS.e.1 6 (by decide) (by decide), X.2 3 (by decide)]
  have gj : gJ σ = gJ σ0 := hS.e.2.1
  have K0 := H gr
  have e0 : fX13_trod N h rd = ((fX6_holdOne N h rd (rf h0 a 6)).bind fun r3 => thr r3.1 (fun b3 => some (.inl b3, r3.2)) fun w3 => gT r3.2 rd 7 7 (((fX6_go N r3.2 rd).bind fun r4 => ((nO r4 12 1).bind fun r5 => ((fX16_init N r5.2 r5.1 w3).bind fun r6 => some ((Sum.inr r5.1 : Nat ⊕ Nat), r6)))))) := by
    unfold fX13_trod
    rw [show fR h rd 7 7 9 = some a by unfold fR; rw [if_pos ⟨by omega, by omega⟩]; exact A, Option.bind_some, show fR h a 2 2 6 = some (rf h0 a 6) by unfold fR; rw [if_pos ⟨by rw [K0.2.2.1]; decide, by rw [K0.2.2.1]; decide⟩, ← ra gr]; exact K0.2.2.2.1 6 (by decide) (by decide), Option.bind_some, gT_n (by omega) (by omega)]
  have O1 := one_both (N := N) (lst := rf h0 a 6) (n := F 3) (base := 6) hN R (by omega) (by omega) (fun h' K => by
    have gr' := gr.ond K.1 R.1.2.1.2.1
    have H' := H gr'
    refine ⟨by rw [← ra gr']; exact H'.2.2.2.2.2.2.1, fun i hi => ?_⟩
    have := H'.2.2.2.2.2.2.2.2.2.1 i hi
    rw [ra gr'] at this
    obtain ⟨t1, -, -, -, -, -, -, t2, t3⟩ := this
    refine ⟨by rw [t1]; decide, by rw [t1]; decide, t2, ?_⟩
    rw [gj]; exact t3)
  have fd0 : fX5_find N σ 6 (nI (F 3)) = fX5_find N σ (nI 6) (nI (F 3)) := rfl
  unfold opT
  rcases O1 with ⟨o1, fa, h', o2, o3⟩ | ⟨o1, o4, fa, h', o2, o3⟩ | ⟨o1, w, h2, hw, o4, o2, R2, K2⟩
  · left
    exact ⟨fa, h', _, by rw [e0, o2]; rfl, by rw [o1, Option.bind_some, if_pos rfl], o3, hS.e.bad⟩
  · left
    exact ⟨fa, h', _, by rw [e0, o2]; rfl, by rw [o1, Option.bind_some, if_neg (by decide), s63, Option.bind_some, fd0, o4, Option.bind_some, if_neg (by decide)], o3, hS.e.bad⟩
  · right
    obtain ⟨σ2, c1, c2, c3⟩ := sm_code (N := N) hS hC 0 0 w
    have R3 : PRS h0 b rd sz lim Zm Wm false P h2 σ2 := R2.ms (c3.2.2.2 1 (by decide) (by decide)) (by rw [c3.2.2.1]) c3.2.1 (fun k hk => c3.1 k (by omega))
    obtain ⟨h3, σ3, P', g1, g2, R4, g4, g5, g6⟩ := go_both (N := N) hN R3.1
    have G3 : kG h3 = kG h0 := R4.1.2.1.1.2.1
    obtain ⟨n1, R5⟩ := R4.nw (k := 12) (n := 1) (by decide) (by rw [G3]; exact r1) (by rw [G3]; exact r2)
    have Kz : kT (tA h3 12 0 1) (kZ h3) = 12 := by rw [kT_tA, if_pos rfl]
    have z0 := R4.1.2.1.1.1
    have gz := R4.1.2.2.2.1.1
    have ini : fX16_init N (tA h3 12 0 1) (kZ h3) (nI w) = some (tI (tA h3 12 0 1) (kZ h3) 0 (nI w)) := by
      unfold fX16_init
      rw [pI_n (h := tA h3 12 0 1) (by omega) (by omega) gz, Option.bind_some]
    have rl : rd < kZ h := R.rb.1.2.2.2.2
    have Ks : sK rd h h3 := K2.sk.trans g6.c.sk
    have K3 : cK rd h h3 := K2.trans g6.c
    have rl3 : rd < kZ h3 := R4.rb.1.2.2.2.2
    refine ⟨kZ h3, tI (tA h3 12 0 1) (kZ h3) 0 (nI w), σ3, P', w, ?_, ?_, ?_, g4, (Ks.n rl).w ond.tI Ks.1.1 rl, ?_, ?_, ?_, ?_, ?_⟩
    · rw [e0, o2, Option.bind_some]
      show gT h2 rd 7 7 _ = _
      rw [gT_n (by rw [K2.2.1]; omega) (by rw [K2.2.1]; omega), g1, Option.bind_some, n1, Option.bind_some, ini, Option.bind_some]
    · rw [o1, Option.bind_some, if_neg (by decide), s63, Option.bind_some, fd0, o4, Option.bind_some, if_pos (show (0 : Int32) ≤ nI w from nI_le (a := 0) (by omega) (by omega)), show fX5_code N σ 0 0 (nI w) = some σ2 from c1, Option.bind_some, g2, Option.bind_some]
    · exact PRS.obj (t := 0) R5 ond.tI (fun q _ z => by have z : q = kZ h3 := z; rw [z, Kz]; exact ⟨z0, by decide, by decide⟩) (Nat.le_refl _) (Nat.le_refl _) (by rw [show kG (tA h3 12 0 1) = kG h0 from G3]; exact r1) (by rw [show kG (tA h3 12 0 1) = kG h0 from G3]; exact r2)
    · rw [kI_tI, if_neg (by omega), kI_tA, if_neg (by omega)]; exact K3.2.2.2 10 (by omega)
    · rw [kI_tI, if_neg (by omega), kI_tA, if_neg (by omega)]; exact K3.2.2.2 11 (by omega)
    · refine ⟨⟨Nat.lt_succ_self _, Or.inr (Or.inl (by have := R.1.2.1.2.2.1; omega))⟩, Or.inr (Or.inr (Or.inl ⟨Kz, w, hw, ?_, rfl⟩))⟩
      rw [kI_tI, if_pos ⟨rfl, rfl⟩]
    · exact sm_mk c2 g6.m
    · rw [g6.2.2.2.2.2.2 15 (by decide) (by decide) (by decide) (by decide) (by decide)]; exact c3.1 15 (by decide)
end PUH
