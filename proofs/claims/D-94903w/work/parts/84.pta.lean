/-! strings: how they are built -/
/-- a later heap: what was there is there still, but for S -/
def ond (S : Nat → Prop) (h h' : HS) : Prop := kZ h ≤ kZ h' ∧ kG h' = kG h ∧ ∀ q, q < kZ h → ¬ S q → kT h' q = kT h q ∧ kN h' q = kN h q ∧ kI h' q = kI h q ∧ kR h' q = kR h q
section PTA
variable {S S' : Nat → Prop} {h h' h2 : HS} {N b a k t n sl : Nat} {l : List Nat}
theorem ond.refl : ond S h h := ⟨Nat.le_refl _, rfl, fun _ _ _ => ⟨rfl, rfl, rfl, rfl⟩⟩
theorem ond.tr (k1 : ond S h h') (k2 : ond S' h' h2) (hs : ∀ q, q < kZ h → S' q → S q) : ond S h h2 := ⟨Nat.le_trans k1.1 k2.1, k2.2.1.trans k1.2.1, fun q hq hn => by
  obtain ⟨a1, a2, a3, a4⟩ := k1.2.2 q hq hn
  obtain ⟨b1, b2, b3, b4⟩ := k2.2.2 q (by have := k1.1; omega) (fun z => hn (hs q hq z))
  exact ⟨b1.trans a1, b2.trans a2, b3.trans a3, b4.trans a4⟩⟩
theorem ond.trans (k1 : ond S h h') (k2 : ond S h' h2) : ond S h h2 := k1.tr k2 fun _ _ z => z
theorem ond.up (k1 : ond S h h') (hs : ∀ q, q < kZ h → S q → S' q) : ond S' h h' := ⟨k1.1, k1.2.1, fun q hq hn => k1.2.2 q hq fun z => hn (hs q hq z)⟩
theorem kI_tIo {x : Nat} {v : Int32} (e : x ≠ a) : kI (tI h a k v) x = kI h x := by
  funext j; rw [kI_tI, if_neg fun q => e q.1]
theorem kR_tRo {x : Nat} {v : Option Nat} (e : x ≠ a) : kR (tR h a k v) x = kR h x := by
  funext j; rw [kR_tR, if_neg fun q => e q.1]
theorem kI_tAo {x : Nat} (e : x ≠ kZ h) : kI (tA h t n sl) x = kI h x := by
  funext j; rw [kI_tA, if_neg e]
theorem kR_tAo {x : Nat} (e : x ≠ kZ h) : kR (tA h t n sl) x = kR h x := by
  funext j; rw [kR_tA, if_neg e]
theorem ond.tI {v : Int32} : ond (fun q => q = a) h (tI h a k v) := ⟨Nat.le_refl _, rfl, fun q _ hn => ⟨rfl, rfl, kI_tIo hn, rfl⟩⟩
theorem ond.tR {v : Option Nat} : ond (fun q => q = a) h (tR h a k v) := ⟨Nat.le_refl _, rfl, fun q _ hn => ⟨rfl, rfl, rfl, kR_tRo hn⟩⟩
theorem ond.tA : ond (fun _ => False) h (tA h t n sl) := ⟨Nat.le_succ _, rfl, fun q hq _ => ⟨by rw [kT_tA, if_neg (by omega)], by rw [kN_tA, if_neg (by omega)], kI_tAo (by omega), kR_tAo (by omega)⟩⟩
theorem ond.grow (k1 : ond (fun _ => False) h h') : grow h h' := ⟨k1.1, k1.2.1, fun q hq => k1.2.2 q hq id⟩
theorem ond.kept (k1 : ond S h h') (hs : ∀ q, imm b (kZ h) q → ¬ S q) : kept b h h' (kI h) (kI h') := ⟨k1.1, fun q hq => by
  obtain ⟨a1, a2, a3, a4⟩ := k1.2.2 q hq.1 (hs q hq)
  exact ⟨a1, a2, a4, a3⟩⟩
/-- a builder of strings: what is in it -/
def SBR (h : HS) (sb ar : Nat) (l : List Nat) : Prop := kT h sb = 16 ∧ kR h sb 0 = some ar ∧ kI h sb 1 = 0 ∧ kI h sb 3 = nI l.length ∧ kT h ar = 32 ∧ kN h ar = 16 ∧ (∀ i, i < l.length → kI h ar i = nI (l.getD i 0)) ∧ kG h 0 ≤ sb ∧ kG h 0 ≤ ar ∧ sb ≠ ar ∧ l.length ≤ 16 ∧ ∀ c, c ∈ l → c < 128
theorem SBR.of {sb ar : Nat} (hs : SBR h sb ar l) (e1 : kT h' sb = kT h sb ∧ kR h' sb 0 = kR h sb 0 ∧ kI h' sb = kI h sb) (e2 : kT h' ar = kT h ar ∧ kN h' ar = kN h ar ∧ kI h' ar = kI h ar) (e3 : kG h' = kG h) : SBR h' sb ar l := by
  unfold SBR
  rw [e1.1, e1.2.1, e1.2.2, e2.1, e2.2.1, e2.2.2, e3]
  exact hs
theorem sb_new (hz : kZ h + 2 ≤ kG h 1) (hw : kW h + 20 ≤ kG h 2) (hg : kG h 0 ≤ kZ h) : ∃ h', nO h 16 4 = some (kZ h, tA h 16 0 4) ∧ fJ5_init N (tA h 16 0 4) (kZ h) = some h' ∧ SBR h' (kZ h) (kZ h + 1) [] ∧ ond (fun _ => False) h h' ∧ kZ h' = kZ h + 2 ∧ kW h' = kW h + 20 := by
  have t1 : kT (tA (tA h 16 0 4) 32 16 16) (kZ h) = 16 := by rw [kT_tA, if_neg (by rw [kZ_tA]; omega), kT_tA, if_pos rfl]
  refine ⟨tI (tR (tA (tA h 16 0 4) 32 16 16) (kZ h) 0 (some (kZ h + 1))) (kZ h) 1 0, ?_, ?_, ⟨t1, ?_, ?_, ?_, ?_, ?_, fun i hi => absurd hi (Nat.not_lt_zero _), hg, Nat.le_succ_of_le hg, by omega, by decide, fun c hc => by cases hc⟩, ?_, rfl, rfl⟩
  · unfold nO; rw [if_pos ⟨by omega, by omega⟩]
  · unfold fJ5_init fJ4_init nA
    rw [if_pos ⟨by decide, by decide, by rw [kZ_tA, kG_tA]; omega, by rw [kW_tA, kG_tA, show (16 : Int32).toNatClampNeg = 16 from rfl]; omega⟩]
    simp only [Option.bind_some, show (16 : Int32).toNatClampNeg = 16 from rfl, kZ_tA]
    rw [pR_n (Nat.le_of_eq t1.symm) (Nat.le_of_eq t1) hg]
    simp only [Option.bind_some]
    rw [pI_n (h := tR (tA (tA h 16 0 4) 32 16 16) (kZ h) 0 (some (kZ h + 1))) (Nat.le_of_eq t1.symm) (Nat.le_of_eq t1) hg]; rfl
  · show kR (tR (tA (tA h 16 0 4) 32 16 16) (kZ h) 0 (some (kZ h + 1))) (kZ h) 0 = _
    rw [kR_tR, if_pos ⟨rfl, rfl⟩]
  · rw [kI_tI, if_pos ⟨rfl, rfl⟩]
  · rw [kI_tI, if_neg (by omega), kI_tR, kI_tA, if_neg (by rw [kZ_tA]; omega), kI_tA, if_pos rfl]; rfl
  · show kT (tA (tA h 16 0 4) 32 16 16) (kZ h + 1) = 32
    rw [kT_tA, if_pos (show kZ h + 1 = kZ (tA h 16 0 4) from rfl)]
  · show kN (tA (tA h 16 0 4) 32 16 16) (kZ h + 1) = 16
    rw [kN_tA, if_pos (show kZ h + 1 = kZ (tA h 16 0 4) from rfl)]
  · exact ((ond.tA.tr ond.tA fun _ _ z => z).tr ond.tR fun q hq z => by omega).tr ond.tI fun q hq z => by omega
theorem sb_gT {sb ar : Nat} {α : Type} {x : Option α} (hs : SBR h sb ar l) : gT h sb 16 16 x = x := gT_n (Nat.le_of_eq hs.1.symm) (Nat.le_of_eq hs.1)
theorem ushr0 (x : Int32) : x >>> ((0 : Int32) &&& 31) = x := by
  rw [show (0 : Int32) &&& 31 = 0 from rfl]
  exact Int32.shiftRight_zero
theorem ushl0 (x : Int32) : x <<< ((0 : Int32) &&& 31) = x := by
  rw [show (0 : Int32) &&& 31 = 0 from rfl]
  exact Int32.shiftLeft_zero
theorem sb_cp {sb ar m : Nat} (hs : SBR h sb ar l) (hm : m ≤ 16) : fJ4_ensureCapacityInternal N h sb (nI m) = some h := by
  obtain ⟨s1, s2, s3, s4, s5, s6, -⟩ := hs
  unfold fJ4_ensureCapacityInternal
  rw [fR_n (Nat.le_of_eq s1.symm) (Nat.le_of_eq s1), s2]
  simp only [Option.bind_some]
  rw [aL_n (Nat.le_of_eq s5.symm) (Nat.le_of_eq s5), oI_n (Nat.le_of_eq s1.symm) (Nat.le_of_eq s1), s3, s6]
  simp only [Option.bind_some, lt_, ushr0]
  rw [if_pos]
  have : ∀ m : Fin 17, nI m.val - nI 16 ≤ 0 := by decide +kernel
  exact this ⟨m, by omega⟩
theorem sb_lat {sb ar : Nat} (hs : SBR h sb ar l) : fJ4_isLatin1 N h sb = some 1 := by
  obtain ⟨s1, s2, s3, -⟩ := hs
  unfold fJ4_isLatin1
  rw [oI_n (Nat.le_of_eq s1.symm) (Nat.le_of_eq s1), s3]; rfl
theorem chr_ok : ∀ c : Fin 128, fJ10_canEncode (nI c.val) = 1 ∧ vp_nar .byte ((nI c.val).toInt8.toInt32) = nI c.val ∧ ((nI c.val).toUInt32 % 65536).toInt32 = nI c.val ∧ fits .byte (.int (nI c.val)) = true := by decide +kernel
theorem getD_app {l : List Nat} {c i : Nat} : (l ++ [c]).getD i 0 = if i < l.length then l.getD i 0 else if i = l.length then c else 0 := by
  by_cases h1 : i < l.length
  · rw [if_pos h1, List.getD_eq_getElem?_getD, List.getElem?_append_left h1, List.getD_eq_getElem?_getD]
  · rw [if_neg h1, List.getD_eq_getElem?_getD, List.getElem?_append_right (by omega)]
    by_cases h2 : i = l.length
    · rw [if_pos h2, h2, Nat.sub_self]; rfl
    · rw [if_neg h2]
      obtain ⟨k, hk⟩ : ∃ k, i - l.length = k + 1 := ⟨i - l.length - 1, by omega⟩
      rw [hk]; rfl
theorem sb_app {sb ar c : Nat} (hs : SBR h sb ar l) (hl : l.length < 16) (hc : c < 128) : ∃ h', fJ5_append N h sb (nI c) = some (sb, h') ∧ SBR h' sb ar (l ++ [c]) ∧ ond (fun q => q = sb ∨ q = ar) h h' ∧ kZ h' = kZ h ∧ kW h' = kW h ∧ kT h' = kT h ∧ kN h' = kN h ∧ kR h' = kR h := by
  obtain ⟨s1, s2, s3, s4, s5, s6, s7, s8, s9, s10, s11, s12⟩ := id hs
  obtain ⟨c1, c2, -, -⟩ := chr_ok ⟨c, hc⟩
  refine ⟨tI (tI h sb 3 (nI (l.length + 1))) ar l.length (nI c), ?_, ⟨s1, s2, ?_, ?_, s5, s6, fun i hi => ?_, s8, s9, s10, by simp; omega, fun x hx => ?_⟩, ?_, rfl, rfl, rfl, rfl, rfl⟩
  · unfold fJ5_append fJ4_append
    rw [sb_gT hs, oI_n (Nat.le_of_eq s1.symm) (Nat.le_of_eq s1), s4]
    simp only [Option.bind_some, sb_gT hs, show nI l.length + 1 = nI (l.length + 1) from nI_add _ 1]
    rw [sb_cp hs (by omega)]
    simp only [Option.bind_some, sb_gT hs, sb_lat hs, lt_, c1, one0, if_false, Bool.false_eq_true]
    rw [fR_n (Nat.le_of_eq s1.symm) (Nat.le_of_eq s1), s2, oI_n (Nat.le_of_eq s1.symm) (Nat.le_of_eq s1), s4]
    simp only [Option.bind_some, show nI l.length + 1 = nI (l.length + 1) from nI_add _ 1]
    rw [pI_n (Nat.le_of_eq s1.symm) (Nat.le_of_eq s1) s8]
    simp only [Option.bind_some]
    rw [c2, wI_n (h := tI h sb 3 (nI (l.length + 1))) s5 (by show l.length < kN h ar; omega) (by show kN h ar < _; omega) s9]; rfl
  · rw [kI_tI, if_neg (fun q => s10 q.1), kI_tI, if_neg (by omega)]; exact s3
  · rw [kI_tI, if_neg (fun q => s10 q.1), kI_tI, if_pos ⟨rfl, rfl⟩, List.length_append]; rfl
  · rw [List.length_append] at hi
    have hi : i < l.length + 1 := hi
    rw [kI_tI, getD_app]
    by_cases q : i = l.length
    · rw [if_pos ⟨rfl, q⟩, if_neg (by omega), if_pos q]
    · rw [if_neg (fun z => q z.2), kI_tI, if_neg (fun z => s10 z.1.symm), if_pos (by omega)]; exact s7 i (by omega)
  · rcases List.mem_append.mp hx with q | q
    · exact s12 x q
    · rw [List.mem_singleton.mp q]; exact hc
  · exact (ond.tI.up fun q _ z => Or.inl z).tr ond.tI fun q _ z => Or.inr z
end PTA
