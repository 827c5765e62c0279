/-! readings: the tape's numbers, the odometer, the masks -/
section PRG
variable {h : HS} {g : Nat → Nat → Int32} {σ : MS} {N b a n : Nat} {F : Nat → Nat}
theorem and255 (x : Int32) : ∃ k, k < 256 ∧ x &&& 255 = nI k := by
  refine ⟨(x &&& 255).toUInt32.toNat, ?_, ?_⟩
  · have : (x &&& 255).toUInt32.toNat = x.toUInt32.toNat &&& 255 := by
      show (x.toUInt32.toBitVec &&& 255#32).toNat = _
      rw [BitVec.toNat_and]; rfl
    rw [this]
    have := @Nat.and_le_right x.toUInt32.toNat 255
    omega
  · have e : (x &&& 255).toUInt32 = ⟨BitVec.ofNat 32 (x &&& 255).toUInt32.toNat⟩ := by
      show _ = UInt32.ofBitVec (BitVec.ofNat 32 (x &&& 255).toUInt32.toBitVec.toNat)
      rw [BitVec.ofNat_toNat, BitVec.setWidth_eq]
    exact congrArg UInt32.toInt32 e
theorem co_tape (hF : FX h b) (g : Nat → Nat → Int32) {i : Nat} (hi : i < 940) : fX1_onTape N (iS h g) b (nI i) = some (g (b + 1) i &&& 255) := by
  unfold fX1_onTape
  simp (disch := omega) only [fx_R0 hF g, fx_I0 hF g, Option.bind_some]
theorem mo_octet {i : Nat} (hi : i < 940) : fX5_octet N σ (nI i) = some (gA σ 1 i &&& 255) := by
  unfold fX5_octet
  rw [rA_n (by show i < 940; exact hi) (by decide)]
  rfl
/-- one step of the odometer, on the places below w -/
def carry (F : Nat → Nat) : Nat → (Nat → Int32) → Int32 × (Nat → Int32)
  | 0, A => (0, A)
  | w + 1, A => if nI (F 2) ≤ A w then carry F w (upd A w 0) else (1, upd A w (A w + 1))
theorem mo_carry (hM : MH (gA σ 6) F) : ∀ w fuel (A : Nat → Int32), w ≤ 6 → w < fuel → osm (lX5_nextReading_9 N fuel (aS σ 25 A) (nI w - 1)) id (fun q9 => some (0, q9)) = some ((carry F w A).1, aS σ 25 (carry F w A).2) := by
  intro w
  induction w with
  | zero =>
    intro fuel A _ hf
    obtain ⟨m, rfl⟩ : ∃ m, fuel = m + 1 := ⟨fuel - 1, by omega⟩
    rw [lX5_nextReading_9, if_pos (by decide)]
    rfl
  | succ w ih =>
    intro fuel A hw hf
    obtain ⟨m, rfl⟩ : ∃ m, fuel = m + 1 := ⟨fuel - 1, by omega⟩
    have n1 : nI (w + 1) - 1 = nI w := by rw [show nI (w + 1) - 1 = nI (w + 1 - 1) from pl_sl (n := 1) (by show 1 ≤ w + 1; omega), Nat.add_sub_cancel]
    have r1 : rA (aS σ 25 A) 25 (nI w) = some (A w) := (rA_n (by show w < 6; omega) (by decide)).trans (by rw [gA_same])
    have hMa : MH (gA (aS σ 25 A) 6) F := by rw [gA_o (by decide)]; exact hM
    have r2 : rA (aS σ 25 A) 6 2 = some (nI (F 2)) := mo_i (i := 2) hMa (by decide)
    have wr : ∀ v, wA (aS σ 25 A) 25 (nI w) v = some (aS σ 25 (upd A w v)) := fun v => (wA_n (by show w < 6; omega) (by decide)).trans (by rw [sA_aS, gA_same, aS_aS])
    rw [n1, lX5_nextReading_9, if_neg (nI_pos (by omega))]
    simp only [r1, r2, Option.bind_some]
    unfold carry
    by_cases c : nI (F 2) ≤ A w
    · rw [if_pos c, if_pos c, wr]
      simp only [Option.bind_some]
      have := ih m (upd A w 0) (by omega) (by omega)
      have e : nI w + -1 = nI w - 1 := (Int32.sub_eq_add_neg ..).symm
      rw [e]
      exact this
    · rw [if_neg c, if_neg c]
      simp only [Option.bind_some, wr]
      rfl
/-- the number of people in a mask: both counts -/
def mkS (m : Int32) : Int32 := 0 + ((m >>> ((1 : Int32) &&& (31 : Int32))) &&& (1 : Int32)) + ((m >>> ((2 : Int32) &&& (31 : Int32))) &&& (1 : Int32)) + ((m >>> ((3 : Int32) &&& (31 : Int32))) &&& (1 : Int32)) + ((m >>> ((4 : Int32) &&& (31 : Int32))) &&& (1 : Int32)) + ((m >>> ((5 : Int32) &&& (31 : Int32))) &&& (1 : Int32)) + ((m >>> ((6 : Int32) &&& (31 : Int32))) &&& (1 : Int32))
theorem mk_bits : ∀ c : Fin 64, fJ16_bitCount (nI c.val) = mkS (nI (2 * c.val)) := by decide +kernel
theorem mk_or : ∀ (c : Fin 64) (w : Fin 6), ∃ c' : Fin 64, nI c.val ||| (1 <<< (nI w.val &&& 31)) = nI c'.val ∧ nI (2 * c.val) ||| (1 <<< (nI (w.val + 1) &&& 31)) = nI (2 * c'.val) := by decide +kernel
theorem mo_bitS (hN : 200000 ≤ N) {y1 m : Int32} : lX5_reads_102 N σ N y1 m 0 1 = some (mkS m) := by
  obtain ⟨k, rfl⟩ : ∃ k, N = k + 7 := ⟨N - 7, by omega⟩
  unfold mkS
  simp only [lX5_reads_102, lt_]
  rw [if_neg (by decide), if_neg (by decide), if_neg (by decide), if_neg (by decide), if_neg (by decide), if_neg (by decide), if_pos (by decide)]
  rfl
end PRG
