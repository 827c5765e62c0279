/-! readers: a word or a number is read -/
def gBd (N : Nat) (K : HS → Option (HS × Int32)) (σ : HS) (y0 y4 : Nat) : Option (HS × Int32) := ((oI σ y0 5 7 3).bind fun v52 => ((oI σ y0 5 7 5).bind fun v53 => ((if 7 ≤ (v52 - v53) then (some σ) else ((oI σ y0 5 7 3).bind fun v56 => gT σ y0 5 7 (((fX6_byteAt N σ y0 v56).bind fun r57 => gT σ y4 16 16 (((fJ5_append N σ y4 ((r57.toUInt32 % 65536).toInt32)).bind fun r58 => some r58.2)))))).bind fun q54 => ((oI q54 y0 5 7 3).bind fun v59 => ((oI q54 y0 5 7 5).bind fun v60 => ((if 3 ≤ (v59 - v60) then (some q54) else ((oI q54 y0 5 7 6).bind fun v63 => ((oI q54 y0 5 7 3).bind fun v64 => gT q54 y0 5 7 (((fX6_byteAt N q54 y0 v64).bind fun r65 => ((pI q54 y0 5 7 6 (((10 * v63) + r65) - 48)).bind fun σ66 => some σ66)))))).bind fun q61 => ((oI q61 y0 5 7 3).bind fun v67 => ((pI q61 y0 5 7 3 (v67 + 1)).bind fun σ68 => K σ68))))))))
def mBd (N : Nat) (K : MS → Option (MS × Int32)) (σ : MS) : Option (MS × Int32) := ((if 7 ≤ (gI σ 13) then (some σ) else ((fX5_peek N σ).bind fun r37 => (lt_ (sL σ (((gL σ) <<< ((8 : Int32).toInt64 &&& 63)) ||| (r37.toInt64))) fun σ38 => some σ38))).bind fun q35 => ((if 3 ≤ (gI q35 13) then (some q35) else ((fX5_peek N q35).bind fun r41 => (lt_ (sI q35 14 (((10 * (gI q35 14)) + r41) - 48)) fun σ42 => some σ42))).bind fun q39 => (lt_ (sI q39 13 ((gI q39 13) + 1)) fun σ43 => (lt_ (sI σ43 4 ((gI σ43 4) + 1)) fun σ44 => K σ44))))
def lt8 (c : Nat) : Bool := decide (97 ≤ c ∧ c ≤ 122)
def dg8 (c : Nat) : Bool := decide (48 ≤ c ∧ c ≤ 57)
def nxN (j : Nat) (num : Int32) (c : Nat) : Int32 := if j < 3 then 10 * num + nI c - 48 else num
def nxL (j : Nat) (l : List Nat) (c : Nat) : List Nat := if j < 7 then l ++ [c] else l
/-- the component within a word -/
def LSc (hA h : HS) (rd P1 j sb ar : Nat) (l : List Nat) (num : Int32) : Prop := kI h rd 3 = nI (P1 + j) ∧ kI h rd 6 = num ∧ (∀ k, k ≠ 3 → k ≠ 6 → kI h rd k = kI hA rd k) ∧ SBR h sb ar l ∧ ond (fun q => q = rd ∨ q = sb ∨ q = ar) hA h ∧ kZ h = kZ hA ∧ kW h = kW hA ∧ kR h = kR hA ∧ kT h = kT hA ∧ kN h = kN hA
/-- the Model within a word -/
def LSm (σ0 σ : MS) (P1 j : Nat) (l : List Nat) (num : Int32) : Prop := gI σ 4 = nI (P1 + j) ∧ gI σ 13 = nI j ∧ gI σ 14 = num ∧ gL σ = enc l ∧ (∀ k, k ≠ 4 → k ≠ 13 → k ≠ 14 → gI σ k = gI σ0 k) ∧ gA σ = gA σ0 ∧ gJ σ = gJ σ0
section PTF
variable {hA h h' : HS} {σ0 σ σ' : MS} {N b rd sz lim P1 j sb ar c : Nat} {l : List Nat} {num : Int32}
theorem is8 : ∀ c : Fin 256, fX6_isLetter (nI c.val) = bI (lt8 c.val) ∧ fX6_isDigit (nI c.val) = bI (dg8 c.val) := by decide +kernel
theorem isL (hc : c < 256) : fX6_isLetter (nI c) = bI (lt8 c) := (is8 ⟨c, hc⟩).1
theorem isD (hc : c < 256) : fX6_isDigit (nI c) = bI (dg8 c) := (is8 ⟨c, hc⟩).2
theorem isL5 : fX5_isSmall = fX6_isLetter := rfl
theorem isD5 : fX5_isDigit = fX6_isDigit := rfl
theorem gL_s {w : Int64} : gL (sL σ w) = w := rfl
theorem LSc.rb (R : RB hA b rd sz lim P1 σ0) (hL : LSc hA h rd P1 j sb ar l num) (M : LSm σ0 σ P1 j l num) (n1 : rd ≠ b + 1 ∧ sb ≠ b + 1 ∧ ar ≠ b + 1) (hj : P1 + j ≤ sz) : RB h b rd sz lim (P1 + j) σ := by
  obtain ⟨l1, l2, l3, l4, l5, l6, l7, l8, l9, l10⟩ := hL
  obtain ⟨m1, m2, m3, m4, m5, m6, m7⟩ := M
  obtain ⟨r1, ⟨r2, r3, r4, r5⟩, r6, ⟨r7, r8, r9⟩, r10, r11, r12⟩ := R
  have lt1 : b + 1 < kZ hA := by have := r1.2.2.2; omega
  refine ⟨by rw [l9, l6, l5.2.1]; exact r1, ⟨by rw [l8]; exact r2, by rw [l9]; exact r3, by rw [l10]; exact r4, fun i hi => ?_⟩, ⟨hj, r6.2⟩, ⟨by rw [l3 1 (by decide) (by decide)]; exact r7, by rw [l3 2 (by decide) (by decide)]; exact r8, l1⟩, (m5 3 (by decide) (by decide) (by decide)).trans r10, (m5 5 (by decide) (by decide) (by decide)).trans r11, m1⟩
  rw [(l5.2.2 (b + 1) lt1 (by omega)).2.2.1, m6]; exact r5 i hi
theorem gB_ok (R : RB h b rd sz lim (P1 + j) σ) (h5 : kI h rd 5 = nI P1) (hL : LSc hA h rd P1 j sb ar l num) (hl : l.length = min j 7) (hc : ocN σ (P1 + j) = c) (c8 : c < 128) (hj : P1 + j < sz) (nr : rd ≠ sb ∧ rd ≠ ar) (rl : rd < kZ hA) (K : HS → Option (HS × Int32)) : ∃ h', gBd N K h rd sb = K h' ∧ LSc hA h' rd P1 (j + 1) sb ar (nxL j l c) (nxN j num c) := by
  obtain ⟨l1, l2, l3, l4, l5, l6, l7, l8, l9, l10⟩ := hL
  have s940 := R.2.2.1.2.1
  have sb1 : nI (P1 + j) - nI P1 = nI j := by rw [show nI (P1 + j) - nI P1 = nI (P1 + j - P1) from pk_sub (by omega), Nat.add_sub_cancel_left]
  have bt : ∀ h1, RB h1 b rd sz lim (P1 + j) σ → fX6_byteAt N h1 rd (nI (P1 + j)) = some (nI c) := fun h1 R1 => by rw [rb_byte R1 (by omega), if_pos hj, hc]
  obtain ⟨-, -, cc, -⟩ := chr_ok ⟨c, c8⟩
  have cc : ((nI c).toUInt32 % 65536).toInt32 = nI c := cc
  -- the letter is kept
  obtain ⟨h1, a1, a2, a3, a4, a5, a6, a7, a8, a9⟩ : ∃ h1, (if 7 ≤ nI j then (some h) else (gT h rd 5 7 (((fX6_byteAt N h rd (nI (P1 + j))).bind fun r57 => gT h sb 16 16 (((fJ5_append N h sb ((r57.toUInt32 % 65536).toInt32)).bind fun r58 => some r58.2)))))) = some h1 ∧ SBR h1 sb ar (nxL j l c) ∧ ond (fun q => q = sb ∨ q = ar) h h1 ∧ kZ h1 = kZ h ∧ kW h1 = kW h ∧ kR h1 = kR h ∧ kT h1 = kT h ∧ kN h1 = kN h ∧ kI h1 rd = kI h rd := by
    by_cases z : j < 7
    · obtain ⟨h1, p1, p2, p3, p4, p5, p6, p7, p8⟩ := sb_app (N := N) (c := c) l4 (by omega) c8
      have rz : rd < kZ h := by rw [l6]; exact rl
      refine ⟨h1, ?_, by unfold nxL; rw [if_pos z]; exact p2, p3, p4, p5, p8, p6, p7, (p3.2.2 rd rz (fun q => q.elim nr.1 nr.2)).2.2.1⟩
      rw [if_neg (show ¬ (7 : Int32) ≤ nI j from nI_ge (b := 7) z (by decide))]
      simp only [Option.bind_some, rb_g R, bt h R, sb_gT l4, cc, p1]
    · refine ⟨h, by rw [if_pos (show (7 : Int32) ≤ nI j from nI_le (a := 7) (by omega) (by omega))], by unfold nxL; rw [if_neg z]; exact l4, ond.refl, rfl, rfl, rfl, rfl, rfl, rfl⟩
  have R1 : RB h1 b rd sz lim (P1 + j) σ := by
    obtain ⟨r1, ⟨r2, r3, r4, r5⟩, r6, ⟨r7, r8, r9⟩, r10, r11, r12⟩ := id R
    refine ⟨by rw [a7, a4, a3.2.1]; exact r1, ⟨by rw [a6]; exact r2, by rw [a7]; exact r3, by rw [a8]; exact r4, fun i hi => ?_⟩, r6, by rw [a9]; exact ⟨r7, r8, r9⟩, r10, r11, r12⟩
    have lt1 : b + 1 < kZ h := by have := r1.2.2.2; omega
    have nb : ¬ (b + 1 = sb ∨ b + 1 = ar) := by
      rintro (q | q)
      · rw [q] at r3
        have := l4.1
        omega
      · rw [q] at r4
        have := l4.2.2.2.2.2.1
        omega
    rw [(a3.2.2 (b + 1) lt1 nb).2.2.1]; exact r5 i hi
  obtain ⟨h2, b1, b2⟩ : ∃ h2, (if 3 ≤ nI j then (some h1) else (gT h1 rd 5 7 (((fX6_byteAt N h1 rd (nI (P1 + j))).bind fun r65 => ((pI h1 rd 5 7 6 (((10 * num) + r65) - 48)).bind fun σ66 => some σ66))))) = some h2 ∧ h2 = setR h1 rd (upd (kI h1 rd) 6 (nxN j num c)) := by
    unfold nxN
    by_cases z : j < 3
    · refine ⟨tI h1 rd 6 (10 * num + nI c - 48), ?_, by rw [if_pos z]; rfl⟩
      rw [if_neg (show ¬ (3 : Int32) ≤ nI j from nI_ge (b := 3) z (by decide))]
      simp only [Option.bind_some, rb_g R1, bt h1 R1, rb_p R1]
    · refine ⟨h1, by rw [if_pos (show (3 : Int32) ≤ nI j from nI_le (a := 3) (by omega) (by omega))], ?_⟩
      rw [if_neg z]
      have : upd (kI h1 rd) 6 num = kI h1 rd := by
        funext k
        by_cases q : k = 6
        · rw [q, pk_us, a9, l2]
        · rw [pk_un q]
      rw [this, setR_id]
  have R2 : RB h2 b rd sz lim (P1 + j) σ := by
    rw [b2]
    exact R1.row R1.2.2.1.1 (pk_un (by decide)) (pk_un (by decide)) (by rw [pk_un (by decide), a9]; exact l1) rfl rfl R.2.2.2.2.2.2 rfl
  have i2 : ∀ k, k ≠ 6 → kI h2 rd k = kI h rd k := fun k hk => by rw [b2, setR_I, pk_un hk, a9]
  have d2 : ond (fun q => q = rd ∨ q = sb ∨ q = ar) hA h2 := by
    rw [b2]
    exact (l5.tr a3 fun q _ z => Or.inr z).tr ond.setR fun q _ z => Or.inl z
  refine ⟨tI h2 rd 3 (nI (P1 + (j + 1))), ?_, ?_, ?_, fun k k1 k2 => ?_, ?_, d2.tr ond.tI fun q _ z => Or.inl z, ?_, ?_, ?_, ?_, ?_⟩
  · unfold gBd
    rw [rb_o R, rb_o R, l1, h5]
    simp only [Option.bind_some, sb1]
    rw [a1]
    simp only [Option.bind_some, rb_o R1, a9, l1, h5, sb1, l2]
    rw [b1]
    simp only [Option.bind_some, rb_o R2, i2 3 (by decide), l1, rb_p R2, show nI (P1 + j) + 1 = nI (P1 + (j + 1)) from nI_add _ 1]
  · rw [kI_tI, if_pos ⟨rfl, rfl⟩]
  · rw [kI_tI, if_neg (by omega), b2, setR_I, pk_us]
  · rw [kI_tI, if_neg (fun q => k1 q.2), i2 k k2]; exact l3 k k1 k2
  · have s2 : SBR h2 sb ar (nxL j l c) := by
      rw [b2]
      exact a2.of ⟨rfl, rfl, setR_o (Ne.symm nr.1)⟩ ⟨rfl, rfl, setR_o (Ne.symm nr.2)⟩ rfl
    exact s2.of ⟨rfl, rfl, kI_tIo (Ne.symm nr.1)⟩ ⟨rfl, rfl, kI_tIo (Ne.symm nr.2)⟩ rfl
  · rw [show kZ (tI h2 rd 3 (nI (P1 + (j + 1)))) = kZ h2 from rfl, b2, show kZ (setR h1 rd (upd (kI h1 rd) 6 (nxN j num c))) = kZ h1 from rfl, a4, l6]
  · rw [show kW (tI h2 rd 3 (nI (P1 + (j + 1)))) = kW h2 from rfl, b2, show kW (setR h1 rd (upd (kI h1 rd) 6 (nxN j num c))) = kW h1 from rfl, a5, l7]
  · rw [show kR (tI h2 rd 3 (nI (P1 + (j + 1)))) = kR h2 from rfl, b2, show kR (setR h1 rd (upd (kI h1 rd) 6 (nxN j num c))) = kR h1 from rfl, a6, l8]
  · rw [show kT (tI h2 rd 3 (nI (P1 + (j + 1)))) = kT h2 from rfl, b2, show kT (setR h1 rd (upd (kI h1 rd) 6 (nxN j num c))) = kT h1 from rfl, a7, l9]
  · rw [show kN (tI h2 rd 3 (nI (P1 + (j + 1)))) = kN h2 from rfl, b2, show kN (setR h1 rd (upd (kI h1 rd) 6 (nxN j num c))) = kN h1 from rfl, a8, l10]
theorem mB_ok (hM : LSm σ0 σ P1 j l num) (h3 : gI σ 3 = nI sz) (s940 : sz ≤ 940) (hc : ocN σ (P1 + j) = c) (c8 : c < 256) (hj : P1 + j < sz) (K : MS → Option (MS × Int32)) : ∃ σ', mBd N K σ = K σ' ∧ LSm σ0 σ' P1 (j + 1) (nxL j l c) (nxN j num c) := by
  obtain ⟨m1, m2, m3, m4, m5, m6, m7⟩ := hM
  have pk : ∀ s : MS, gI s 3 = gI σ 3 → gI s 4 = gI σ 4 → gA s = gA σ → fX5_peek N s = some (nI c) := fun s e1 e2 e3 => by
    rw [mo_peek (P := P1 + j) (e1.trans h3) (e2.trans m1) s940 (by omega), if_pos hj, show ocN s (P1 + j) = ocN σ (P1 + j) from by unfold ocN; rw [e3], hc]
  obtain ⟨s1, a1, a2, a3, a4, a5⟩ : ∃ s1, (if 7 ≤ nI j then (some σ) else ((fX5_peek N σ).bind fun r37 => (lt_ (sL σ (((gL σ) <<< ((8 : Int32).toInt64 &&& 63)) ||| (r37.toInt64))) fun σ38 => some σ38))) = some s1 ∧ gL s1 = enc (nxL j l c) ∧ (∀ k, gI s1 k = gI σ k) ∧ gA s1 = gA σ ∧ gJ s1 = gJ σ := by
    unfold nxL
    by_cases z : j < 7
    · refine ⟨sL σ (encs (gL σ) c), ?_, by rw [if_pos z, gL_s, m4, enc_app], fun _ => rfl, rfl, rfl⟩
      rw [if_neg (show ¬ (7 : Int32) ≤ nI j from nI_ge (b := 7) z (by decide)), pk σ rfl rfl rfl]; rfl
    · exact ⟨σ, by rw [if_pos (show (7 : Int32) ≤ nI j from nI_le (a := 7) (by omega) (by omega))], by rw [if_neg z]; exact m4, fun _ => rfl, rfl, rfl⟩
  obtain ⟨s2, b1, b2⟩ : ∃ s2, (if 3 ≤ nI j then (some s1) else ((fX5_peek N s1).bind fun r41 => (lt_ (sI s1 14 (((10 * (gI s1 14)) + r41) - 48)) fun σ42 => some σ42))) = some s2 ∧ s2 = sI s1 14 (nxN j num c) := by
    unfold nxN
    by_cases z : j < 3
    · refine ⟨sI s1 14 (10 * num + nI c - 48), ?_, by rw [if_pos z]⟩
      rw [if_neg (show ¬ (3 : Int32) ≤ nI j from nI_ge (b := 3) z (by decide)), pk s1 (a3 3) (a3 4) a4, a3 14, m3]; rfl
    · exact ⟨s1, by rw [if_pos (show (3 : Int32) ≤ nI j from nI_le (a := 3) (by omega) (by omega))], by rw [if_neg z, sI_id ((a3 14).trans m3)]⟩
  refine ⟨sI (sI s2 13 (nI (j + 1))) 4 (nI (P1 + (j + 1))), ?_, rfl, rfl, by rw [b2]; rfl, by rw [b2]; exact a2, fun k k1 k2 k3 => ?_, by rw [b2]; exact a4.trans m6, by rw [b2]; exact a5.trans m7⟩
  · unfold mBd
    rw [m2, a1]
    simp only [Option.bind_some, a3 13, m2]
    rw [b1]
    have g13 : gI s2 13 = nI j := by rw [b2]; exact (a3 13).trans m2
    have g4 : gI s2 4 = nI (P1 + j) := by rw [b2]; exact (a3 4).trans m1
    simp only [Option.bind_some, lt_, g13, show gI (sI s2 13 (nI j + 1)) 4 = nI (P1 + j) from g4, show nI j + 1 = nI (j + 1) from nI_add _ 1, show nI (P1 + j) + 1 = nI (P1 + (j + 1)) from nI_add _ 1]
    rw [show gI (sI s2 13 (nI (j + 1))) 4 = nI (P1 + j) from g4, show nI (P1 + j) + 1 = nI (P1 + (j + 1)) from nI_add _ 1]
  · rw [gI_sI, if_neg k1, gI_sI, if_neg k2, b2, gI_sI, if_neg k3, a3]; exact m5 k k1 k2 k3
end PTF
