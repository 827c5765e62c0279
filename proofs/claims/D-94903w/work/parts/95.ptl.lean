/-! readers: names -/
section PTL
variable {h0 h h' h2 : HS} {σ σ' σ2 : MS} {N b rd sz lim P Zm Wm : Nat} {sp : Bool}
theorem mo_nm0 (hN : 200000 ≤ N) : lX5_isName_16 N σ N 0 0 = some 0 := by
  refine lp_fold (fun m (y : Int32) i => lX5_isName_16 N σ m y i) (fun _ => 0) 20 0 (fun m i hi => ?_) (fun m => ?_) 20 0 N (by omega) (by omega)
  · rw [lX5_isName_16, if_neg (show ¬ (20 : Int32) ≤ nI i from nI_ge (b := 20) hi (by decide)), if_pos rfl, show nI i + 1 = nI (i + 1) from nI_add _ 1]
  · rw [lX5_isName_16, if_pos (by decide)]
/-- whether none of the first i is the word -/
def fre (w : Int64) : Nat → Int32
  | 0 => 1
  | i + 1 => if fre w i = 0 then 0 else if w = resw i then 0 else 1
theorem fre_1 (w : Int64) : ∀ i, (fre w i = 1 ∧ ∀ k, k < i → w ≠ resw k) ∨ (fre w i = 0 ∧ ∃ k, k < i ∧ w = resw k)
  | 0 => Or.inl ⟨rfl, fun k hk => absurd hk (Nat.not_lt_zero _)⟩
  | i + 1 => by
    unfold fre
    rcases fre_1 w i with ⟨h1, h2⟩ | ⟨h1, k, h2, h3⟩
    · rw [h1, if_neg (by decide)]
      by_cases c : w = resw i
      · rw [if_pos c]; exact Or.inr ⟨rfl, i, by omega, c⟩
      · rw [if_neg c]
        refine Or.inl ⟨rfl, fun k hk => ?_⟩
        by_cases e : k = i
        · rw [e]; exact c
        · exact h2 k (by omega)
    · rw [h1, if_pos rfl]; exact Or.inr ⟨rfl, k, by omega, h3⟩
theorem mo_nm1 (hN : 200000 ≤ N) (hJ : ∀ k, k < 20 → gJ σ 10 k = resw k) : lX5_isName_16 N σ N 1 0 = some (fre (gL σ) 20) := by
  refine lp_fold (fun m (y : Int32) i => lX5_isName_16 N σ m y i) (fun i => fre (gL σ) i) 20 _ (fun m i hi => ?_) (fun m => ?_) 20 0 N (by omega) (by omega)
  · rw [lX5_isName_16, if_neg (show ¬ (20 : Int32) ≤ nI i from nI_ge (b := 20) hi (by decide)), show nI i + 1 = nI (i + 1) from nI_add _ 1]
    have r : rJ σ 10 (nI i) = some (resw i) := (rJ10 hi).trans (by rw [hJ i hi])
    rw [r]
    simp only [Option.bind_some]
    show _ = lX5_isName_16 N σ m (if fre (gL σ) i = 0 then 0 else if gL σ = resw i then 0 else 1) (nI (i + 1))
    by_cases c : fre (gL σ) i = 0
    · rw [if_pos c, if_pos c]
    · rw [if_neg c, if_neg c]
      by_cases d : gL σ = resw i
      · rw [if_pos ((lg_cmp_eq _ _).mpr d), if_pos d]
      · rw [if_neg (fun z => d ((lg_cmp_eq _ _).mp z)), if_neg d]
  · rw [lX5_isName_16, if_pos (by decide)]
theorem SBR.app {sb ar : Nat} {l : List Nat} (hs : SBR h sb ar l) {q : Nat} {l2 : List Nat} (hq : StrR h (kI h) b q l2) (n1 : q ≠ sb) (n2 : rf h q 0 ≠ ar) (n3 : q ≠ ar) (n4 : rf h q 0 ≠ sb) (K : ond (fun x => x = sb ∨ x = ar) h h') : StrR h' (kI h') b q l2 := hq.ond K (fun z => z.elim n1 n3) (fun z => z.elim n4 n2)
theorem nm_both (hN : 200000 ≤ N) (R : PRS h0 b rd sz lim Zm Wm true P h σ) : ∃ v h', fX6_isName N h rd = some (v, h') ∧ fX5_isName N σ = some v ∧ PRS h0 b rd sz lim Zm Wm false P h' σ ∧ cK rd h h' ∧ kR h' rd = kR h rd ∧ kI h' rd = kI h rd ∧ (v = 0 ∨ (v = 1 ∧ kI h rd 4 = 2 ∧ gI σ 11 = 1)) := by
  have RB0 := R.rb
  obtain ⟨⟨-, ⟨g1, g2, g3, g4⟩, rj, ⟨z1, z2, z3⟩, z4, z5⟩, ⟨a, ha, a1, a2⟩, T, spr⟩ := id R
  have rl := RB0.1.2.2.2.2
  have rb18 := RB0.1.2.2.2.1
  unfold fX6_isName fX5_isName
  rw [rb_o RB0]
  simp only [Option.bind_some]
  rcases tk_word T with ⟨t1, t2, q, l, t3, t4, t5, t6⟩ | ⟨t1, t2⟩
  · obtain ⟨s1, s2⟩ := spr rfl t1
    have ql : q < kZ h := t5.1.1
    have rfl' : rf h q 0 < kZ h := t5.2.2.2.1.1
    rw [if_pos t1, if_pos t2]
    -- the builder
    obtain ⟨hA, b1, b2, b3, b4, b5, b6⟩ := sb_new (N := N) (h := h) (by omega) (by omega) z1
    have gA' : grow h0 hA := g1.ond (b4.up fun _ _ z => z.elim) g2
    have GA : kG hA = kG h := b4.2.1
    have CA : CS hA (kI hA) b := g4.keep gA'.kept gA'.2.1
    have S32 : StrR hA (kI hA) b (kG hA 32) [32] := CA.2.1 32 (by decide) (by decide)
    have c0 : ∀ k, 20 ≤ k → k ≤ 42 → kG h0 k < kZ h0 ∧ rf h0 (kG h0 k) 0 < kZ h0 := fun k k1 k2 => ⟨(g4.2.1 k k1 k2).1.1, (g4.2.1 k k1 k2).2.2.2.1.1⟩
    have rfA : ∀ (h' : HS), grow h0 h' → ∀ k, 20 ≤ k → k ≤ 42 → kG h' k = kG h0 k ∧ rf h' (kG h' k) 0 = rf h0 (kG h0 k) 0 := fun h' H k k1 k2 => by
      have e1 : kG h' k = kG h0 k := by rw [H.2.1]
      refine ⟨e1, ?_⟩
      rw [e1]; unfold rf
      rw [(H.2.2 _ (c0 k k1 k2).1).2.2.2]
    have lt0 : ∀ x, x < kZ h0 → x < kZ h := fun x hx => by have := g1.1; omega
    have hG32 := rfA hA gA' 32 (by decide) (by decide)
    have l32 := c0 32 (by decide) (by decide)
    have l31 := c0 31 (by decide) (by decide)
    -- " "
    obtain ⟨h1, d1, d2, d3, d4, d5⟩ := sb_app2 (N := N) b3 S32 (by decide) (fun c hc => by rw [List.mem_singleton.mp hc]; decide)
    have K1 : ond (fun _ => False) h h1 := b4.tr d3 fun x hx z => by omega
    have q1 : StrR h1 (kI h1) b q l := (t5.ond b4 id id).ond d3 (by omega) (by
      have : rf hA q 0 = rf h q 0 := by unfold rf; rw [(b4.2.2 q ql id).2.2.2]
      rw [this]; omega)
    have r1 : fR h1 rd 5 7 8 = some q := by
      obtain ⟨y1, y2, y3, y4⟩ := K1.2.2 rd rl id
      rw [fR_n (by rw [y1]; exact RB0.1.1) (by rw [y1]; exact RB0.1.2.1), y4]; exact t3
    -- the word
    obtain ⟨h2, f1, f2, f3, f4, f5⟩ := sb_app2 (N := N) d2 q1 (by have := t4.2.1; simp; omega) (fun c hc => by have := t4.2.2 c hc; omega)
    have K2 : ond (fun _ => False) h h2 := K1.tr f3 fun x hx z => by omega
    have gr2 : grow h0 h2 := g1.ond (K2.up fun _ _ z => z.elim) g2
    have C2 : CS h2 (kI h2) b := g4.keep gr2.kept gr2.2.1
    have S32' : StrR h2 (kI h2) b (kG h2 32) [32] := C2.2.1 32 (by decide) (by decide)
    -- " "
    obtain ⟨h3, i1, i2, i3, i4, i5⟩ := sb_app2 (N := N) f2 S32' (by have := t4.2.1; simp; omega) (fun c hc => by rw [List.mem_singleton.mp hc]; decide)
    have K3 : ond (fun _ => False) h h3 := K2.tr i3 fun x hx z => by omega
    have z3' : kZ h3 = kZ h + 2 := by rw [i4, f4, d4, b5]
    have w3' : kW h3 = kW h + 20 := by rw [i5, f5, d5, b6]
    have G3 : kG h3 = kG h := K3.2.1
    have len3 : ([] ++ [32] ++ l ++ [32] : List Nat).length = l.length + 2 := by simp
    -- the string
    obtain ⟨h4, j1, j2, j3, j4, j5⟩ := sb_str (N := N) (b := b) i2 (by rw [len3]; have := t4.2.1; omega) (by rw [z3']; omega) (by rw [G3, z3']; omega) (by rw [z3']; omega) (by rw [z3']; omega) (by rw [G3, z3']; omega) (by rw [G3, w3', len3]; have := t4.2.1; omega)
    have K4 : ond (fun _ => False) h h4 := K3.tr j3 fun _ _ z => z
    have gr4 : grow h0 h4 := g1.ond (K4.up fun _ _ z => z.elim) g2
    have C4 : CS h4 (kI h4) b := g4.keep gr4.kept gr4.2.1
    have S31 : StrR h4 (kI h4) b (kG h4 31) (stx 31) := C4.2.1 31 (by decide) (by decide)
    have G4 : kG h4 = kG h := K4.2.1
    have j2 : StrR h4 (kI h4) b (kZ h3) ([32] ++ l ++ [32]) := j2
    have pc : ∀ c, c ∈ ([32] ++ l ++ [32] : List Nat) → c < 256 := fun c hc => by
      rcases List.mem_append.mp hc with z | z
      · rcases List.mem_append.mp z with y | y
        · rw [List.mem_singleton.mp y]; decide
        · have := t4.2.2 c y; omega
      · rw [List.mem_singleton.mp z]; decide
    have len4 : ([32] ++ l ++ [32] : List Nat).length = l.length + 2 := by simp
    obtain ⟨r, x1, x2⟩ := str_idx (N := N) hN S31 j2 (by rw [stx_len]; decide) (by decide) pc (by rw [len4]; omega) (by rw [len4, stx_len]; have := t4.2.1; omega)
    have tk := taken_iff t4
    obtain ⟨y1, y2, y3, y4⟩ := K4.2.2 rd rl id
    have RB4 : RB h4 b rd sz lim P σ := RB0.of RB0.2.2.1.1 (K4.up fun _ _ z => z.elim) y1 (by rw [y4]) (by rw [y3]) (by rw [y3]) (by rw [y3]; exact RB0.2.2.2.1.2.2) rfl rfl RB0.2.2.2.2.2.2 rfl
    have P4 : PRS h0 b rd sz lim Zm Wm false P h4 σ := by
      refine ⟨⟨RB4, ⟨gr4, g2, g3, g4⟩, rj, ⟨by rw [G4]; have := K4.1; omega, by rw [G4]; exact z2, by rw [G4]; exact z3⟩, ?_, ?_⟩, ⟨a, ha, by rw [y3]; exact a1, a2⟩, ?_, fun z => by cases z⟩
      · rw [j4, z3']; omega
      · rw [j5, w3', len3]; have := t4.2.1; omega
      · refine Or.inr (Or.inr (Or.inl ⟨by rw [y3]; exact t1, t2, q, l, by rw [y4]; exact t3, t4, t5.ond K4 id id, t6⟩))
    have frm : cK rd h h4 := ⟨K4.up fun _ _ z => z.elim, y1, fun k _ => by rw [y4], fun k _ => by rw [y3]⟩
    have mn : (lX5_isName_16 N σ N 1 0).bind (fun q8 => gB q8 (some q8)) = some (fre (gL σ) 20) := by
      rw [mo_nm1 hN rj]
      rcases fre_1 (gL σ) 20 with ⟨w, -⟩ | ⟨w, -⟩ <;> (rw [w]; rfl)
    have comp : fX6_isName N h rd = some ((if 0 ≤ r then 0 else 1), h4) := by
      unfold fX6_isName
      rw [rb_o RB0]
      simp only [Option.bind_some, if_pos t1, b1, b2, sb_gT b3, d1, r1, sb_gT d2, f1, sb_gT f2, i1, sb_gT i2, j1]
      have gk : kG h 31 = kG h4 31 := by rw [G4]
      rw [gk, gT_n (Nat.le_of_eq S31.2.1.symm) (Nat.le_of_eq S31.2.1), x1]
      simp only [Option.bind_some]
      by_cases w : 0 ≤ r
      · rw [if_pos w, if_pos w]
      · rw [if_neg w, if_neg w]
    unfold fX6_isName at comp
    rw [rb_o RB0] at comp
    simp only [Option.bind_some, if_pos t1] at comp
    rw [comp, mn]
    have rr : (if 0 ≤ r then (0 : Int32) else 1) = fre (gL σ) 20 := by
      rcases fre_1 (gL σ) 20 with ⟨w1, w2⟩ | ⟨w1, w2⟩
      · rw [w1]
        rcases x2 with ⟨rfl, -⟩ | ⟨p, -, -, m⟩
        · rfl
        · obtain ⟨k, hk, ek⟩ := tk.mp ⟨p, m⟩
          exact absurd (t6.trans ek) (w2 k hk)
      · rw [w1]
        rcases x2 with ⟨-, m⟩ | ⟨p, rfl, p2, -⟩
        · obtain ⟨k, hk, ek⟩ := w2
          obtain ⟨p, hp⟩ := tk.mpr ⟨k, hk, t6.symm.trans ek⟩
          exact absurd hp (m p)
        · rw [if_pos (show (0 : Int32) ≤ nI p from nI_le (a := 0) (by omega) (by omega))]
    refine ⟨fre (gL σ) 20, h4, by rw [rr], rfl, P4, frm, by rw [y4], by rw [y3], ?_⟩
    rcases fre_1 (gL σ) 20 with ⟨w, -⟩ | ⟨w, -⟩
    · exact Or.inr ⟨w, t1, t2⟩
    · exact Or.inl w
  · rw [if_neg t1, if_neg t2, mo_nm0 hN]
    exact ⟨0, h, rfl, rfl, R.down, cK.refl, rfl, rfl, Or.inl rfl⟩
/-- a name is looked for -/
theorem fd_both (hN : 200000 ≤ N) (RB0 : RB h b rd sz lim P σ) {q : Nat} {l : List Nat} (t3 : kR h rd 8 = some q) (t4 : okW l) (t5 : StrR h (kI h) b q l) (t6 : gL σ = enc l) {lst n base : Nat} (hL : LstR h (kI h) b lst n) (hn : n ≤ 12) (hb : base + n ≤ 24) (hO : ∀ i, i < n → 9 ≤ kT h (le h lst i) ∧ kT h (le h lst i) ≤ 10 ∧ isr h (le h lst i) 0 ∧ StrW h (kI h) b (rf h (le h lst i) 0) (gJ σ 9 (base + i))) : ∃ r, fX6_find N h rd lst = some r ∧ fX5_find N σ (nI base) (nI n) = some r ∧ (r = -1 ∨ ∃ i, i < n ∧ r = nI i) := by
  refine exE2 (lp_two (fun m (_ : Unit) i => lX6_find_2 N h m rd lst i) (fun m (_ : Unit) i => lX5_find_2 N σ m (nI base) (nI n) i) n (fun i x y => True) (fun x y => (x = .inl () ∧ y = .inl ()) ∨ ∃ i, i < n ∧ x = .inr (nI i) ∧ y = .inr (nI i)) ?_ ?_ n 0 () () N (by omega) (by omega) trivial) fun r r' e1 e2 hq => ?_
  · rintro m i _ _ hi -
    obtain ⟨o1, o2, o3, w, w1, w2, w3⟩ := hO i hi
    have n1 : nI i + 1 = nI (i + 1) := nI_add _ 1
    have sz' := ls_size (N := N) hL
    have gt := ls_get (N := N) hL hi
    have e := str_eq (N := N) hN w2 t5 (by have := w1.2.1; omega) (by have := t4.2.1; omega) (fun c hc => by have := w1.2.2 c hc; omega) (fun c hc => by have := t4.2.2 c hc; omega)
    have rj : rJ σ 9 (nI base + nI i) = some (gJ σ 9 (base + i)) := by rw [nI_add]; exact rJ9 (by omega)
    have C : lX6_find_2 N h (m + 1) rd lst (nI i) = if w = l then some (.inr (nI i)) else lX6_find_2 N h m rd lst (nI (i + 1)) := by
      rw [lX6_find_2]
      rw [show gT h lst 15 15 = gT (iS h (kI h)) lst 15 15 from rfl, ls_g hL, show fJ2_size N h lst = some (nI n) from sz']
      simp only [Option.bind_some]
      rw [if_neg (nI_ge hi (by omega)), ls_g hL, show fJ2_get N h lst (nI i) = some (le h lst i) from gt]
      simp only [Option.bind_some]
      rw [gT_n o1 o2, fR_n o1 o2, o3]
      simp only [Option.bind_some]
      rw [rb_f RB0, t3]
      simp only [Option.bind_some]
      rw [gT_n (Nat.le_of_eq w2.2.1.symm) (Nat.le_of_eq w2.2.1), e]
      simp only [Option.bind_some, n1]
      by_cases c : w = l
      · rw [if_pos c, if_pos c, if_neg (by decide)]
      · rw [if_neg c, if_neg c, if_pos rfl]
    have M : lX5_find_2 N σ (m + 1) (nI base) (nI n) (nI i) = if w = l then some (.inr (nI i)) else lX5_find_2 N σ m (nI base) (nI n) (nI (i + 1)) := by
      rw [lX5_find_2, if_neg (nI_ge hi (by omega)), rj]
      simp only [Option.bind_some, n1]
      by_cases c : w = l
      · rw [if_pos c, if_pos ((lg_cmp_eq _ _).mpr (by rw [w3, t6, c]))]
      · rw [if_neg c, if_neg (fun z => c (enc_inj w1 t4 (by rw [← w3, ← t6]; exact (lg_cmp_eq _ _).mp z)))]
    by_cases c : w = l
    · rw [if_pos c] at C M
      exact Or.inl ⟨_, _, C, M, Or.inr ⟨i, hi, rfl, rfl⟩⟩
    · rw [if_neg c] at C M
      exact Or.inr ⟨(), (), trivial, C, M⟩
  · rintro m _ _ -
    refine ⟨.inl (), .inl (), ?_, ?_, Or.inl ⟨rfl, rfl⟩⟩
    · show lX6_find_2 N h (m + 1) rd lst (nI n) = _
      rw [lX6_find_2, show gT h lst 15 15 = gT (iS h (kI h)) lst 15 15 from rfl, ls_g hL, show fJ2_size N h lst = some (nI n) from ls_size (N := N) hL]
      simp only [Option.bind_some]
      rw [if_pos (Int32.le_refl _)]
    · show lX5_find_2 N σ (m + 1) (nI base) (nI n) (nI n) = _
      rw [lX5_find_2, if_pos (Int32.le_refl _)]
  · unfold fX6_find fX5_find
    rw [show lX6_find_2 N h N rd lst 0 = some r from e1, show lX5_find_2 N σ N (nI base) (nI n) 0 = some r' from e2]
    rcases hq with ⟨rfl, rfl⟩ | ⟨i, hi, rfl, rfl⟩
    · exact ⟨-1, rfl, rfl, Or.inl rfl⟩
    · exact ⟨nI i, rfl, rfl, Or.inr ⟨i, hi, rfl⟩⟩
/-- one that was told -/
theorem one_both (hN : 200000 ≤ N) (R : PRS h0 b rd sz lim Zm Wm true P h σ) {lst n base : Nat} (hn : n ≤ 12) (hb : base + n ≤ 24) (hL : ∀ h', cK rd h h' → LstR h' (kI h') b lst n ∧ ∀ i, i < n → 9 ≤ kT h' (le h' lst i) ∧ kT h' (le h' lst i) ≤ 10 ∧ isr h' (le h' lst i) 0 ∧ StrW h' (kI h') b (rf h' (le h' lst i) 0) (gJ σ 9 (base + i))) :
    (fX5_isName N σ = some 0 ∧ ∃ fa h', fX6_holdOne N h rd lst = some (.inl fa, h') ∧ FLT h0 Zm Wm h' fa (fX5_bad σ 1).2) ∨ (fX5_isName N σ = some 1 ∧ fX5_find N σ (nI base) (nI n) = some (-1) ∧ ∃ fa h', fX6_holdOne N h rd lst = some (.inl fa, h') ∧ FLT h0 Zm Wm h' fa (fX5_bad σ 3).2) ∨ (fX5_isName N σ = some 1 ∧ ∃ i h', i < n ∧ fX5_find N σ (nI base) (nI n) = some (nI i) ∧ fX6_holdOne N h rd lst = some (.inr (nI i), h') ∧ PRS h0 b rd sz lim Zm Wm false P h' σ ∧ cK rd h h') := by
  obtain ⟨v, h1, e1, e2, R1, K1, r8, i8, hv⟩ := nm_both (N := N) hN R
  have RB0 := R.rb
  have RB1 := R1.rb
  unfold fX6_holdOne
  rw [rb_g RB0, e1]
  simp only [Option.bind_some, rb_g RB1]
  rcases hv with rfl | ⟨rfl, t1, t2⟩
  · left
    obtain ⟨fa, h', p1, p2⟩ := need_0 (N := N) (k := 1) R1 (fun _ => rfl)
    refine ⟨e2, fa, h', ?_, p2⟩
    rw [p1]; rfl
  · right
    obtain ⟨L1, L2⟩ := hL h1 K1
    rcases tk_word R1.tk with ⟨w1, w2, q, l, w3, w4, w5, w6⟩ | ⟨w1, w2⟩
    · obtain ⟨r, f1, f2, f3⟩ := fd_both (N := N) hN RB1 w3 w4 w5 w6 L1 hn hb L2
      rw [need_1]
      simp only [Option.bind_some, thr, rb_g RB1, f1]
      rcases f3 with rfl | ⟨i, hi, rfl⟩
      · left
        obtain ⟨fa, h', p1, p2⟩ := need_0 (N := N) (k := 3) R1 (fun z => by rw [w1] at z; exact absurd z (by decide))
        refine ⟨e2, f2, fa, h', ?_, p2⟩
        rw [if_pos rfl, p1]; rfl
      · right
        refine ⟨e2, i, h1, hi, f2, ?_, R1, K1⟩
        rw [if_neg (fun z => (pl_em1 (a := i) (by omega)).mp z), need_1]; rfl
    · exact absurd t2 w2
end PTL
