/-! houses: the steps of one direction -/
section PVM
variable {S : Nat → Prop} {h0 h h' h2 hb : HS} {σ0 σ σ' : MS} {N b rd sz lim P Zm Wm Z W a l n q p w wx k s : Nat} {sp : Bool} {F F' E : Nat → Nat} {nm nm' : Nat → Int64}
theorem last_n (X : WyS wx q k F E s h σ) : fX11_last N h wx = some (nI (E (183 + 41 * k + s))) := by
  obtain ⟨⟨T, I3, R0, R1, R2, ⟨T1, N1⟩, T2, N2⟩, hs, tu, -⟩ := X
  unfold fX11_last
  rw [fR_n (Nat.le_of_eq T.symm) (Nat.le_of_eq T), R1, Option.bind_some, oI_n (Nat.le_of_eq T.symm) (Nat.le_of_eq T), I3, Option.bind_some, aI_n T1 (by rw [N1]; omega) (by rw [N1]; decide), Option.bind_some, (tu s (Nat.le_refl _)).1]
theorem ope_cs {t d : Nat} : (bes F t d = none ∧ ope F t d = none) ∨ ∃ o, bes F t d = some o ∧ ((F (25 + o) = 1 ∧ ope F t d = none) ∨ (F (25 + o) ≠ 1 ∧ ope F t d = some o)) := by
  unfold ope
  cases e : bes F t d with
  | none => exact Or.inl ⟨rfl, rfl⟩
  | some o =>
    refine Or.inr ⟨o, rfl, ?_⟩
    by_cases c : F (25 + o) = 1
    · exact Or.inl ⟨c, if_pos c⟩
    · exact Or.inr ⟨c, if_neg c⟩
theorem way_in (hN : 200000 ≤ N) (H : HBc b rd hb F nm) (hwx : kZ hb ≤ wx) (hk : k < 6) {d x : Nat} (hd : d < 4) (hx : x ≤ 999) (gw : kG hb 0 ≤ wx) (z0 : kZ h0 ≤ rd) : ∀ m j s E h σ fuel, j + m = x → m < fuel → s + m ≤ 40 → PRS h0 b rd sz lim Zm Wm sp P h σ → rK rd hb h → wx + 3 ≤ kZ h → kI h rd 4 = 3 → gI σ 14 = nI x → HMe σ0 σ → WyS wx q k F E s h σ →
    (∃ fa h' σ', lX7_way_129 N fuel h rd wx (nI d) (nI x) (nI j) = some (.inr (.inl fa, h')) ∧ lX5_readWay_175 N fuel σ (nI k) (nI (183 + 41 * k)) (nI (s + 1)) (nI d) (nI j) = some (.inr (0, σ')) ∧ FLT h0 Zm Wm h' fa σ' ∧ HMe σ0 σ') ∨
    ∃ h' E' f, lX7_way_129 N fuel h rd wx (nI d) (nI x) (nI j) = some (.inl h') ∧ lX5_readWay_175 N fuel σ (nI k) (nI (183 + 41 * k)) (nI (s + 1)) (nI d) (nI j) = some (.inl (aS σ 7 f, nI (s + m + 1))) ∧ PRS h0 b rd sz lim Zm Wm sp P h' (aS σ 7 f) ∧ rK rd hb h' ∧ wx + 3 ≤ kZ h' ∧ kI h' rd = kI h rd ∧ WyS wx q k F E' (s + m) h' (aS σ 7 f) := by
  intro m
  induction m with
  | zero =>
    intro j s E h σ fuel hj hf hs R K hz k4 g14 hM X
    obtain ⟨n, rfl⟩ : ∃ n, fuel = n + 1 := ⟨fuel - 1, by omega⟩
    refine Or.inr ⟨h, E, gA σ 7, ?_, ?_, by rw [aS_id]; exact R, K, hz, rfl, by rw [aS_id]; exact X⟩
    · rw [lX7_way_129, if_pos (nI_le (by omega) (by omega))]
    · rw [lX5_readWay_175, g14, if_pos (nI_le (by omega) (by omega)), aS_id]
  | succ m ih =>
    intro j s E h σ fuel hj hf hs R K hz k4 g14 hM X
    obtain ⟨n, rfl⟩ : ∃ n, fuel = n + 1 := ⟨fuel - 1, by omega⟩
    have H' := H.rk K
    have rl : rd < kZ hb := by have := hb_z H; omega
    obtain ⟨⟨T, I3, -⟩, -, tu, -, -, -, gA7, ou⟩ := id X
    obtain ⟨t, et⟩ : ∃ t, t = E (183 + 41 * k + s) := ⟨_, rfl⟩
    have htu : tuf F t := by rw [et]; exact (tu s (Nat.le_refl _)).2
    have k0 : F 0 ≤ 12 := H.1.1.1.1
    have k1 : F 1 ≤ 12 := H.1.1.1.2.1
    have t144 : t < 144 := tuf_lt k0 k1 htu
    have op : fX2_open N h (rd + 1) (nI t) (nI d) = some (oN (ope F t d)) := ho_ope (h := h) (g := kI h) R.1.cs.1 H'.1 t144 hd
    have la : fX11_last N h wx = some (nI t) := by rw [et]; exact last_n X
    have gt10 : ∀ {α : Type} (y : Option α), gT h wx 10 10 y = y := fun y => gT_n (Nat.le_of_eq T.symm) (Nat.le_of_eq T)
    have gt2 : ∀ {α : Type} (y : Option α), gT h (rd + 1) 2 2 y = y := fun y => gT_n (Nat.le_of_eq H'.1.2.2.1.symm) (Nat.le_of_eq H'.1.2.2.1)
    have ec : lX7_way_129 N (n + 1) h rd wx (nI d) (nI x) (nI j) = ((fX6_need N h rd (if oN (ope F t d) = (-1) then 0 else 1) 5).bind fun r32 => thr r32.1 (fun b32 => some (.inr (.inl b32, r32.2))) fun w32 => gT r32.2 wx 10 10 (((fX11_on N r32.2 wx (nI d) (oN (ope F t d))).bind fun r33 => lX7_way_129 N n r33 rd wx (nI d) (nI x) (nI (j + 1))))) := by
      rw [lX7_way_129, if_neg (nI_ge (by omega) (by omega)), H'.a9, Option.bind_some, gt10, la, Option.bind_some, gt2, op, Option.bind_some, ltE, H'.gt, show nI j + 1 = nI (j + 1) from nI_add j 1]
    have r0 : rA σ 7 0 = some (nI (F 0)) := by rw [show rA σ 7 0 = some (gA σ 7 0) from rA7 (n := 0) (by decide), gA7 0 (by decide), ou 0 (by omega)]
    have r1 : rA σ 7 1 = some (nI (F 1)) := by rw [show rA σ 7 1 = some (gA σ 7 1) from rA7 (n := 1) (by decide), gA7 1 (by decide), ou 1 (by omega)]
    have em : lX5_readWay_175 N (n + 1) σ (nI k) (nI (183 + 41 * k)) (nI (s + 1)) (nI d) (nI j) = ((if oN (bes F t d) < 0 then (some true) else ((rA σ 7 (25 + oN (bes F t d))).bind fun v29 => (if v29 = 1 then (some true) else (some false)))).bind fun q27 => (if q27 = true then some (.inr (0, (fX5_bad σ 5).2)) else ((wA σ 7 (nI (183 + 41 * k + (s + 1))) (oN (bes F t d))).bind fun σ33 => lX5_readWay_175 N n σ33 (nI k) (nI (183 + 41 * k)) (nI (s + 1 + 1)) (nI d) (nI (j + 1))))) := by
      rw [lX5_readWay_175, g14, if_neg (nI_ge (by omega) (by omega)), nI_add, show nI (183 + 41 * k + (s + 1)) - 1 = nI (183 + 41 * k + (s + 1) - 1) from pl_sl (n := 1) (by show 1 ≤ _; omega), show 183 + 41 * k + (s + 1) - OfNat.ofNat 1 = 183 + 41 * k + s from by show 183 + 41 * k + (s + 1) - 1 = _; omega, rA7 (by omega), gA7 _ (by omega), ← et, Option.bind_some, r0, Option.bind_some, r1, Option.bind_some, ltE, mo_besO k0 k1 t144 hd, show nI j + 1 = nI (j + 1) from nI_add j 1, show nI (s + 1) + 1 = nI (s + 1 + 1) from nI_add (s + 1) 1]
      rfl
    have q5 : kI h rd 4 = 1 ∨ kI h rd 4 = 5 → (5 : Int32) = 1 := fun z => by rw [k4] at z; rcases z with z | z <;> exact absurd z (by decide)
    have flt : (oN (ope F t d) = -1) → (lX5_readWay_175 N (n + 1) σ (nI k) (nI (183 + 41 * k)) (nI (s + 1)) (nI d) (nI j) = some (.inr (0, (fX5_bad σ 5).2))) → (∃ fa h' σ', lX7_way_129 N (n + 1) h rd wx (nI d) (nI x) (nI j) = some (.inr (.inl fa, h')) ∧ lX5_readWay_175 N (n + 1) σ (nI k) (nI (183 + 41 * k)) (nI (s + 1)) (nI d) (nI j) = some (.inr (0, σ')) ∧ FLT h0 Zm Wm h' fa σ' ∧ HMe σ0 σ') := fun e1 e2 => by
      obtain ⟨fa, h', n1, n2⟩ := need_0 (N := N) R (k := 5) q5
      exact ⟨fa, h', _, by rw [ec, if_pos e1, n1]; rfl, e2, n2, hM.bad⟩
    rcases ope_cs (F := F) (t := t) (d := d) with ⟨e1, e2⟩ | ⟨o, e1, ⟨e2, e3⟩ | ⟨e2, e3⟩⟩
    · refine Or.inl (flt (by rw [e2]; rfl) ?_)
      rw [em, e1, show oN none = -1 from rfl, if_pos (by decide), Option.bind_some, if_pos rfl]
    · have o144 : o < 144 := tuf_lt k0 k1 (bes_tuf k0 e1)
      refine Or.inl (flt (by rw [e3]; rfl) ?_)
      rw [em, e1, show oN (some o) = nI o from rfl, if_neg (show ¬ nI o < 0 from nI_nlt (b := 0) (by omega) (by omega)), show (25 : Int32) + nI o = nI (25 + o) from pl_la 25 o, rA7 (by omega), gA7 _ (by omega), ou _ (by omega), e2, Option.bind_some, if_pos (show nI 1 = 1 from rfl), Option.bind_some, if_pos rfl]
    · have otu := bes_tuf k0 e1
      have o144 : o < 144 := tuf_lt k0 k1 otu
      have wl := H.1.1.2.2.2.1 o o144
      have hdo : dirB (E (183 + 41 * k + s)) o = nI d := by rw [← et, dirN_B, dirN_b hd e1]
      have G : kG h = kG hb := K.1.2.1
      obtain ⟨h1, c1, c2, c3, c4, c5⟩ := on_n (N := N) X (by omega) (by rw [G]; exact gw) hk hd otu hdo
      obtain ⟨σ1, es1⟩ : ∃ s', s' = aS σ 7 (upd (gA σ 7) (183 + 41 * k + (s + 1)) (nI o)) := ⟨_, rfl⟩
      rw [← es1] at c5
      obtain ⟨⟨T, I3, R0, R1, R2, ⟨T1, N1⟩, T2, N2⟩, -⟩ := id X
      have R1' : PRS h0 b rd sz lim Zm Wm sp P h1 σ1 := by
        have zz := R.1.2.2.2.1
        have := PRS.ob2 (t := 0) (w := 0) R c2 (fun y _ z => by
          rcases z with z | z | z
          · rw [z, T]; exact ⟨by omega, by omega, by decide, by decide⟩
          · rw [z, T1]; exact ⟨by omega, by omega, by decide, by decide⟩
          · rw [z, T2]; exact ⟨by omega, by omega, by decide, by decide⟩) (by rw [c3]; exact Nat.le_refl _) (by rw [c4]; exact Nat.le_refl _) zz.2.1 zz.2.2
        rw [es1]
        exact this.ms (gA_o (by decide)) rfl rfl fun k hk => rfl
      have K1 : rK rd hb h1 := K.o c2 (fun y hy z => by
        rcases z with z | z | z <;> omega) rl
      have kr := (c2.2.2 rd (by have := K.1.1; omega) (by show ¬ (rd = wx ∨ rd = wx + 1 ∨ rd = wx + 2); omega)).2.2.1
      have ec2 : lX7_way_129 N (n + 1) h rd wx (nI d) (nI x) (nI j) = lX7_way_129 N n h1 rd wx (nI d) (nI x) (nI (j + 1)) := by
        rw [ec, e3, show oN (some o) = nI o from rfl, if_neg (show ¬ nI o = -1 from (pl_em1 (by omega)).mp), need_1, Option.bind_some]
        simp only [thr]
        rw [gt10, c1, Option.bind_some]
      have em2 : lX5_readWay_175 N (n + 1) σ (nI k) (nI (183 + 41 * k)) (nI (s + 1)) (nI d) (nI j) = lX5_readWay_175 N n σ1 (nI k) (nI (183 + 41 * k)) (nI (s + 1 + 1)) (nI d) (nI (j + 1)) := by
        rw [em, e1, show oN (some o) = nI o from rfl, if_neg (show ¬ nI o < 0 from nI_nlt (b := 0) (by omega) (by omega)), show (25 : Int32) + nI o = nI (25 + o) from pl_la 25 o, rA7 (by omega), gA7 _ (by omega), ou _ (by omega), Option.bind_some, if_neg (show ¬ nI (F (25 + o)) = 1 from fun z => e2 ((nI_eq (b := 1) (by omega) (by decide)).mp z)), Option.bind_some, if_neg (by decide), wA7 (by omega), Option.bind_some, sA_aS, ← es1]
      have hM1 : HMe σ0 σ1 := by rw [es1]; exact hM.as
      rcases ih (j + 1) (s + 1) _ h1 σ1 n (by omega) (by omega) (by omega) R1' K1 (by omega) (by rw [kr]; exact k4) (by rw [es1, gI_aS]; exact g14) hM1 c5 with ⟨fa, h', σ', f1, f2, f3, f4⟩ | ⟨h', E', f, f1, f2, f3, f4, f5, f6, f7⟩
      · exact Or.inl ⟨fa, h', σ', by rw [ec2, f1], by rw [em2, f2], f3, f4⟩
      · have ef : aS σ1 7 f = aS σ 7 f := by rw [es1, aS_aS]
        rw [ef] at f2 f3 f7
        refine Or.inr ⟨h', E', f, by rw [ec2, f1], by rw [em2, f2]; rw [show s + 1 + m + 1 = s + (m + 1) + 1 by omega], f3, f4, f5, f6.trans kr, by rw [show s + (m + 1) = s + 1 + m by omega]; exact f7⟩
end PVM
