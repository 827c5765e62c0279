/-! houses: the directions of a way -/
section PVN
variable {S : Nat → Prop} {h0 h h' h2 hb : HS} {σ0 σ σ' : MS} {N b rd sz lim P Zm Wm Z W a l n q p w wx k s : Nat} {sp : Bool} {F F' E : Nat → Nat} {nm nm' : Nat → Int64}
/-- between two directions -/
def WyO (h0 hb : HS) (b rd sz lim Zm Wm : Nat) (σ0 : MS) (wx q k : Nat) (F : Nat → Nat) (P0 : Nat) (on i19 i20 i21 : Int32) (J : Nat → Nat → Int64) (P s : Nat) (E : Nat → Nat) (h : HS) (σ : MS) : Prop :=
  PRS h0 b rd sz lim Zm Wm true P h σ ∧ rK rd hb h ∧ wx + 3 ≤ kZ h ∧ HMe σ0 σ ∧ gI σ 15 = 0 ∧ WyS wx q k F E s h σ ∧ (P0 ≤ P ∧ (kI h rd 4 ≠ 0 → kI h rd 4 ≠ 5 → P0 < P)) ∧ kI h rd 10 = on ∧ (gI σ 19 = i19 ∧ gI σ 20 = i20 ∧ gI σ 21 = i21) ∧ gJ σ = J
theorem way_out (hN : 200000 ≤ N) (H : HBc b rd hb F nm) (hwx : kZ hb ≤ wx) (hk : k < 6) (gw : kG hb 0 ≤ wx) (z0 : kZ h0 ≤ rd) {P0 : Nat} {on i19 i20 i21 : Int32} {J : Nat → Nat → Int64} : ∀ m P s E h σ dv fuel, sz - P ≤ m → m < fuel → WyO h0 hb b rd sz lim Zm Wm σ0 wx q k F P0 on i19 i20 i21 J P s E h σ → fX5_dirOfWord σ = dv → (dv = -1 ∨ (kI h rd 4 = 2 ∧ ∃ d, d < 4 ∧ dv = nI d)) →
    (∃ fa h' σ', lX7_way_85 N fuel h rd wx dv = some (.inr (.inl fa, h')) ∧ lX5_readWay_92 N fuel σ (nI k) (nI (183 + 41 * k)) (nI (s + 1)) = some (.inr (0, σ')) ∧ FLT h0 Zm Wm h' fa σ' ∧ HMe σ0 σ') ∨
    ∃ h' σ' E' s' P', lX7_way_85 N fuel h rd wx dv = some (.inl h') ∧ lX5_readWay_92 N fuel σ (nI k) (nI (183 + 41 * k)) (nI (s + 1)) = (if fX5_isSign σ' 59 = 0 then some (.inr (0, (fX5_bad σ' 1).2)) else some (.inl (σ', nI (s' + 1)))) ∧ WyO h0 hb b rd sz lim Zm Wm σ0 wx q k F P0 on i19 i20 i21 J P' s' E' h' σ' := by
  intro m
  induction m using Nat.strongRecOn with
  | _ m ih =>
    intro P s E h σ dv fuel hm hf X hd hdv
    obtain ⟨n, rfl⟩ : ∃ n, fuel = n + 1 := ⟨fuel - 1, by omega⟩
    obtain ⟨R, K, hz, hM, f15, Y, ⟨p0, p1⟩, e10, ⟨j19, j20, j21⟩, eJ⟩ := id X
    have H' := H.rk K
    rcases hdv with dn | ⟨kd, d, hd4, dn⟩
    · refine Or.inr ⟨h, σ, E, s, P, ?_, ?_, X⟩
      · rw [lX7_way_85, if_pos dn]
      · rw [lX5_readWay_92]
        by_cases c : fX5_isSign σ 59 = 0
        · rw [if_pos c, if_pos c, hd, dn, if_neg (by decide)]; rfl
        · rw [if_neg c, if_neg c]
    · have s59 : fX5_isSign σ 59 = 0 := by
        rcases tk_end R.tk with ⟨z, -⟩ | ⟨-, z⟩
        · rw [kd] at z; exact absurd z (by decide)
        · exact z
      have dne : ¬ dv = -1 := by rw [dn]; exact (pl_em1 (by omega)).mp
      obtain ⟨h1, σ1, P1, g1, g2, R1, g4, g5, g6⟩ := go_both (N := N) hN R.1
      have H1 := H'.ck g6.c
      have M1 : HMe σ0 σ1 := hM.mk g6.m
      have eM : lX5_readWay_92 N (n + 1) σ (nI k) (nI (183 + 41 * k)) (nI (s + 1)) = (if (gI σ1 11) = 2 then (if (fX5_isIn (gI σ1 14) 1 11) = 0 then some (.inr (0, (fX5_bad σ1 2).2)) else (if (nI (s + 1) + (gI σ1 14)) ≤ 41 then (osm (lX5_readWay_175 N N σ1 (nI k) (nI (183 + 41 * k)) (nI (s + 1)) (nI d) 0) Sum.inr fun q34 => ((fX5_next N q34.1).bind fun r35 => lX5_readWay_92 N n r35 (nI k) (nI (183 + 41 * k)) q34.2)) else some (.inr (0, (fX5_bad σ1 4).2)))) else some (.inr (0, (fX5_bad σ1 1).2))) := by
        rw [lX5_readWay_92, if_pos s59, hd, dn, if_pos (show (0 : Int32) ≤ nI d from nI_le (a := 0) (by omega) (by omega)), g2, Option.bind_some]
        rfl
      have eC : lX7_way_85 N (n + 1) h rd wx dv = ((fX6_hold N h1 rd 1 11).bind fun r21 => thr r21.1 (fun b21 => some (.inr (.inl b21, r21.2))) fun w21 => ((oI r21.2 wx 10 10 3).bind fun v22 => (lt_ (if 40 < (v22 + w21) then 0 else 1) fun q23 => gT r21.2 rd 5 5 (((fX6_need N r21.2 rd q23 4).bind fun r25 => thr r25.1 (fun b25 => some (.inr (.inl b25, r25.2))) fun w25 => (osm (lX7_way_129 N N r25.2 rd wx dv w21 0) Sum.inr fun q34 => gT q34 rd 5 5 (((fX6_go N q34 rd).bind fun r35 => gT r35 rd 5 5 (((fX6_direction N r35 rd).bind fun r36 => lX7_way_85 N n r35 rd wx r36)))))))))) := by
        rw [lX7_way_85, if_neg dne, H'.gt, g1, Option.bind_some]
        exact H1.gt
      rw [eM, eC]
      rcases hold_c (N := N) R1 1 11 with ⟨c1, fa, h', e2, e3⟩ | ⟨c1, x, x1, x2, x3, ⟨x4, fa, h', e2, e3⟩ | ⟨x4, e2⟩⟩
      · exact Or.inl ⟨fa, h', _, by rw [e2]; rfl, by rw [if_neg c1], e3, M1.bad⟩
      · exact Or.inl ⟨fa, h', _, by rw [e2]; rfl, by rw [if_pos c1, x2, isIn_5, if_pos x4], e3, M1.bad⟩
      · have xr : 1 ≤ x ∧ x ≤ 11 := isIn_rng (x := 1) (y := 11) x1 (by decide) (by decide) x4
        have pp : P < P1 := g5 (by rw [x3]; decide) (by rw [x3]; decide)
        have rl := hb_z H
        have K1 : rK rd hb h1 := K.trans g6.c.r
        have wz := K.1.1
        have Y1 : WyS wx q k F E s h1 σ1 := Y.o g6.1 ⟨show ¬ wx = rd by omega, show ¬ wx + 1 = rd by omega, show ¬ wx + 2 = rd by omega⟩ hz (by rw [g6.2.2.2.2.1])
        have hz1 : wx + 3 ≤ kZ h1 := Nat.le_trans hz g6.1.1
        have s40 : s ≤ 40 := Y.2.1
        rw [e2, Option.bind_some, if_pos c1, x2, isIn_5, if_neg (by rw [x4]; decide)]
        simp only [thr]
        rw [oI_n (Nat.le_of_eq Y1.1.1.symm) (Nat.le_of_eq Y1.1.1), Y1.1.2.1, Option.bind_some, ltE, H1.gt, nI_add, nI_add]
        by_cases c40 : s + x ≤ 40
        · rw [if_neg (show ¬ (40 : Int32) < nI (s + x) from nI_nlt (a := 40) (by omega) (by omega)), need_1, Option.bind_some, if_pos (show nI (s + 1 + x) ≤ 41 from nI_le (b := 41) (by omega) (by omega))]
          simp only []
          rw [dn]
          rcases way_in (N := N) hN H hwx hk hd4 x1 gw z0 x 0 s E h1 σ1 N (by omega) (by omega) (by omega) R1 K1 hz1 x3 x2 M1 Y1 with ⟨fa, h', σ', f1, f2, f3, f4⟩ | ⟨h2, E2, f, f1, f2, R2, K2, hz2, kr2, Y2⟩
          · exact Or.inl ⟨fa, h', σ', by rw [show lX7_way_129 N N h1 rd wx (nI d) (nI x) 0 = _ from f1]; rfl, by rw [show lX5_readWay_175 N N σ1 (nI k) (nI (183 + 41 * k)) (nI (s + 1)) (nI d) 0 = _ from f2]; rfl, f3, f4⟩
          · obtain ⟨σ2, es2⟩ : ∃ s', s' = aS σ1 7 f := ⟨_, rfl⟩
            rw [← es2] at f2 R2 Y2
            obtain ⟨h3, σ3, P3, y1, y2, R3, y4, y5, y6⟩ := go_both (N := N) hN R2.1
            have H2 := H.rk K2
            have H3 := H2.ck y6.c
            obtain ⟨dv', d1, d2, d3⟩ := dir_both (N := N) hN R3
            have M3 : HMe σ0 σ3 := HMe.mk (by rw [es2]; exact M1.as) y6.m
            have I3 : ∀ j, (j = 15 ∨ j = 19 ∨ j = 20 ∨ j = 21) → gI σ3 j = gI σ j := fun j hj => by
              rw [y6.2.2.2.2.2.2 j (by omega) (by omega) (by omega) (by omega) (by omega), es2, gI_aS, g6.2.2.2.2.2.2 j (by omega) (by omega) (by omega) (by omega) (by omega)]
            have X3 : WyO h0 hb b rd sz lim Zm Wm σ0 wx q k F P0 on i19 i20 i21 J P3 (s + x) E2 h3 σ3 := by
              refine ⟨R3, K2.trans y6.c.r, Nat.le_trans hz2 y6.1.1, M3, by rw [I3 15 (by omega)]; exact f15, Y2.o y6.1 ⟨show ¬ wx = rd by omega, show ¬ wx + 1 = rd by omega, show ¬ wx + 2 = rd by omega⟩ hz2 (by rw [y6.2.2.2.2.1]), ⟨by omega, fun _ _ => by omega⟩, ?_, ⟨by rw [I3 19 (by omega)]; exact j19, by rw [I3 20 (by omega)]; exact j20, by rw [I3 21 (by omega)]; exact j21⟩, ?_⟩
              · rw [y6.2.2.2.1 10 (by decide), kr2, g6.2.2.2.1 10 (by decide)]; exact e10
              · rw [y6.2.2.2.2.2.1, es2]
                show gJ σ1 = J
                rw [g6.2.2.2.2.2.1]; exact eJ
            have Pz : P3 ≤ sz := R3.rb.2.2.1.1
            have eC2 : (osm (lX7_way_129 N N h1 rd wx (nI d) (nI x) 0) Sum.inr fun q34 => gT q34 rd 5 5 (((fX6_go N q34 rd).bind fun r35 => gT r35 rd 5 5 (((fX6_direction N r35 rd).bind fun r36 => lX7_way_85 N n r35 rd wx r36))))) = lX7_way_85 N n h3 rd wx dv' := by
              rw [show lX7_way_129 N N h1 rd wx (nI d) (nI x) 0 = _ from f1]
              show gT h2 rd 5 5 (((fX6_go N h2 rd).bind fun r35 => gT r35 rd 5 5 (((fX6_direction N r35 rd).bind fun r36 => lX7_way_85 N n r35 rd wx r36)))) = _
              rw [H2.gt, y1, Option.bind_some, H3.gt, d1, Option.bind_some]
            have eM2 : (osm (lX5_readWay_175 N N σ1 (nI k) (nI (183 + 41 * k)) (nI (s + 1)) (nI d) 0) Sum.inr fun q34 => ((fX5_next N q34.1).bind fun r35 => lX5_readWay_92 N n r35 (nI k) (nI (183 + 41 * k)) q34.2)) = lX5_readWay_92 N n σ3 (nI k) (nI (183 + 41 * k)) (nI (s + x + 1)) := by
              rw [show lX5_readWay_175 N N σ1 (nI k) (nI (183 + 41 * k)) (nI (s + 1)) (nI d) 0 = _ from f2]
              show ((fX5_next N σ2).bind fun r35 => lX5_readWay_92 N n r35 (nI k) (nI (183 + 41 * k)) (nI (s + x + 1))) = _
              rw [y2, Option.bind_some]
            rw [eC2, eM2]
            exact ih (m - 1) (by omega) P3 (s + x) E2 h3 σ3 dv' n (by omega) (by omega) X3 d2 d3
        · obtain ⟨fa, h', n1, n2⟩ := need_0 (N := N) R1 (k := 4) (fun z => by rw [x3] at z; rcases z with z | z <;> exact absurd z (by decide))
          refine Or.inl ⟨fa, h', _, ?_, ?_, n2, M1.bad⟩
          · rw [if_pos (show (40 : Int32) < nI (s + x) from nI_lt (a := 40) (by omega) (by omega)), n1]; rfl
          · rw [if_neg (show ¬ nI (s + 1 + x) ≤ 41 from nI_ge (a := 41) (by omega) (by omega))]
end PVN
