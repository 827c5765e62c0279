/-! the Model's constructor -/
def mrk (k : Nat) : Nat := match k with
  | 1 => 0 | 6 => 1 | 7 => 2 | 8 => 3 | 9 => 4 | 10 => 5 | 22 => 6 | 24 => 7 | 25 => 8 | 26 => 9 | 27 => 10 | 30 => 11 | 31 => 12 | 36 => 13 | 37 => 14 | 38 => 15 | 39 => 16 | 40 => 17 | 41 => 18 | 45 => 19 | 51 => 20 | 52 => 21 | 53 => 22 | 54 => 23 | _ => 99
def adm (z k : Nat) : Nat := z + mrk k
def m00 : MS := (fun _ => 0, fun _ _ => 0, 0, fun _ _ => 0)
def m01 : MS := sI m00 28 (-1)
def mV (z n : Nat) (σ : MS) (k : Nat) : Value := if 3 ≤ mkd k then (if mrk k < n then .ref (adm z k) else .null) else mfv (adm z) σ k
theorem mrk_inj : ∀ j, j < 55 → ∀ k, k < 55 → 3 ≤ mkd j → 3 ≤ mkd k → mrk j = mrk k → j = k := by decide +kernel
theorem mrk_lt : ∀ k, k < 55 → 3 ≤ mkd k → mrk k < 24 := by decide +kernel
def NI (D : va_G) (b z n : Nat) (σ : MS) (H0 H : Heap) (locs : List Loc) : Prop :=
  t_OB b (D.1 0) 55 (D.2 0) H (mV z n σ) ∧ (∀ k, k < 55 → 3 ≤ mkd k → mrk k < n → H[adm z k]? = some (arrV (D.1 (8 + mkd k)) (mln k) (mct σ k))) ∧ H.size = z + n ∧ b < z ∧ (∀ q : Nat, q < z → q ≠ b → H[q]? = H0[q]?) ∧ ∀ x ∈ locs, x.base = b
section NIS
variable {p : Program} {l : Launch} {e : Env} {R : Room} {s : State} {m : MethodId} {args : Array Value} {below : List Frame} {meth : Method} {c : Code} {H : Heap} {locs : List Loc} {cells slots : Nat} {Q : State → Prop}
variable {cc : ByteArray} {pc nL : Nat} {ls : Array Slot} {rest : List Value} {D : va_G} {b z n : Nat} {σ : MS} {H0 : Heap}
theorem ni_new (S : CallFix p m c cc nL s args lw_all RX5) (hK : va_K D mCl (mTy D) s) (hN : NI D b z n σ H0 H locs) {index : Nat} (k : Nat) (hk : k < 55) (hk3 : 3 ≤ mkd k) (hr : mrk k = n) (hzero : ∀ j i, gA σ j i = 0 ∧ gJ σ j i = 0) {atype : ArrayType} (harr : Cond.arrayClass (newarray.typeOf atype) ∈ lw_all) (hfc : s.vm.findClass ("[" ++ (newarray.typeOf atype).toString) = some (D.1 (8 + mkd k)))
    {len : Int32} (hn : ¬ len < 0) (hlen : len.toNatClampNeg = mln k) (hdv : defaultValue (newarray.typeOf atype) = if mkd k = 6 then .long 0 else .int 0) (hbytes : mln k * componentBytes (newarray.typeOf atype) ≤ 536870912) (hc1 : cells + 1 ≤ R.cells) (hs1 : slots + mln k ≤ R.slots)
    (hlink : Cond.fieldLink RX5 index (TX5 k).1 (TX5 k).2.1 (TX5 k).2.2.1 ∈ lw_all) (hfin : (TX5 k).2.2.2 = true) (hdecl : (TX5 k).1 = RX5) (hnar : ∀ a, narrow (tyX5 k) (.ref a) = .ref a) (hfit : ∀ a, fits (tyX5 k) (.ref a) = true) (hin : meth.name = "<init>") (hd1 : decode cc pc = .ok (.newarray atype, 2)) (hd2 : decode cc (pc + 2) = .ok (.putfield index, 3))
    (kk : ∀ (H1 : Heap) (locs1 : List Loc), NI D b z (n + 1) σ H0 H1 locs1 → W p l e R s m args below meth c H1 locs1 (cells + 1) (slots + mln k) Q (F0 m (pc + 5) ls rest)) : W p l e R s m args below meth c H locs cells slots Q (F0 m pc ls (.int len :: .ref b :: rest)) := by
  obtain ⟨hO, hA, hs, hbz, ho, hl⟩ := hN
  refine va_newaK (atype := atype) (N := mln k) S.1 S.2.1 (S.2.2.2.2 _ harr) rfl hd1 rfl hn hlen hbytes hc1 hs1 hs fun H1 cA e1 e2 e3 e4 e5 => ?_
  have ecA : cA = D.1 (8 + mkd k) := Option.some.inj (e5.symm.trans hfc)
  subst ecA
  have hap := va_apart (own := RX5) S.2.2.2.2 in_X5 tyX5 tyX5_ok nmX5 hK (ci := 0) rfl
  obtain ⟨cell, q1, q2, q3, q4⟩ := hO
  obtain ⟨hS, hfcl, kC, hkC, hkind⟩ := hK.1 0 _ rfl
  obtain ⟨cf, kf, fi, f, hi, hsl⟩ := hS k hk
  have hlay := S.2.2.2.2 _ (in_X5 _ (u_in_lay hk))
  unfold u_lay at hlay
  rw [if_pos hfin] at hlay
  have hst := (u_facts hfcl hkC (u_lays S.2.2.2.2 in_X5 hk) hi).1
  have hcf : m.cls = cf := by
    obtain ⟨_, _, c', _, _, _, -, -, hf', -, -, -, hown2, -⟩ := Cond.laysFinal_spec hlay
    have e1 : c' = cf := by have := hi.symm.trans hf'; simp at this; exact this.1.symm
    rw [hdecl] at hown2
    rw [← e1]; exact Option.some.inj (S.2.2.2.1.symm.trans hown2)
  have h6 := u_fits hfcl hkC hkind (Or.inr hlay) hi (tyX5_ok k hk) (hnar (z + n)) (hfit (z + n))
  have hb1 : H1[b]? = some cell := by rw [e3 b (by omega)]; exact q1
  refine W.putFinK S.1 S.2.1 S.2.2.2.1 (S.2.2.2.2 _ hlink) hi hst hcf hin (by rw [q2]; exact h6) hb1 q3 (by rw [hsl]; exact k2_hasslot (q4 k hk)) rfl rfl hd2 fun H' f1 f2 f3 => ?_
  rw [hsl] at f1 ⊢
  refine kk H' _ ⟨?_, fun j hj hj3 hjn => ?_, by omega, hbz, fun q hq hqb => ?_, fun x hx => ?_⟩
  · refine t_OB.to (V := updV (mV z n σ) k (.ref (z + n))) ⟨_, f1, q2, q3, t_set q4 hap hk _⟩ (fun j hj => ?_)
    by_cases hjk : j = k
    · subst hjk
      simp [updV, mV, hk3, hr, adm]
    · unfold updV mV
      rw [if_neg hjk]
      by_cases h3 : 3 ≤ mkd j
      · have : mrk j ≠ n := fun h => hjk (mrk_inj j hj k hk h3 hk3 (h.trans hr.symm))
        rw [if_pos h3, if_pos h3]
        by_cases h4 : mrk j < n
        · rw [if_pos h4, if_pos (by omega)]
        · rw [if_neg h4, if_neg (by omega)]
      · rw [if_neg h3, if_neg h3]
  · rw [f3 (adm z j) (Nat.ne_of_gt (by unfold adm; omega))]
    by_cases hjk : j = k
    · subst hjk
      have : adm z j = z + n := by unfold adm; omega
      rw [this, e1]
      congr 2
      funext i
      unfold mct
      rw [hdv, (hzero j i).1, (hzero j i).2]
    · have : mrk j ≠ n := fun h => hjk (mrk_inj j hj k hk hj3 hk3 (h.trans hr.symm))
      rw [e3 (adm z j) (by unfold adm; omega)]
      exact hA j hj hj3 (by omega)
  · rw [f3 q hqb, e3 q (by omega)]
    exact ho q hq hqb
  · rcases List.mem_append.mp hx with h | h
    · exact hl x h
    · rw [List.mem_singleton.mp h]
theorem ni_28 (S : CallFix p m c cc nL s args lw_all RX5) (hK : va_K D mCl (mTy D) s) (hN : NI D b z n m00 H0 H locs) {index : Nat} (hlink : Cond.fieldLink RX5 index (TX5 28).1 (TX5 28).2.1 (TX5 28).2.2.1 ∈ lw_all) (hfin : (TX5 28).2.2.2 = false) (hnar : narrow (tyX5 28) (.int (-1)) = .int (-1)) (hfit : fits (tyX5 28) (.int (-1)) = true) (hdg : decode cc pc = .ok (.putfield index, 3))
    (kk : ∀ (H1 : Heap) (locs1 : List Loc), NI D b z n m01 H0 H1 locs1 → W p l e R s m args below meth c H1 locs1 cells slots Q (F0 m (pc + 3) ls rest)) : W p l e R s m args below meth c H locs cells slots Q (F0 m pc ls (.int (-1) :: .ref b :: rest)) := by
  obtain ⟨hO, hA, hs, hbz, ho, hl⟩ := hN
  obtain ⟨hx, hb, -, hown, hts⟩ := S
  have hk : 28 < 55 := by decide
  have hap := va_apart (own := RX5) hts in_X5 tyX5 tyX5_ok nmX5 hK (ci := 0) rfl
  obtain ⟨cell, q1, q2, q3, q4⟩ := hO
  obtain ⟨hS, hfc, kC, hkC, hkind⟩ := hK.1 0 _ rfl
  obtain ⟨cf, kf, fi, f, hi, hsl⟩ := hS 28 hk
  have hlay := hts _ (in_X5 _ (u_in_lay hk))
  unfold u_lay at hlay
  rw [if_neg (by rw [hfin]; decide)] at hlay
  have hst := (u_facts hfc hkC (u_lays hts in_X5 hk) hi).1
  have h6 := u_store hfc hkC hkind hlay hi (tyX5_ok 28 hk) hnar hfit
  refine W.putK hx hb (f := f) ⟨hown, hts _ hlink, ⟨_, _, _, hi⟩, hst⟩ (by rw [q2]; exact h6) q1 q3 (by rw [hsl]; exact k2_hasslot (q4 28 hk)) rfl rfl hdg fun H' e1 e2 e3 => ?_
  rw [hsl] at e1 ⊢
  refine kk H' _ ⟨?_, fun j hj hj3 hjn => ?_, by omega, hbz, fun q hq hqb => ?_, fun x hx => ?_⟩
  · refine t_OB.to (V := updV (mV z n m00) 28 (.int (-1))) ⟨_, e1, q2, q3, t_set q4 hap hk _⟩ (fun j hj => ?_)
    by_cases hjk : j = 28
    · subst hjk
      rfl
    · unfold updV mV
      rw [if_neg hjk]
      by_cases h3 : 3 ≤ mkd j
      · rw [if_pos h3, if_pos h3]
      · rw [if_neg h3, if_neg h3]
        unfold m01 mfv
        rw [gI_sI, if_neg hjk, gL_sI]
  · rw [e3 (adm z j) (Nat.ne_of_gt (by unfold adm; omega)), hA j hj hj3 hjn]
    rfl
  · rw [e3 q hqb]
    exact ho q hq hqb
  · rcases List.mem_append.mp hx with h | h
    · exact hl x h
    · rw [List.mem_singleton.mp h]
theorem ni_end (hN : NI D b z 24 σ H0 H locs) : MI D b (adm z) σ H H locs := by
  obtain ⟨hO, hA, hs, hbz, ho, hl⟩ := hN
  refine ⟨⟨t_OB.to hO fun j hj => ?_, fun k hk hk3 => hA k hk hk3 (mrk_lt k hk hk3)⟩, ⟨fun k hk hk3 => by unfold adm; omega, fun k j hk hj h3 h4 he => mrk_inj k hk j hj h3 h4 (by unfold adm at he; omega)⟩, rfl, fun _ _ => rfl, fun x hx => Or.inl (hl x hx)⟩
  unfold mV
  by_cases h3 : 3 ≤ mkd j
  · rw [if_pos h3, if_pos (mrk_lt j hj h3)]
    unfold mfv
    split
    · omega
    · omega
    · omega
    · rfl
  · rw [if_neg h3]
end NIS

def fX5_init (F : Nat) (σ : MS) : Option MS := ((wJ σ 10 0 7501159).bind fun σ1 => ((wJ σ1 10 1 123581014175598).bind fun σ2 => ((wJ σ2 10 2 2002873452).bind fun σ3 => ((wJ σ3 10 3 1685024626).bind fun σ4 => ((wJ σ4 10 4 7823737).bind fun σ5 => ((wJ σ5 10 5 1717658725).bind fun σ6 => ((wJ σ6 10 6 110).bind fun σ7 => ((wJ σ7 10 7 101).bind fun σ8 => ((wJ σ8 10 8 115).bind fun σ9 => ((wJ σ9 10 9 119).bind fun σ10 => ((wJ σ10 10 10 28530).bind fun σ11 => ((wJ σ11 10 11 6385252).bind fun σ12 => ((wJ σ12 10 12 7237492).bind fun σ13 => ((wJ σ13 10 13 1953656676).bind fun σ14 => ((wJ σ14 10 14 131277443786868).bind fun σ15 => ((wJ σ15 10 15 1936682085).bind fun σ16 => ((wJ σ16 10 16 1885430629).bind fun σ17 => ((wJ σ17 10 17 123636697429107).bind fun σ18 => ((wJ σ18 10 18 500185855091).bind fun σ19 => ((wJ σ19 10 19 482854658917).bind fun σ20 => ((wA σ20 6 6 9).bind fun σ21 => some σ21)))))))))))))))))))))
abbrev rmX5_init : Room := { frames := 1, cells := 24, slots := 92187, locals := 40 }
def nPc (D : va_G) (b z : Nat) : Array Value → State → Prop := fun a U => a = #[.ref b] ∧ U.heap.size = z ∧ b < z ∧ t_OB b (D.1 0) 55 (D.2 0) U.heap (mV z 0 m00) ∧ va_K D mCl (mTy D) U
def nQ (D : va_G) (b z : Nat) (σ : MS) : Array Value → State → Outcome → State → Prop := fun _ st o t => o = .returned none ∧ MP D b (adm z) σ t.heap ∧ t.heap.size = z + 24 ∧ ∀ q : Nat, q < z → q ≠ b → t.heap[q]? = st.heap[q]?
theorem nPc_blind {D : va_G} {b z : Nat} : FrameBlind (nPc D b z) := fun a U g mk q => by
  obtain ⟨q0, q1, q2, q3, q4⟩ := q
  exact ⟨q0, q1, q2, q3, va_K.moved (u := U) (U := U.calling g mk a) (Vm.Alike.refl U.vm) q4⟩
set_option maxHeartbeats 4000000 in
set_option maxRecDepth 100000 in
theorem metX5_init (l : Launch) (F : Nat) (D : va_G) (b z : Nat) (r : MS) (hF : fX5_init F m01 = some r) : Met l yX5_init (ws_ yX5_init cX5_init 1 none) rmX5_init (nPc D b z) (nQ D b z r) 24 92187 (fun q => q = b ∨ z ≤ q) := by
  refine Met.ofW (cc := cX5_init) (maxL := 1) (ret := none) (by decide) rfl ?_
  intro p e s m args below meth c s₁ B hml hv
  obtain ⟨rfl, hz, hbz, hO, hK⟩ := hv
  have hts := atoms_spec (ws := ws_ yX5_init cX5_init 1 none) B.pre
  have hts : ∀ w ∈ lw_all, w.before _ s = true := fun w h => hts w (List.mem_cons_of_mem _ h)
  have S : CallFix p m c cX5_init 1 s _ lw_all RX5 := ⟨B.exec, B.bytes, hml, findClass_of_methodNamed B.named, hts⟩
  have hr := B.returns
  have hlocks := B.notSynchronized
  have hin : meth.name = "<init>" := (name_of_methodNamed B.named B.method).1
  obtain ⟨hx, hb, -, hown, -⟩ := id S
  have hN : NI D b z 0 m00 s.heap s.heap [] := ⟨hO, fun k _ _ h => (by omega), hz, hbz, fun _ _ _ => rfl, fun _ h => by cases h⟩
  have hzr : ∀ j i, gA m00 j i = 0 ∧ gJ m00 j i = 0 := fun _ _ => ⟨rfl, rfl⟩
  have hzr1 : ∀ j i, gA m01 j i = 0 ∧ gJ m01 j i = 0 := fun _ _ => ⟨rfl, rfl⟩
  have hl := lv_entry ([.ref b]) (n := 1) (Nat.le_of_ble_eq_true rfl)
  rw [lg_entry_eq]
  generalize (lg_sl ([.ref b]) ++ List.replicate (1 - (lg_sl ([.ref b])).length) Slot.unset).toArray = ls at hl ⊢
  have hl : lv_has ls 1 [(0, .ref b)] := hl
  show W p l e rmX5_init s m _ below meth c s.heap [] 0 0 _ _
  refine lv_aload_n hx hb dX5_init_0 rfl (lv_at hl 0 rfl) ?_
  refine W.objInit S.1 S.2.1 S.2.2.2.1 (S.2.2.2.2 _ q1746) (S.2.2.2.2 _ q148) (S.2.2.2.2 _ q149) rfl (hl.1.trans S.2.2.1.symm) rfl dX5_init_1 (Nat.le_of_ble_eq_true rfl) (Nat.le_of_ble_eq_true rfl) ?_
  refine lv_aload_n hx hb dX5_init_4 rfl (lv_at hl 0 rfl) ?_
  refine lv_sipush (v := 940) hx hb dX5_init_5 rfl ?_
  refine ni_new S hK hN 1 (by decide) (by decide) rfl hzr (atype := .byte) q182 (hK.2 1 _ rfl).2 (by decide) (by decide) rfl (Nat.le_of_ble_eq_true rfl) (Nat.le_of_ble_eq_true rfl) (Nat.le_of_ble_eq_true rfl) q1769 rfl rfl (fun _ => rfl) (fun _ => rfl) hin dX5_init_8 dX5_init_10 (fun H locs hN => ?_)
  refine lv_aload_n hx hb dX5_init_13 rfl (lv_at hl 0 rfl) ?_
  refine lv_sipush (v := 10265) hx hb dX5_init_14 rfl ?_
  refine ni_new S hK hN 6 (by decide) (by decide) rfl hzr (atype := .int) q288 (hK.2 0 _ rfl).2 (by decide) (by decide) rfl (Nat.le_of_ble_eq_true rfl) (Nat.le_of_ble_eq_true rfl) (Nat.le_of_ble_eq_true rfl) q1774 rfl rfl (fun _ => rfl) (fun _ => rfl) hin dX5_init_17 dX5_init_19 (fun H locs hN => ?_)
  refine lv_aload_n hx hb dX5_init_22 rfl (lv_at hl 0 rfl) ?_
  refine lv_sipush (v := 429) hx hb dX5_init_23 rfl ?_
  refine ni_new S hK hN 7 (by decide) (by decide) rfl hzr (atype := .int) q288 (hK.2 0 _ rfl).2 (by decide) (by decide) rfl (Nat.le_of_ble_eq_true rfl) (Nat.le_of_ble_eq_true rfl) (Nat.le_of_ble_eq_true rfl) q1775 rfl rfl (fun _ => rfl) (fun _ => rfl) hin dX5_init_26 dX5_init_28 (fun H locs hN => ?_)
  refine lv_aload_n hx hb dX5_init_31 rfl (lv_at hl 0 rfl) ?_
  refine lv_sipush (v := 135) hx hb dX5_init_32 rfl ?_
  refine ni_new S hK hN 8 (by decide) (by decide) rfl hzr (atype := .int) q288 (hK.2 0 _ rfl).2 (by decide) (by decide) rfl (Nat.le_of_ble_eq_true rfl) (Nat.le_of_ble_eq_true rfl) (Nat.le_of_ble_eq_true rfl) q1776 rfl rfl (fun _ => rfl) (fun _ => rfl) hin dX5_init_35 dX5_init_37 (fun H locs hN => ?_)
  refine lv_aload_n hx hb dX5_init_40 rfl (lv_at hl 0 rfl) ?_
  refine lv_bipush (v := 24) hx hb dX5_init_41 rfl ?_
  refine ni_new S hK hN 9 (by decide) (by decide) rfl hzr (atype := .long) q1934 (hK.2 3 _ rfl).2 (by decide) (by decide) rfl (Nat.le_of_ble_eq_true rfl) (Nat.le_of_ble_eq_true rfl) (Nat.le_of_ble_eq_true rfl) q1777 rfl rfl (fun _ => rfl) (fun _ => rfl) hin dX5_init_43 dX5_init_45 (fun H locs hN => ?_)
  refine lv_aload_n hx hb dX5_init_48 rfl (lv_at hl 0 rfl) ?_
  refine lv_bipush (v := 20) hx hb dX5_init_49 rfl ?_
  refine ni_new S hK hN 10 (by decide) (by decide) rfl hzr (atype := .long) q1934 (hK.2 3 _ rfl).2 (by decide) (by decide) rfl (Nat.le_of_ble_eq_true rfl) (Nat.le_of_ble_eq_true rfl) (Nat.le_of_ble_eq_true rfl) q1778 rfl rfl (fun _ => rfl) (fun _ => rfl) hin dX5_init_51 dX5_init_53 (fun H locs hN => ?_)
  refine lv_aload_n hx hb dX5_init_56 rfl (lv_at hl 0 rfl) ?_
  refine lv_ldc (v := 57930) hx hb hown (hts _ q1747) dX5_init_57 ?_
  refine ni_new S hK hN 22 (by decide) (by decide) rfl hzr (atype := .int) q288 (hK.2 0 _ rfl).2 (by decide) (by decide) rfl (Nat.le_of_ble_eq_true rfl) (Nat.le_of_ble_eq_true rfl) (Nat.le_of_ble_eq_true rfl) q1790 rfl rfl (fun _ => rfl) (fun _ => rfl) hin dX5_init_59 dX5_init_61 (fun H locs hN => ?_)
  refine lv_aload_n hx hb dX5_init_64 rfl (lv_at hl 0 rfl) ?_
  refine lv_bipush (v := 48) hx hb dX5_init_65 rfl ?_
  refine ni_new S hK hN 24 (by decide) (by decide) rfl hzr (atype := .int) q288 (hK.2 0 _ rfl).2 (by decide) (by decide) rfl (Nat.le_of_ble_eq_true rfl) (Nat.le_of_ble_eq_true rfl) (Nat.le_of_ble_eq_true rfl) q1792 rfl rfl (fun _ => rfl) (fun _ => rfl) hin dX5_init_67 dX5_init_69 (fun H locs hN => ?_)
  refine lv_aload_n hx hb dX5_init_72 rfl (lv_at hl 0 rfl) ?_
  refine lv_bipush (v := 6) hx hb dX5_init_73 rfl ?_
  refine ni_new S hK hN 25 (by decide) (by decide) rfl hzr (atype := .int) q288 (hK.2 0 _ rfl).2 (by decide) (by decide) rfl (Nat.le_of_ble_eq_true rfl) (Nat.le_of_ble_eq_true rfl) (Nat.le_of_ble_eq_true rfl) q1793 rfl rfl (fun _ => rfl) (fun _ => rfl) hin dX5_init_75 dX5_init_77 (fun H locs hN => ?_)
  refine lv_aload_n hx hb dX5_init_80 rfl (lv_at hl 0 rfl) ?_
  refine lv_bipush (v := 6) hx hb dX5_init_81 rfl ?_
  refine ni_new S hK hN 26 (by decide) (by decide) rfl hzr (atype := .int) q288 (hK.2 0 _ rfl).2 (by decide) (by decide) rfl (Nat.le_of_ble_eq_true rfl) (Nat.le_of_ble_eq_true rfl) (Nat.le_of_ble_eq_true rfl) q1794 rfl rfl (fun _ => rfl) (fun _ => rfl) hin dX5_init_83 dX5_init_85 (fun H locs hN => ?_)
  refine lv_aload_n hx hb dX5_init_88 rfl (lv_at hl 0 rfl) ?_
  refine lv_bipush (v := 6) hx hb dX5_init_89 rfl ?_
  refine ni_new S hK hN 27 (by decide) (by decide) rfl hzr (atype := .int) q288 (hK.2 0 _ rfl).2 (by decide) (by decide) rfl (Nat.le_of_ble_eq_true rfl) (Nat.le_of_ble_eq_true rfl) (Nat.le_of_ble_eq_true rfl) q1795 rfl rfl (fun _ => rfl) (fun _ => rfl) hin dX5_init_91 dX5_init_93 (fun H locs hN => ?_)
  refine lv_aload_n hx hb dX5_init_96 rfl (lv_at hl 0 rfl) ?_
  refine lv_iconst (v := (-1)) hx hb dX5_init_97 rfl ?_
  refine ni_28 S hK hN q1796 rfl rfl rfl dX5_init_98 (fun H locs hN => ?_)
  refine lv_aload_n hx hb dX5_init_101 rfl (lv_at hl 0 rfl) ?_
  refine lv_sipush (v := 144) hx hb dX5_init_102 rfl ?_
  refine ni_new S hK hN 30 (by decide) (by decide) rfl hzr1 (atype := .int) q288 (hK.2 0 _ rfl).2 (by decide) (by decide) rfl (Nat.le_of_ble_eq_true rfl) (Nat.le_of_ble_eq_true rfl) (Nat.le_of_ble_eq_true rfl) q1798 rfl rfl (fun _ => rfl) (fun _ => rfl) hin dX5_init_105 dX5_init_107 (fun H locs hN => ?_)
  refine lv_aload_n hx hb dX5_init_110 rfl (lv_at hl 0 rfl) ?_
  refine lv_iconst (v := 4) hx hb dX5_init_111 rfl ?_
  refine ni_new S hK hN 31 (by decide) (by decide) rfl hzr1 (atype := .int) q288 (hK.2 0 _ rfl).2 (by decide) (by decide) rfl (Nat.le_of_ble_eq_true rfl) (Nat.le_of_ble_eq_true rfl) (Nat.le_of_ble_eq_true rfl) q1799 rfl rfl (fun _ => rfl) (fun _ => rfl) hin dX5_init_112 dX5_init_114 (fun H locs hN => ?_)
  refine lv_aload_n hx hb dX5_init_117 rfl (lv_at hl 0 rfl) ?_
  refine lv_sipush (v := 576) hx hb dX5_init_118 rfl ?_
  refine ni_new S hK hN 36 (by decide) (by decide) rfl hzr1 (atype := .int) q288 (hK.2 0 _ rfl).2 (by decide) (by decide) rfl (Nat.le_of_ble_eq_true rfl) (Nat.le_of_ble_eq_true rfl) (Nat.le_of_ble_eq_true rfl) q1804 rfl rfl (fun _ => rfl) (fun _ => rfl) hin dX5_init_121 dX5_init_123 (fun H locs hN => ?_)
  refine lv_aload_n hx hb dX5_init_126 rfl (lv_at hl 0 rfl) ?_
  refine lv_sipush (v := 144) hx hb dX5_init_127 rfl ?_
  refine ni_new S hK hN 37 (by decide) (by decide) rfl hzr1 (atype := .int) q288 (hK.2 0 _ rfl).2 (by decide) (by decide) rfl (Nat.le_of_ble_eq_true rfl) (Nat.le_of_ble_eq_true rfl) (Nat.le_of_ble_eq_true rfl) q1805 rfl rfl (fun _ => rfl) (fun _ => rfl) hin dX5_init_130 dX5_init_132 (fun H locs hN => ?_)
  refine lv_aload_n hx hb dX5_init_135 rfl (lv_at hl 0 rfl) ?_
  refine lv_sipush (v := 288) hx hb dX5_init_136 rfl ?_
  refine ni_new S hK hN 38 (by decide) (by decide) rfl hzr1 (atype := .int) q288 (hK.2 0 _ rfl).2 (by decide) (by decide) rfl (Nat.le_of_ble_eq_true rfl) (Nat.le_of_ble_eq_true rfl) (Nat.le_of_ble_eq_true rfl) q1806 rfl rfl (fun _ => rfl) (fun _ => rfl) hin dX5_init_139 dX5_init_141 (fun H locs hN => ?_)
  refine lv_aload_n hx hb dX5_init_144 rfl (lv_at hl 0 rfl) ?_
  refine lv_sipush (v := 288) hx hb dX5_init_145 rfl ?_
  refine ni_new S hK hN 39 (by decide) (by decide) rfl hzr1 (atype := .int) q288 (hK.2 0 _ rfl).2 (by decide) (by decide) rfl (Nat.le_of_ble_eq_true rfl) (Nat.le_of_ble_eq_true rfl) (Nat.le_of_ble_eq_true rfl) q1807 rfl rfl (fun _ => rfl) (fun _ => rfl) hin dX5_init_148 dX5_init_150 (fun H locs hN => ?_)
  refine lv_aload_n hx hb dX5_init_153 rfl (lv_at hl 0 rfl) ?_
  refine lv_sipush (v := 144) hx hb dX5_init_154 rfl ?_
  refine ni_new S hK hN 40 (by decide) (by decide) rfl hzr1 (atype := .int) q288 (hK.2 0 _ rfl).2 (by decide) (by decide) rfl (Nat.le_of_ble_eq_true rfl) (Nat.le_of_ble_eq_true rfl) (Nat.le_of_ble_eq_true rfl) q1808 rfl rfl (fun _ => rfl) (fun _ => rfl) hin dX5_init_157 dX5_init_159 (fun H locs hN => ?_)
  refine lv_aload_n hx hb dX5_init_162 rfl (lv_at hl 0 rfl) ?_
  refine lv_sipush (v := 144) hx hb dX5_init_163 rfl ?_
  refine ni_new S hK hN 41 (by decide) (by decide) rfl hzr1 (atype := .boolean) q242 (hK.2 2 _ rfl).2 (by decide) (by decide) rfl (Nat.le_of_ble_eq_true rfl) (Nat.le_of_ble_eq_true rfl) (Nat.le_of_ble_eq_true rfl) q1809 rfl rfl (fun _ => rfl) (fun _ => rfl) hin dX5_init_166 dX5_init_168 (fun H locs hN => ?_)
  refine lv_aload_n hx hb dX5_init_171 rfl (lv_at hl 0 rfl) ?_
  refine lv_bipush (v := 45) hx hb dX5_init_172 rfl ?_
  refine ni_new S hK hN 45 (by decide) (by decide) rfl hzr1 (atype := .int) q288 (hK.2 0 _ rfl).2 (by decide) (by decide) rfl (Nat.le_of_ble_eq_true rfl) (Nat.le_of_ble_eq_true rfl) (Nat.le_of_ble_eq_true rfl) q1813 rfl rfl (fun _ => rfl) (fun _ => rfl) hin dX5_init_174 dX5_init_176 (fun H locs hN => ?_)
  refine lv_aload_n hx hb dX5_init_179 rfl (lv_at hl 0 rfl) ?_
  refine lv_bipush (v := 45) hx hb dX5_init_180 rfl ?_
  refine ni_new S hK hN 51 (by decide) (by decide) rfl hzr1 (atype := .boolean) q242 (hK.2 2 _ rfl).2 (by decide) (by decide) rfl (Nat.le_of_ble_eq_true rfl) (Nat.le_of_ble_eq_true rfl) (Nat.le_of_ble_eq_true rfl) q1819 rfl rfl (fun _ => rfl) (fun _ => rfl) hin dX5_init_182 dX5_init_184 (fun H locs hN => ?_)
  refine lv_aload_n hx hb dX5_init_187 rfl (lv_at hl 0 rfl) ?_
  refine lv_sipush (v := 20530) hx hb dX5_init_188 rfl ?_
  refine ni_new S hK hN 52 (by decide) (by decide) rfl hzr1 (atype := .int) q288 (hK.2 0 _ rfl).2 (by decide) (by decide) rfl (Nat.le_of_ble_eq_true rfl) (Nat.le_of_ble_eq_true rfl) (Nat.le_of_ble_eq_true rfl) q1820 rfl rfl (fun _ => rfl) (fun _ => rfl) hin dX5_init_191 dX5_init_193 (fun H locs hN => ?_)
  refine lv_aload_n hx hb dX5_init_196 rfl (lv_at hl 0 rfl) ?_
  refine lv_bipush (v := 24) hx hb dX5_init_197 rfl ?_
  refine ni_new S hK hN 53 (by decide) (by decide) rfl hzr1 (atype := .long) q1934 (hK.2 3 _ rfl).2 (by decide) (by decide) rfl (Nat.le_of_ble_eq_true rfl) (Nat.le_of_ble_eq_true rfl) (Nat.le_of_ble_eq_true rfl) q1821 rfl rfl (fun _ => rfl) (fun _ => rfl) hin dX5_init_199 dX5_init_201 (fun H locs hN => ?_)
  refine lv_aload_n hx hb dX5_init_204 rfl (lv_at hl 0 rfl) ?_
  refine lv_iconst (v := 2) hx hb dX5_init_205 rfl ?_
  refine ni_new S hK hN 54 (by decide) (by decide) rfl hzr1 (atype := .boolean) q242 (hK.2 2 _ rfl).2 (by decide) (by decide) rfl (Nat.le_of_ble_eq_true rfl) (Nat.le_of_ble_eq_true rfl) (Nat.le_of_ble_eq_true rfl) q1822 rfl rfl (fun _ => rfl) (fun _ => rfl) hin dX5_init_206 dX5_init_208 (fun H locs hN => ?_)
  obtain ⟨H1, hH1⟩ : ∃ x, x = H := ⟨H, rfl⟩
  have hM : MI D b (adm z) m01 H1 H locs := (by rw [hH1]; exact ni_end hN)
  obtain ⟨-, -, n3, -, n5, n6⟩ := hN
  rw [← hH1] at n3 n5
  clear hH1
  unfold fX5_init at hF
  refine lv_aload_n hx hb dX5_init_211 rfl (lv_at hl 0 rfl) ?_
  refine mr_get (v := .ref (adm z 10)) S hK hM 10 (by decide) q1778 dX5_init_212 rfl ?_
  refine lv_iconst (v := 0) hx hb dX5_init_215 rfl ?_
  refine lv_ldc2 hx hb hown (hts _ q1748) dX5_init_216 ?_
  obtain ⟨σ1, eσ1, hF⟩ := obn hF
  refine mr_last S hK hM 10 (by decide) rfl eσ1 dX5_init_219 (fun H locs hM => ?_)
  refine lv_aload_n hx hb dX5_init_220 rfl (lv_at hl 0 rfl) ?_
  refine mr_get (v := .ref (adm z 10)) S hK hM 10 (by decide) q1778 dX5_init_221 rfl ?_
  refine lv_iconst (v := 1) hx hb dX5_init_224 rfl ?_
  refine lv_ldc2 hx hb hown (hts _ q1749) dX5_init_225 ?_
  obtain ⟨σ2, eσ2, hF⟩ := obn hF
  refine mr_last S hK hM 10 (by decide) rfl eσ2 dX5_init_228 (fun H locs hM => ?_)
  refine lv_aload_n hx hb dX5_init_229 rfl (lv_at hl 0 rfl) ?_
  refine mr_get (v := .ref (adm z 10)) S hK hM 10 (by decide) q1778 dX5_init_230 rfl ?_
  refine lv_iconst (v := 2) hx hb dX5_init_233 rfl ?_
  refine lv_ldc2 hx hb hown (hts _ q1750) dX5_init_234 ?_
  obtain ⟨σ3, eσ3, hF⟩ := obn hF
  refine mr_last S hK hM 10 (by decide) rfl eσ3 dX5_init_237 (fun H locs hM => ?_)
  refine lv_aload_n hx hb dX5_init_238 rfl (lv_at hl 0 rfl) ?_
  refine mr_get (v := .ref (adm z 10)) S hK hM 10 (by decide) q1778 dX5_init_239 rfl ?_
  refine lv_iconst (v := 3) hx hb dX5_init_242 rfl ?_
  refine lv_ldc2 hx hb hown (hts _ q1751) dX5_init_243 ?_
  obtain ⟨σ4, eσ4, hF⟩ := obn hF
  refine mr_last S hK hM 10 (by decide) rfl eσ4 dX5_init_246 (fun H locs hM => ?_)
  refine lv_aload_n hx hb dX5_init_247 rfl (lv_at hl 0 rfl) ?_
  refine mr_get (v := .ref (adm z 10)) S hK hM 10 (by decide) q1778 dX5_init_248 rfl ?_
  refine lv_iconst (v := 4) hx hb dX5_init_251 rfl ?_
  refine lv_ldc2 hx hb hown (hts _ q1752) dX5_init_252 ?_
  obtain ⟨σ5, eσ5, hF⟩ := obn hF
  refine mr_last S hK hM 10 (by decide) rfl eσ5 dX5_init_255 (fun H locs hM => ?_)
  refine lv_aload_n hx hb dX5_init_256 rfl (lv_at hl 0 rfl) ?_
  refine mr_get (v := .ref (adm z 10)) S hK hM 10 (by decide) q1778 dX5_init_257 rfl ?_
  refine lv_iconst (v := 5) hx hb dX5_init_260 rfl ?_
  refine lv_ldc2 hx hb hown (hts _ q1753) dX5_init_261 ?_
  obtain ⟨σ6, eσ6, hF⟩ := obn hF
  refine mr_last S hK hM 10 (by decide) rfl eσ6 dX5_init_264 (fun H locs hM => ?_)
  refine lv_aload_n hx hb dX5_init_265 rfl (lv_at hl 0 rfl) ?_
  refine mr_get (v := .ref (adm z 10)) S hK hM 10 (by decide) q1778 dX5_init_266 rfl ?_
  refine lv_bipush (v := 6) hx hb dX5_init_269 rfl ?_
  refine lv_ldc2 hx hb hown (hts _ q1754) dX5_init_271 ?_
  obtain ⟨σ7, eσ7, hF⟩ := obn hF
  refine mr_last S hK hM 10 (by decide) rfl eσ7 dX5_init_274 (fun H locs hM => ?_)
  refine lv_aload_n hx hb dX5_init_275 rfl (lv_at hl 0 rfl) ?_
  refine mr_get (v := .ref (adm z 10)) S hK hM 10 (by decide) q1778 dX5_init_276 rfl ?_
  refine lv_bipush (v := 7) hx hb dX5_init_279 rfl ?_
  refine lv_ldc2 hx hb hown (hts _ q1755) dX5_init_281 ?_
  obtain ⟨σ8, eσ8, hF⟩ := obn hF
  refine mr_last S hK hM 10 (by decide) rfl eσ8 dX5_init_284 (fun H locs hM => ?_)
  refine lv_aload_n hx hb dX5_init_285 rfl (lv_at hl 0 rfl) ?_
  refine mr_get (v := .ref (adm z 10)) S hK hM 10 (by decide) q1778 dX5_init_286 rfl ?_
  refine lv_bipush (v := 8) hx hb dX5_init_289 rfl ?_
  refine lv_ldc2 hx hb hown (hts _ q1756) dX5_init_291 ?_
  obtain ⟨σ9, eσ9, hF⟩ := obn hF
  refine mr_last S hK hM 10 (by decide) rfl eσ9 dX5_init_294 (fun H locs hM => ?_)
  refine lv_aload_n hx hb dX5_init_295 rfl (lv_at hl 0 rfl) ?_
  refine mr_get (v := .ref (adm z 10)) S hK hM 10 (by decide) q1778 dX5_init_296 rfl ?_
  refine lv_bipush (v := 9) hx hb dX5_init_299 rfl ?_
  refine lv_ldc2 hx hb hown (hts _ q1757) dX5_init_301 ?_
  obtain ⟨σ10, eσ10, hF⟩ := obn hF
  refine mr_last S hK hM 10 (by decide) rfl eσ10 dX5_init_304 (fun H locs hM => ?_)
  refine lv_aload_n hx hb dX5_init_305 rfl (lv_at hl 0 rfl) ?_
  refine mr_get (v := .ref (adm z 10)) S hK hM 10 (by decide) q1778 dX5_init_306 rfl ?_
  refine lv_bipush (v := 10) hx hb dX5_init_309 rfl ?_
  refine lv_ldc2 hx hb hown (hts _ q1758) dX5_init_311 ?_
  obtain ⟨σ11, eσ11, hF⟩ := obn hF
  refine mr_last S hK hM 10 (by decide) rfl eσ11 dX5_init_314 (fun H locs hM => ?_)
  refine lv_aload_n hx hb dX5_init_315 rfl (lv_at hl 0 rfl) ?_
  refine mr_get (v := .ref (adm z 10)) S hK hM 10 (by decide) q1778 dX5_init_316 rfl ?_
  refine lv_bipush (v := 11) hx hb dX5_init_319 rfl ?_
  refine lv_ldc2 hx hb hown (hts _ q1759) dX5_init_321 ?_
  obtain ⟨σ12, eσ12, hF⟩ := obn hF
  refine mr_last S hK hM 10 (by decide) rfl eσ12 dX5_init_324 (fun H locs hM => ?_)
  refine lv_aload_n hx hb dX5_init_325 rfl (lv_at hl 0 rfl) ?_
  refine mr_get (v := .ref (adm z 10)) S hK hM 10 (by decide) q1778 dX5_init_326 rfl ?_
  refine lv_bipush (v := 12) hx hb dX5_init_329 rfl ?_
  refine lv_ldc2 hx hb hown (hts _ q1760) dX5_init_331 ?_
  obtain ⟨σ13, eσ13, hF⟩ := obn hF
  refine mr_last S hK hM 10 (by decide) rfl eσ13 dX5_init_334 (fun H locs hM => ?_)
  refine lv_aload_n hx hb dX5_init_335 rfl (lv_at hl 0 rfl) ?_
  refine mr_get (v := .ref (adm z 10)) S hK hM 10 (by decide) q1778 dX5_init_336 rfl ?_
  refine lv_bipush (v := 13) hx hb dX5_init_339 rfl ?_
  refine lv_ldc2 hx hb hown (hts _ q1761) dX5_init_341 ?_
  obtain ⟨σ14, eσ14, hF⟩ := obn hF
  refine mr_last S hK hM 10 (by decide) rfl eσ14 dX5_init_344 (fun H locs hM => ?_)
  refine lv_aload_n hx hb dX5_init_345 rfl (lv_at hl 0 rfl) ?_
  refine mr_get (v := .ref (adm z 10)) S hK hM 10 (by decide) q1778 dX5_init_346 rfl ?_
  refine lv_bipush (v := 14) hx hb dX5_init_349 rfl ?_
  refine lv_ldc2 hx hb hown (hts _ q1762) dX5_init_351 ?_
  obtain ⟨σ15, eσ15, hF⟩ := obn hF
  refine mr_last S hK hM 10 (by decide) rfl eσ15 dX5_init_354 (fun H locs hM => ?_)
  refine lv_aload_n hx hb dX5_init_355 rfl (lv_at hl 0 rfl) ?_
  refine mr_get (v := .ref (adm z 10)) S hK hM 10 (by decide) q1778 dX5_init_356 rfl ?_
  refine lv_bipush (v := 15) hx hb dX5_init_359 rfl ?_
  refine lv_ldc2 hx hb hown (hts _ q1763) dX5_init_361 ?_
  obtain ⟨σ16, eσ16, hF⟩ := obn hF
  refine mr_last S hK hM 10 (by decide) rfl eσ16 dX5_init_364 (fun H locs hM => ?_)
  refine lv_aload_n hx hb dX5_init_365 rfl (lv_at hl 0 rfl) ?_
  refine mr_get (v := .ref (adm z 10)) S hK hM 10 (by decide) q1778 dX5_init_366 rfl ?_
  refine lv_bipush (v := 16) hx hb dX5_init_369 rfl ?_
  refine lv_ldc2 hx hb hown (hts _ q1764) dX5_init_371 ?_
  obtain ⟨σ17, eσ17, hF⟩ := obn hF
  refine mr_last S hK hM 10 (by decide) rfl eσ17 dX5_init_374 (fun H locs hM => ?_)
  refine lv_aload_n hx hb dX5_init_375 rfl (lv_at hl 0 rfl) ?_
  refine mr_get (v := .ref (adm z 10)) S hK hM 10 (by decide) q1778 dX5_init_376 rfl ?_
  refine lv_bipush (v := 17) hx hb dX5_init_379 rfl ?_
  refine lv_ldc2 hx hb hown (hts _ q1765) dX5_init_381 ?_
  obtain ⟨σ18, eσ18, hF⟩ := obn hF
  refine mr_last S hK hM 10 (by decide) rfl eσ18 dX5_init_384 (fun H locs hM => ?_)
  refine lv_aload_n hx hb dX5_init_385 rfl (lv_at hl 0 rfl) ?_
  refine mr_get (v := .ref (adm z 10)) S hK hM 10 (by decide) q1778 dX5_init_386 rfl ?_
  refine lv_bipush (v := 18) hx hb dX5_init_389 rfl ?_
  refine lv_ldc2 hx hb hown (hts _ q1766) dX5_init_391 ?_
  obtain ⟨σ19, eσ19, hF⟩ := obn hF
  refine mr_last S hK hM 10 (by decide) rfl eσ19 dX5_init_394 (fun H locs hM => ?_)
  refine lv_aload_n hx hb dX5_init_395 rfl (lv_at hl 0 rfl) ?_
  refine mr_get (v := .ref (adm z 10)) S hK hM 10 (by decide) q1778 dX5_init_396 rfl ?_
  refine lv_bipush (v := 19) hx hb dX5_init_399 rfl ?_
  refine lv_ldc2 hx hb hown (hts _ q1767) dX5_init_401 ?_
  obtain ⟨σ20, eσ20, hF⟩ := obn hF
  refine mr_last S hK hM 10 (by decide) rfl eσ20 dX5_init_404 (fun H locs hM => ?_)
  refine lv_aload_n hx hb dX5_init_405 rfl (lv_at hl 0 rfl) ?_
  refine mr_get (v := .ref (adm z 6)) S hK hM 6 (by decide) q1774 dX5_init_406 rfl ?_
  refine lv_bipush (v := 6) hx hb dX5_init_409 rfl ?_
  refine lv_bipush (v := 9) hx hb dX5_init_411 rfl ?_
  obtain ⟨σ21, eσ21, hF⟩ := obn hF
  refine mr_iast S hK hM 6 (by decide) rfl eσ21 dX5_init_413 (fun H locs hM => ?_)
  have hz := (Option.some.inj hF)
  subst hz
  refine W.vret S.1 S.2.1 hr (fun t ht _ => ?_) (fun x hx9 => ?_) dX5_init_414
  · obtain ⟨m1, m2, m3, m4, m5⟩ := hM
    refine ⟨rfl, by rw [ht]; exact m1, by rw [ht]; omega, fun q hq hqb => ?_⟩
    rw [ht, m4 q (fun h9 => ?_), n5 q hq hqb]
    rcases h9 with h9 | ⟨k, -, -, h9⟩
    · exact hqb h9
    · unfold adm at h9; omega
  · rcases hM.2.2.2.2 x hx9 with h9 | ⟨k, -, -, h9⟩
    · exact Or.inl h9
    · exact Or.inr (by unfold adm at h9; omega)
