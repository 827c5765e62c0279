/-! the law's own array of longs; the classes of arrays by name -/
section CLW
variable {p : Program} {l : Launch} {e : Env} {s : State} {m : MethodId} {args : Array Value} {below : List Frame} {meth : Method} {c : Code} {H : Heap} {locs : List Loc} {cells slots : Nat} {R : Room} {Q : State → Prop} {cc : ByteArray} {nL pc : Nat} {ls : Array Slot} {own : String} {rest : List Value} {D : va_G} {h0 h h' : HS}
theorem cwl (S : CallFix p m c cc nL s args lw_all own) (hX : CX D (kG h0) s) (hM : HI D h0 h s.heap H locs cells slots) {a : Nat} {i x : Int32} (hv : wI h a 41 i x = some h') (hdg : decode cc pc = .ok (.lastore, 1))
    (kk : ∀ (H1 : Heap) (locs1 : List Loc), HI D h0 h' s.heap H1 locs1 cells slots → W p l e R s m args below meth c H1 locs1 cells slots Q (F0 m (pc + 1) ls rest)) : W p l e R s m args below meth c H locs cells slots Q (F0 m pc ls (.long x.toInt64 :: .int i :: .ref a :: rest)) := by
  obtain ⟨⟨⟨ht, hin⟩, hb0⟩, rfl⟩ := wIe hv
  refine W.last S.1 S.2.1 ((hM.1.2 a).2.2.2.2.2 ht) ((hX.1.2 10 _ rfl).1 (kN h a) (fun j => .long (kI h a j).toInt64)) (fun q => by cases q) (by show ¬ (i < 0 ∨ (arrV _ _ _).slots.size ≤ _); rw [arrV_size]; exact hin) rfl rfl hdg fun H1 e z oq => ?_
  refine kk H1 _ (HI_upd hM (HP_upd (a := a) hM.1 rfl (fun _ => rfl) (fun _ => rfl) (tI_ne h a _ _).1 (tI_ne h a _ _).2 z oq ⟨fun ci hc h9 => ?_, fun t9 b1 b2 h9 => ?_, fun t9 b1 b2 h9 => ?_, fun h9 => (by rw [kT_tI] at h9; omega), fun h9 => ?_⟩) rfl rfl rfl oq hb0 (fun _ => rfl) (by omega))
  · rw [kT_tI] at h9; omega
  · rw [kT_tI] at h9; omega
  · rw [kT_tI] at h9; omega
  · rw [e]
    show some ((arrV _ _ _).setSlot _ _) = _
    rw [arrV_store]
    congr 2
    funext q
    by_cases hq : q = i.toNatClampNeg
    · subst hq
      simp [updV, kI_tI]
    · simp [updV, kI_tI, hq]
theorem cfc31 {G : Nat → Nat} (hX : CX D G s) : s.vm.findClass "[I" = some (D.1 31) := (hX.1.2 0 _ rfl).2
theorem cfc33 {G : Nat → Nat} (hX : CX D G s) : s.vm.findClass "[Z" = some (D.1 33) := (hX.1.2 2 _ rfl).2
theorem cfc34 {G : Nat → Nat} (hX : CX D G s) : s.vm.findClass "[[I" = some (D.1 34) := (hX.1.2 3 _ rfl).2
theorem cfc35 {G : Nat → Nat} (hX : CX D G s) : s.vm.findClass "[[[I" = some (D.1 35) := (hX.1.2 4 _ rfl).2
theorem cfc38 {G : Nat → Nat} (hX : CX D G s) : s.vm.findClass "[[Z" = some (D.1 38) := (hX.1.2 7 _ rfl).2
theorem cao35 {G : Nat → Nat} (hX : CX D G s) : va_Nw (.arrayOver (.array (.array .int))) s := hX.2.1.2.2.2.2.1 _ (List.mem_of_getElem? (i := 0) rfl)
theorem cao34 {G : Nat → Nat} (hX : CX D G s) : va_Nw (.arrayOver (.array .int)) s := hX.2.1.2.2.2.2.1 _ (List.mem_of_getElem? (i := 1) rfl)
theorem cao38 {G : Nat → Nat} (hX : CX D G s) : va_Nw (.arrayOver (.array .boolean)) s := hX.2.1.2.2.2.2.1 _ (List.mem_of_getElem? (i := 3) rfl)
theorem cmI {FR LO : Nat} (S : CallFix p m c cc nL s args lw_all own) (hX : CX D (kG h0) s) (hM : HI D h0 h s.heap H locs cells slots) {index : Nat} {n k : Int32} {r : Nat × HS} (hv : nM2 h 34 31 n k = some r) (hclink : Cond.classLink own index "[[I" ∈ lw_all) (hdg : decode cc pc = .ok (.multianewarray index 2, 4))
    (kk : ∀ (H1 : Heap) (c1 s1 : Nat), HI D h0 r.2 s.heap H1 locs c1 s1 → W p l e (cR FR LO h0) s m args below meth c H1 locs c1 s1 Q (F0 m (pc + 4) ls (.ref r.1 :: rest))) : W p l e (cR FR LO h0) s m args below meth c H locs cells slots Q (F0 m pc ls (.int k :: .int n :: rest)) :=
  cm2 (ty := .int) S hM hv hclink (cao34 hX) q288 (by decide) (by decide) ⟨rfl, rfl, by decide⟩ (cfc34 hX) (cfc31 hX) hdg kk
theorem cmZ {FR LO : Nat} (S : CallFix p m c cc nL s args lw_all own) (hX : CX D (kG h0) s) (hM : HI D h0 h s.heap H locs cells slots) {index : Nat} {n k : Int32} {r : Nat × HS} (hv : nM2 h 38 33 n k = some r) (hclink : Cond.classLink own index "[[Z" ∈ lw_all) (hdg : decode cc pc = .ok (.multianewarray index 2, 4))
    (kk : ∀ (H1 : Heap) (c1 s1 : Nat), HI D h0 r.2 s.heap H1 locs c1 s1 → W p l e (cR FR LO h0) s m args below meth c H1 locs c1 s1 Q (F0 m (pc + 4) ls (.ref r.1 :: rest))) : W p l e (cR FR LO h0) s m args below meth c H locs cells slots Q (F0 m pc ls (.int k :: .int n :: rest)) :=
  cm2 (ty := .boolean) S hM hv hclink (cao38 hX) q242 (by decide) (by decide) ⟨rfl, rfl, by decide⟩ (cfc38 hX) (cfc33 hX) hdg kk
theorem cmT {FR LO : Nat} (S : CallFix p m c cc nL s args lw_all own) (hX : CX D (kG h0) s) (hM : HI D h0 h s.heap H locs cells slots) {index : Nat} {n k j : Int32} {r : Nat × HS} (hv : nM3 h n k j = some r) (hclink : Cond.classLink own index "[[[I" ∈ lw_all) (hdg : decode cc pc = .ok (.multianewarray index 3, 4))
    (kk : ∀ (H1 : Heap) (c1 s1 : Nat), HI D h0 r.2 s.heap H1 locs c1 s1 → W p l e (cR FR LO h0) s m args below meth c H1 locs c1 s1 Q (F0 m (pc + 4) ls (.ref r.1 :: rest))) : W p l e (cR FR LO h0) s m args below meth c H locs cells slots Q (F0 m pc ls (.int j :: .int k :: .int n :: rest)) :=
  cm3 S hM hv hclink (cao35 hX) (cao34 hX) q288 (cfc35 hX) (cfc34 hX) (cfc31 hX) hdg kk
end CLW
