/-! what the printed walks of the component use -/
def gT {α : Type} (h : HS) (a t1 t2 : Nat) (x : Option α) : Option α := if t1 ≤ kT h a ∧ kT h a ≤ t2 then x else none
theorem gTe {α : Type} {h : HS} {a t1 t2 : Nat} {x : Option α} {r : α} (e : gT h a t1 t2 x = some r) : (t1 ≤ kT h a ∧ kT h a ≤ t2) ∧ x = some r := by
  unfold gT at e; split at e
  · exact ⟨by assumption, e⟩
  · cases e
/-- a byte is one -/
def gY {α : Type} (v : Int32) (x : Option α) : Option α := if v.toInt8.toInt32 = v then x else none
theorem gYe {α : Type} {v : Int32} {x : Option α} {r : α} (e : gY v x = some r) : v.toInt8.toInt32 = v ∧ x = some r := by
  unfold gY at e; split at e
  · exact ⟨by assumption, e⟩
  · cases e
theorem gYn {v : Int32} (h : v.toInt8.toInt32 = v) : narrow .byte (.int v) = .int v := by
  show Value.int v.toInt8.toInt32 = _
  rw [h]
theorem gYf {v : Int32} (h : v.toInt8.toInt32 = v) : fits .byte (.int v) = true := by
  rw [← h]; exact pk_fb v
def thr {α δ : Type} (r : Nat ⊕ α) (e : Nat → Option δ) (k : α → Option δ) : Option δ := match r with
  | .inl q => e q
  | .inr v => k v
theorem thr_r {α δ : Type} {r : Nat ⊕ α} {e : Nat → Option δ} {k : α → Option δ} {z : δ} {v : α} (h : thr r e k = some z) (hr : r = .inr v) : k v = some z := by subst hr; exact h
theorem thr_q {α δ : Type} {r : Nat ⊕ α} {e : Nat → Option δ} {k : α → Option δ} {z : δ} {q : Nat} (h : thr r e k = some z) (hr : r = .inl q) : e q = some z := by subst hr; exact h
def onl {δ : Type} (r : Option Nat) (a : Option δ) (k : Nat → Option δ) : Option δ := match r with
  | none => a
  | some x => k x
theorem onl_e {δ : Type} {r : Option Nat} {a : Option δ} {k : Nat → Option δ} {z : δ} (h : onl r a k = some z) : (r = none ∧ a = some z) ∨ ∃ x, r = some x ∧ k x = some z := by
  cases r with
  | none => exact Or.inl ⟨rfl, h⟩
  | some x => exact Or.inr ⟨x, rfl, h⟩
def xi (r : Nat ⊕ Int32) : Nat ⊕ Option Value := match r with
  | .inl q => .inl q
  | .inr v => .inr (some (.int v))
def xr (r : Nat ⊕ Nat) : Nat ⊕ Option Value := match r with
  | .inl q => .inl q
  | .inr v => .inr (some (.ref v))
def xv (r : Nat ⊕ Unit) : Nat ⊕ Option Value := match r with
  | .inl q => .inl q
  | .inr _ => .inr none
section CWR
variable {p : Program} {l : Launch} {e : Env} {R : Room} {s : State} {m : MethodId} {args : Array Value} {below : List Frame} {meth : Method} {c : Code} {H : Heap} {locs : List Loc} {cells slots FR LO : Nat} {Q : State → Prop}
variable {cc : ByteArray} {pc nL : Nat} {ls : Array Slot} {rest : List Value} {D : va_G} {h0 h h' : HS} {own : String}
theorem cHI_e (e : h = h') (hM : HI D h0 h s.heap H locs cells slots) : HI D h0 h' s.heap H locs cells slots := e ▸ hM
theorem cjn {I : Heap → List Loc → Nat → Nat → Prop} {nJ : Nat} {lvJ : List (Nat × Value)} {J : Nat} {stJ : List Value} {g : JFrame} (hJ : ∀ (H : Heap) (locs : List Loc) (cs ss : Nat) (ls : Array Slot), I H locs cs ss → lv_has ls nJ lvJ → W p l e R s m args below meth c H locs cs ss Q (F0 m J ls stJ))
    (k : (∀ (H : Heap) (locs : List Loc) (cs ss : Nat) (ls : Array Slot), I H locs cs ss → lv_has ls nJ lvJ → W p l e R s m args below meth c H locs cs ss Q (F0 m J ls stJ)) → W p l e R s m args below meth c H locs cells slots Q g) : W p l e R s m args below meth c H locs cells slots Q g := k hJ
theorem cjnr {ι : Type} {C : ι → Prop} {I : ι → Heap → List Loc → Nat → Nat → Prop} {nJ : Nat} {lvJ : ι → List (Nat × Value)} {J : Nat} {stJ : ι → List Value} {g : JFrame} (hJ : ∀ q, C q → ∀ (H : Heap) (locs : List Loc) (cs ss : Nat) (ls : Array Slot), I q H locs cs ss → lv_has ls nJ (lvJ q) → W p l e R s m args below meth c H locs cs ss Q (F0 m J ls (stJ q)))
    (k : (∀ q, C q → ∀ (H : Heap) (locs : List Loc) (cs ss : Nat) (ls : Array Slot), I q H locs cs ss → lv_has ls nJ (lvJ q) → W p l e R s m args below meth c H locs cs ss Q (F0 m J ls (stJ q))) → W p l e R s m args below meth c H locs cells slots Q g) : W p l e R s m args below meth c H locs cells slots Q g := k hJ
theorem cjnc {C : Prop} {I : Heap → List Loc → Nat → Nat → Prop} {nJ : Nat} {lvJ : List (Nat × Value)} {J : Nat} {stJ : List Value} {g : JFrame} (hJ : C → ∀ (H : Heap) (locs : List Loc) (cs ss : Nat) (ls : Array Slot), I H locs cs ss → lv_has ls nJ lvJ → W p l e R s m args below meth c H locs cs ss Q (F0 m J ls stJ))
    (k : (C → ∀ (H : Heap) (locs : List Loc) (cs ss : Nat) (ls : Array Slot), I H locs cs ss → lv_has ls nJ lvJ → W p l e R s m args below meth c H locs cs ss Q (F0 m J ls stJ)) → W p l e R s m args below meth c H locs cells slots Q g) : W p l e R s m args below meth c H locs cells slots Q g := k hJ
/-- a String constant -/
theorem cldc {k index : Nat} {tx : String} (S : CallFix p m c cc nL s args lw_all own) (hM : HI D h0 h s.heap H locs cells slots) (hZ : vk_R own index tx (kG h0 k) s) (hdg : decode cc pc = .ok (.ldc index, 2))
    (kk : W p l e R s m args below meth c H locs cells slots Q (F0 m (pc + 2) ls (.ref (kG h k) :: rest))) : W p l e R s m args below meth c H locs cells slots Q (F0 m pc ls rest) := by
  rw [hM.2.1] at kk
  exact va_ldcS S.1 S.2.1 S.2.2.2.1 hZ hdg kk
theorem cstr {C n d : String} {k index : Nat} (S : CallFix p m c cc nL s args lw_all own) (hM : HI D h0 h s.heap H locs cells slots) (hZ : va_Z C n d (.ref (kG h0 k)) (fun q => kG h0 0 ≤ q) s s.heap) (hlink : Cond.fieldLink own index C n d ∈ lw_all) (hdg : decode cc pc = .ok (.getstatic index, 3))
    (kk : W p l e R s m args below meth c H locs cells slots Q (F0 m (pc + 3) ls (.ref (kG h k) :: rest))) : W p l e R s m args below meth c H locs cells slots Q (F0 m pc ls rest) := by
  rw [hM.2.1] at kk
  exact cst (ref := "") S hM hZ hlink hdg kk
theorem cstrN {C n d host : String} {k index : Nat} (S : CallFix p m c cc nL s args lw_all own) (hM : HI D h0 h s.heap H locs cells slots) (hZ : va_Z C n d (.ref (kG h0 k)) (fun q => kG h0 0 ≤ q) s s.heap) (hlink : (Cond.fieldLinkNest own index C n d host).before args s = true) (hdg : decode cc pc = .ok (.getstatic index, 3))
    (kk : W p l e R s m args below meth c H locs cells slots Q (F0 m (pc + 3) ls (.ref (kG h k) :: rest))) : W p l e R s m args below meth c H locs cells slots Q (F0 m pc ls rest) := by
  rw [hM.2.1] at kk
  exact cstN S hM hZ hlink hdg kk
theorem ccti {y : MethodName} {bytes : ByteArray} {maxL fr lo : Nat} {ret : Option FieldType} {As st0 : List Value} {r : Nat ⊕ Int32} (S : CallFix p m c cc nL s args lw_all own) (hX : CX D (kG h0) s) (hM : HI D h0 h s.heap H locs cells slots) (hMet : CMet l y (ws_ y bytes maxL ret) fr lo D As h h' (xi r)) (hi : CInv p l e (cR FR LO h0) s m args below meth c H locs cells slots (F0 m pc ls st0) rest y As.toArray)
    (hc : Cond.code y bytes maxL ret ∈ lw_all) (hin : Cond.initialized y.cls ∈ lw_all) (hfr : fr + 1 ≤ FR) (hlo : 8 + (maxL + 11) + lo ≤ LO) (hl : ls.size = nL) (hW : (rest.map fun v => v.category).sum ≤ 8)
    (kr : ∀ v, r = .inr v → ∀ (H1 : Heap) (locs1 : List Loc) (c1 s1 : Nat), HI D h0 h' s.heap H1 locs1 c1 s1 → W p l e (cR FR LO h0) s m args below meth c H1 locs1 c1 s1 Q (F0 m (pc + 3) ls (.int v :: rest)))
    (kx : ∀ q, r = .inl q → ∀ (H1 : Heap) (locs1 : List Loc) (c1 s1 : Nat), HI D h0 h' s.heap H1 locs1 c1 s1 → cX p l e (cR FR LO h0) s m args below meth c H1 locs1 c1 s1 Q (F0 m pc ls rest) q) : W p l e (cR FR LO h0) s m args below meth c H locs cells slots Q (F0 m pc ls st0) := by
  refine cct S hX hM hMet hi hc hin hfr hlo hl hW (fun v ev => ?_) (fun q eq => ?_)
  · cases r with
    | inl q => cases ev
    | inr w => cases ev; exact kr w rfl
  · cases r with
    | inl q => cases eq; exact kx _ rfl
    | inr w => cases eq
theorem cctr {y : MethodName} {bytes : ByteArray} {maxL fr lo : Nat} {ret : Option FieldType} {As st0 : List Value} {r : Nat ⊕ Nat} (S : CallFix p m c cc nL s args lw_all own) (hX : CX D (kG h0) s) (hM : HI D h0 h s.heap H locs cells slots) (hMet : CMet l y (ws_ y bytes maxL ret) fr lo D As h h' (xr r)) (hi : CInv p l e (cR FR LO h0) s m args below meth c H locs cells slots (F0 m pc ls st0) rest y As.toArray)
    (hc : Cond.code y bytes maxL ret ∈ lw_all) (hin : Cond.initialized y.cls ∈ lw_all) (hfr : fr + 1 ≤ FR) (hlo : 8 + (maxL + 11) + lo ≤ LO) (hl : ls.size = nL) (hW : (rest.map fun v => v.category).sum ≤ 8)
    (kr : ∀ v, r = .inr v → ∀ (H1 : Heap) (locs1 : List Loc) (c1 s1 : Nat), HI D h0 h' s.heap H1 locs1 c1 s1 → W p l e (cR FR LO h0) s m args below meth c H1 locs1 c1 s1 Q (F0 m (pc + 3) ls (.ref v :: rest)))
    (kx : ∀ q, r = .inl q → ∀ (H1 : Heap) (locs1 : List Loc) (c1 s1 : Nat), HI D h0 h' s.heap H1 locs1 c1 s1 → cX p l e (cR FR LO h0) s m args below meth c H1 locs1 c1 s1 Q (F0 m pc ls rest) q) : W p l e (cR FR LO h0) s m args below meth c H locs cells slots Q (F0 m pc ls st0) := by
  refine cct S hX hM hMet hi hc hin hfr hlo hl hW (fun v ev => ?_) (fun q eq => ?_)
  · cases r with
    | inl q => cases ev
    | inr w => cases ev; exact kr w rfl
  · cases r with
    | inl q => cases eq; exact kx _ rfl
    | inr w => cases eq
theorem cctv {y : MethodName} {bytes : ByteArray} {maxL fr lo : Nat} {ret : Option FieldType} {As st0 : List Value} {r : Nat ⊕ Unit} (S : CallFix p m c cc nL s args lw_all own) (hX : CX D (kG h0) s) (hM : HI D h0 h s.heap H locs cells slots) (hMet : CMet l y (ws_ y bytes maxL ret) fr lo D As h h' (xv r)) (hi : CInv p l e (cR FR LO h0) s m args below meth c H locs cells slots (F0 m pc ls st0) rest y As.toArray)
    (hc : Cond.code y bytes maxL ret ∈ lw_all) (hin : Cond.initialized y.cls ∈ lw_all) (hfr : fr + 1 ≤ FR) (hlo : 8 + (maxL + 11) + lo ≤ LO) (hl : ls.size = nL) (hW : (rest.map fun v => v.category).sum ≤ 8)
    (kr : ∀ v, r = .inr v → ∀ (H1 : Heap) (locs1 : List Loc) (c1 s1 : Nat), HI D h0 h' s.heap H1 locs1 c1 s1 → W p l e (cR FR LO h0) s m args below meth c H1 locs1 c1 s1 Q (F0 m (pc + 3) ls rest))
    (kx : ∀ q, r = .inl q → ∀ (H1 : Heap) (locs1 : List Loc) (c1 s1 : Nat), HI D h0 h' s.heap H1 locs1 c1 s1 → cX p l e (cR FR LO h0) s m args below meth c H1 locs1 c1 s1 Q (F0 m pc ls rest) q) : W p l e (cR FR LO h0) s m args below meth c H locs cells slots Q (F0 m pc ls st0) := by
  refine cct S hX hM hMet hi hc hin hfr hlo hl hW (fun v ev => ?_) (fun q eq => ?_)
  · cases r with
    | inl q => cases ev
    | inr w => cases ev; exact kr w rfl
  · cases r with
    | inl q => cases eq; exact kx _ rfl
    | inr w => cases eq
/-- Object's constructor -/
theorem cobj {index a : Nat} (S : CallFix p m c cc nL s args lw_all own) (hlink : Cond.methodLink own index Lib.objectInit ∈ lw_all) (hinst : Cond.instanceMethod Lib.objectInit ∈ lw_all) (hcode : Cond.code Lib.objectInit ⟨#[0xb1]⟩ 1 none ∈ lw_all) (hl : ls.size = nL) (hW : (rest.map fun v => v.category).sum ≤ 8) (hdg : decode cc pc = .ok (.invokespecial index, 3)) (hfr : 1 ≤ FR) (hlo : 20 ≤ LO)
    (kk : W p l e (cR FR LO h0) s m args below meth c H locs cells slots Q (F0 m (pc + 3) ls rest)) : W p l e (cR FR LO h0) s m args below meth c H locs cells slots Q (F0 m pc ls (.ref a :: rest)) :=
  W.objInit S.1 S.2.1 S.2.2.2.1 (S.2.2.2.2 _ hlink) (S.2.2.2.2 _ hinst) (S.2.2.2.2 _ hcode) rfl (hl.trans S.2.2.1.symm) rfl hdg hfr (by show 2 * 0 + _ + 12 ≤ LO; omega) kk
end CWR
