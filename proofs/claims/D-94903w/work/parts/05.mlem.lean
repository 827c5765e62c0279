def irm (x y : Int32) : Int32 := x - x / y * y
def ush (x y : Int32) : Int32 := (x.toUInt32 >>> (y.toUInt32 &&& Int32.toUInt32 31)).toInt32
theorem ifp {c : Prop} [Decidable c] {α : Type} {a b r : α} (h : (if c then a else b) = r) (hc : c) : a = r := by rw [if_pos hc] at h; exact h
theorem ifn {c : Prop} [Decidable c] {α : Type} {a b r : α} (h : (if c then a else b) = r) (hc : ¬ c) : b = r := by rw [if_neg hc] at h; exact h
theorem osx {α β δ : Type} {x : Option (α ⊕ β)} {inj : β → δ} {k : α → Option δ} {r : δ} (h : osm x inj k = some r) : ∃ o, x = some o ∧ (∀ a, o = .inl a → k a = some r) ∧ ∀ v, o = .inr v → inj v = r := by
  cases x with
  | none => cases h
  | some y =>
    cases y with
    | inl a => exact ⟨_, rfl, fun _ e => (by cases e; exact h), fun _ e => (by cases e)⟩
    | inr v => exact ⟨_, rfl, fun _ e => (by cases e), fun _ e => (by cases e; exact Option.some.inj h)⟩
def SI (H0 H : Heap) (locs : List Loc) : Prop := H = H0 ∧ locs = []
section ML
variable {p : Program} {l : Launch} {e : Env} {R : Room} {s : State} {m : MethodId} {args : Array Value} {below : List Frame} {meth : Method} {c : Code} {H : Heap} {locs : List Loc} {cells slots : Nat} {Q : State → Prop}
variable {cc : ByteArray} {pc nL : Nat} {ls : Array Slot} {rest : List Value} {D : va_G} {b : Nat} {ad : Nat → Nat} {σ σ' : MS} {H0 : Heap}
theorem mr_top {x y : Int32} (h : x = y) (k : W p l e R s m args below meth c H locs cells slots Q (F0 m pc ls (.int y :: rest))) : W p l e R s m args below meth c H locs cells slots Q (F0 m pc ls (.int x :: rest)) := h ▸ k
theorem mMI_e (h : σ = σ') (hM : MI D b ad σ H0 H locs) : MI D b ad σ' H0 H locs := h ▸ hM
theorem jn {I : Heap → List Loc → Prop} {nJ : Nat} {lvJ : List (Nat × Value)} {J : Nat} {stJ : List Value} {g : JFrame} (hJ : ∀ (H : Heap) (locs : List Loc) (ls : Array Slot), I H locs → lv_has ls nJ lvJ → W p l e R s m args below meth c H locs cells slots Q (F0 m J ls stJ))
    (k : (∀ (H : Heap) (locs : List Loc) (ls : Array Slot), I H locs → lv_has ls nJ lvJ → W p l e R s m args below meth c H locs cells slots Q (F0 m J ls stJ)) → W p l e R s m args below meth c H locs cells slots Q g) : W p l e R s m args below meth c H locs cells slots Q g := k hJ
theorem jnr {ι : Type} {C : ι → Prop} {I : ι → Heap → List Loc → Prop} {nJ : Nat} {lvJ : ι → List (Nat × Value)} {J : Nat} {stJ : ι → List Value} {g : JFrame} (hJ : ∀ q, C q → ∀ (H : Heap) (locs : List Loc) (ls : Array Slot), I q H locs → lv_has ls nJ (lvJ q) → W p l e R s m args below meth c H locs cells slots Q (F0 m J ls (stJ q)))
    (k : (∀ q, C q → ∀ (H : Heap) (locs : List Loc) (ls : Array Slot), I q H locs → lv_has ls nJ (lvJ q) → W p l e R s m args below meth c H locs cells slots Q (F0 m J ls (stJ q))) → W p l e R s m args below meth c H locs cells slots Q g) : W p l e R s m args below meth c H locs cells slots Q g := k hJ
theorem jnc {C : Prop} {I : Heap → List Loc → Prop} {nJ : Nat} {lvJ : List (Nat × Value)} {J : Nat} {stJ : List Value} {g : JFrame} (hJ : C → ∀ (H : Heap) (locs : List Loc) (ls : Array Slot), I H locs → lv_has ls nJ lvJ → W p l e R s m args below meth c H locs cells slots Q (F0 m J ls stJ))
    (k : (C → ∀ (H : Heap) (locs : List Loc) (ls : Array Slot), I H locs → lv_has ls nJ lvJ → W p l e R s m args below meth c H locs cells slots Q (F0 m J ls stJ)) → W p l e R s m args below meth c H locs cells slots Q g) : W p l e R s m args below meth c H locs cells slots Q g := k hJ
theorem mcv {y : MethodName} {bytes : ByteArray} {maxL n index : Nat} {ret : Option FieldType} {rm : Room} {rv : Option Value} {As : List Value} {st0 st1 : List Value} (S : CallFix p m c cc nL s args lw_all RX5) (hK : va_K D mCl (mTy D) s) (hM : MI D b ad σ H0 H locs)
    (hMet : Met l y (ws_ y bytes maxL ret) rm (mPc D b ad As σ) (mQ D b ad rv σ') 0 0 (mFr b ad)) (hV : GoodIn lw_all (wsV RX5 index RX5 y (ws_ y bytes maxL ret))) (hd : y.cls = RX5 ∧ y.cls ≠ "java/lang/invoke/MethodHandle" ∧ y.cls ≠ "java/lang/invoke/VarHandle" ∧ (parseMethodDescriptor y.desc).map (fun d => d.parameters.length) = some n)
    (hrm : rm.cells = 0 ∧ rm.slots = 0 ∧ rm.frames + 1 ≤ R.frames ∧ 8 + (maxL + 11) + rm.locals ≤ R.locals) (hn : As.length = n) (hl : ls.size = nL) (hst : st0 = As.reverse ++ .ref b :: rest) (hst1 : rv.toList ++ rest = st1) (hW : (rest.map fun v => v.category).sum ≤ 8) (hdg : decode cc pc = .ok (.invokevirtual index, 3))
    (kk : ∀ (H1 : Heap) (locs1 : List Loc), MI D b ad σ' H0 H1 locs1 → W p l e R s m args below meth c H1 locs1 0 0 Q (F0 m (pc + 3) ls st1)) : W p l e R s m args below meth c H locs 0 0 Q (F0 m pc ls st0) :=
  mr_cv S hK hM hMet hV hd hrm hn hl hst hW hdg ⟨Nat.zero_le _, Nat.zero_le _⟩ (hst1 ▸ kk)
theorem mcs {own : String} {y : MethodName} {bytes : ByteArray} {maxL n index : Nat} {ret : Option FieldType} {rm : Room} {rv : Option Value} {As : List Value} {st0 st1 : List Value} (S : CallFix p m c cc nL s args lw_all own)
    (hMet : Met l y (ws_ y bytes maxL ret) rm (sPc As) (sQ rv) 0 0 sFr) (hV : GoodIn lw_all (va_wsS own index y (ws_ y bytes maxL ret))) (hd : y.cls ≠ "java/lang/invoke/MethodHandle" ∧ y.cls ≠ "java/lang/invoke/VarHandle" ∧ (parseMethodDescriptor y.desc).map (fun d => d.parameters.length) = some n)
    (hrm : rm.cells = 0 ∧ rm.slots = 0 ∧ rm.frames + 1 ≤ R.frames ∧ 8 + (maxL + 11) + rm.locals ≤ R.locals) (hn : As.length = n) (hl : ls.size = nL) (hst : st0 = As.reverse ++ rest) (hst1 : rv.toList ++ rest = st1) (hW : (rest.map fun v => v.category).sum ≤ 8) (hdg : decode cc pc = .ok (.invokestatic index, 3)) (hf : cells ≤ R.cells ∧ slots ≤ R.slots)
    (kk : W p l e R s m args below meth c H locs cells slots Q (F0 m (pc + 3) ls st1)) : W p l e R s m args below meth c H locs cells slots Q (F0 m pc ls st0) :=
  mr_cs S hMet hV hd hrm hn hl hst hW hdg hf (hst1 ▸ kk)
theorem msi {own : String} {v : Int32} (S : CallFix p m c cc nL s args lw_all own) (hM : SI s.heap H locs) (hr : meth.sig.returnType = some .int) (hlocks : meth.locks = false) (hdg : decode cc pc = .ok (.ireturn, 1)) : W p l e R s m args below meth c H locs cells slots (MQ below (sQ (some (.int v))) args s cells slots sFr) (F0 m pc ls [.int v]) := by
  obtain ⟨rfl, rfl⟩ := hM
  exact mr_si S hr hlocks hdg
theorem msz {own : String} {v : Int32} (S : CallFix p m c cc nL s args lw_all own) (hM : SI s.heap H locs) (hr : meth.sig.returnType = some .boolean) (hlocks : meth.locks = false) (hv : v = 0 ∨ v = 1) (hdg : decode cc pc = .ok (.ireturn, 1)) : W p l e R s m args below meth c H locs cells slots (MQ below (sQ (some (.int v))) args s cells slots sFr) (F0 m pc ls [.int v]) := by
  obtain ⟨rfl, rfl⟩ := hM
  exact mr_sz S hr hlocks hv hdg
end ML
