/-! arrays of arrays made at once: two and three dimensions (follows the library's papers on two dimensions) -/
def m2 (h : HS) (t0 t1 n k : Nat) : Nat → HS
  | 0 => tA h t0 n n
  | i + 1 => tR (tA (m2 h t0 t1 n k i) t1 k k) (kZ h) i (some (kZ (m2 h t0 t1 n k i)))
def m3 (h : HS) (n k j : Nat) : Nat → HS
  | 0 => tA h 35 n n
  | i + 1 => tR (m2 (m3 h n k j i) 34 31 k j k) (kZ h) i (some (kZ (m3 h n k j i)))
def nM2 (h : HS) (t0 t1 : Nat) (n k : Int32) : Option (Nat × HS) := if ¬ n < 0 ∧ ¬ k < 0 ∧ n.toNatClampNeg ≤ 100000 ∧ k.toNatClampNeg ≤ 100000 ∧ kZ h + (1 + n.toNatClampNeg) ≤ kG h 1 ∧ kW h + (n.toNatClampNeg + n.toNatClampNeg * k.toNatClampNeg) ≤ kG h 2 then some (kZ h, m2 h t0 t1 n.toNatClampNeg k.toNatClampNeg n.toNatClampNeg) else none
def nM3 (h : HS) (n k j : Int32) : Option (Nat × HS) := if ¬ n < 0 ∧ ¬ k < 0 ∧ ¬ j < 0 ∧ n.toNatClampNeg ≤ 100000 ∧ k.toNatClampNeg ≤ 100000 ∧ j.toNatClampNeg ≤ 100000 ∧ kZ h + (1 + n.toNatClampNeg * (1 + k.toNatClampNeg)) ≤ kG h 1 ∧ kW h + (n.toNatClampNeg + n.toNatClampNeg * (k.toNatClampNeg + k.toNatClampNeg * j.toNatClampNeg)) ≤ kG h 2 then some (kZ h, m3 h n.toNatClampNeg k.toNatClampNeg j.toNatClampNeg n.toNatClampNeg) else none
section MK
variable (h : HS) (t0 t1 n k : Nat)
theorem m2_z : ∀ i, kZ (m2 h t0 t1 n k i) = kZ h + 1 + i
  | 0 => rfl
  | i + 1 => by show kZ (m2 h t0 t1 n k i) + 1 = _; rw [m2_z i]; omega
theorem m2_w : ∀ i, kW (m2 h t0 t1 n k i) = kW h + n + i * k
  | 0 => by show kW h + n = _; omega
  | i + 1 => by show kW (m2 h t0 t1 n k i) + k = _; rw [m2_w i, Nat.succ_mul]; omega
theorem m2_g : ∀ i, kG (m2 h t0 t1 n k i) = kG h
  | 0 => rfl
  | i + 1 => m2_g i
theorem m2_t : ∀ i, kT (m2 h t0 t1 n k i) (kZ h) = t0
  | 0 => by show kT (tA h t0 n n) (kZ h) = t0; rw [kT_tA, if_pos rfl]
  | i + 1 => by
    show kT (tR (tA (m2 h t0 t1 n k i) t1 k k) _ _ _) (kZ h) = t0
    rw [kT_tR, kT_tA, if_neg (by rw [m2_z]; omega)]; exact m2_t i
theorem m2_n : ∀ i, kN (m2 h t0 t1 n k i) (kZ h) = n
  | 0 => by show kN (tA h t0 n n) (kZ h) = n; rw [kN_tA, if_pos rfl]
  | i + 1 => by
    show kN (tR (tA (m2 h t0 t1 n k i) t1 k k) _ _ _) (kZ h) = n
    rw [kN_tR, kN_tA, if_neg (by rw [m2_z]; omega)]; exact m2_n i
theorem m3_z (j : Nat) : ∀ i, kZ (m3 h n k j i) = kZ h + 1 + i * (1 + k)
  | 0 => by show kZ h + 1 = _; omega
  | i + 1 => by show kZ (m2 (m3 h n k j i) 34 31 k j k) = _; rw [m2_z, m3_z j i, Nat.succ_mul]; omega
theorem m3_w (j : Nat) : ∀ i, kW (m3 h n k j i) = kW h + n + i * (k + k * j)
  | 0 => by show kW h + n = _; omega
  | i + 1 => by show kW (m2 (m3 h n k j i) 34 31 k j k) = _; rw [m2_w, m3_w j i, Nat.succ_mul]; omega
theorem m3_g (j : Nat) : ∀ i, kG (m3 h n k j i) = kG h
  | 0 => rfl
  | i + 1 => by show kG (m2 (m3 h n k j i) 34 31 k j k) = _; rw [m2_g]; exact m3_g j i
theorem m2_oT (x : Nat) (hx : x < kZ h) : ∀ i, kT (m2 h t0 t1 n k i) x = kT h x
  | 0 => by show kT (tA h t0 n n) x = _; rw [kT_tA, if_neg (by omega)]
  | i + 1 => by
    show kT (tR (tA (m2 h t0 t1 n k i) t1 k k) _ _ _) x = _
    rw [kT_tR, kT_tA, if_neg (by rw [m2_z]; omega)]; exact m2_oT x hx i
theorem m3_t (j : Nat) : ∀ i, kT (m3 h n k j i) (kZ h) = 35
  | 0 => by show kT (tA h 35 n n) (kZ h) = 35; rw [kT_tA, if_pos rfl]
  | i + 1 => by
    show kT (tR (m2 (m3 h n k j i) 34 31 k j k) _ _ _) (kZ h) = 35
    rw [kT_tR, m2_oT _ _ _ _ _ _ (by rw [m3_z]; omega)]; exact m3_t j i
end MK
section MW
variable {p : Program} {l : Launch} {e : Env} {s : State} {m : MethodId} {args : Array Value} {below : List Frame} {meth : Method} {c : Code} {H : Heap} {locs : List Loc} {cells slots FR LO : Nat} {Q : State → Prop} {cc : ByteArray} {nL pc : Nat} {ls : Array Slot} {own : String} {rest : List Value} {D : va_G} {h0 h : HS}
theorem HI_m2 {T : State} {t0 t1 n k : Nat} (hM : HI D h0 h s.heap T.heap locs cells slots) (h34 : 34 ≤ t0 ∧ t0 ≤ 40) (h31 : 31 ≤ t1 ∧ t1 ≤ 33) (hz : kZ h + (1 + n) ≤ kG h 1) (hw : kW h + (n + n * k) ≤ kG h 2) :
    ∀ i, i ≤ n → HI D h0 (m2 h t0 t1 n k i) s.heap (Jvm.Free.Multi.fill T (D.1 t0) (D.1 t1) n k (.int 0) i).heap (locs ++ (List.range i).map fun j => ⟨T.heap.size, j⟩) (cells + 1 + i) (slots + n + i * k)
  | 0, _ => by
    have hsz := hM.1.1
    have hP : HP D (tA h t0 n n) (T.pushCell (Jvm.Free.Multi.outerC (D.1 t0) n T.heap.size 0)).heap := by
      refine HP_new hM.1 (by simp) (fun q hq => State.heap_pushCell_of_lt _ _ hq) (by omega) ⟨fun cj hj e9 => (by omega), fun u b1 b2 e9 => (by omega), fun u b1 b2 e9 => ?_, fun h9 => (by omega), fun h9 => (by subst h9; omega)⟩
      subst e9
      rw [State.heap_pushCell_size, ← arrV_new]; rfl
    have h9 := HI_new hM ⟨by omega, by have := Nat.zero_le (n * k); omega⟩ (fun q hq => State.heap_pushCell_of_lt _ _ hq) hP
    simpa [Jvm.Free.Multi.fill, m2] using h9
  | i + 1, hi => by
    have ih := HI_m2 hM h34 h31 hz hw i (by omega)
    obtain ⟨f1, f2, f3, f4⟩ := Jvm.Free.Multi.fill_facts T (D.1 t0) (D.1 t1) n k (.int 0) i
    have hmul : i * k + k ≤ n * k := by
      have := Nat.mul_le_mul_right k (show i + 1 ≤ n from hi)
      rw [Nat.succ_mul] at this; exact this
    generalize hU : Jvm.Free.Multi.fill T (D.1 t0) (D.1 t1) n k (.int 0) i = U at ih f1 f2 f3 f4
    have hP : HP D (tA (m2 h t0 t1 n k i) t1 k k) (U.pushCell (Jvm.Free.Multi.innerC (D.1 t1) k (.int 0))).heap := by
      refine HP_new ih.1 (by simp) (fun q hq => State.heap_pushCell_of_lt _ _ hq) (by omega) ⟨fun cj hj e9 => (by omega), fun u b1 b2 e9 => ?_, fun u b1 b2 e9 => (by omega), fun h9 => (by omega), fun h9 => (by omega)⟩
      subst e9
      rw [State.heap_pushCell_size, ← arrV_new]; rfl
    have h9 := HI_new ih ⟨by rw [m2_g, m2_z]; omega, by rw [m2_g, m2_w]; omega⟩ (fun q hq => State.heap_pushCell_of_lt _ _ hq) hP
    have hlt0 : T.heap.size < U.heap.size := by rw [f1]; omega
    have hlt1 : T.heap.size < (U.pushCell (Jvm.Free.Multi.innerC (D.1 t1) k (.int 0))).heap.size := by simp; omega
    have hsz : T.heap.size = kZ h := hM.1.1
    have hsU : U.heap.size = kZ (m2 h t0 t1 n k i) := ih.1.1
    have ht : kT (tA (m2 h t0 t1 n k i) t1 k k) T.heap.size = t0 := by rw [kT_tA, if_neg (by rw [m2_z]; omega), hsz, m2_t]
    have hcell := (h9.1.2 T.heap.size).2.2.1 t0 h34.1 h34.2 ht
    rw [State.heap_pushCell_of_lt (h := hlt0), f2] at hcell
    have h10 := cwr_end (i := i) (v := U.heap.size) (H1 := ((U.pushCell (Jvm.Free.Multi.innerC (D.1 t1) k (.int 0))).setCell T.heap.size (Jvm.Free.Multi.outerC (D.1 t0) n T.heap.size (i + 1))).heap) h9 ht h34.1 h34.2 (by rw [kG_tA, m2_g, hM.2.1, hsz]; have := hM.2.2.2.2; omega) (by
        rw [← Option.some.inj hcell]
        have e1 : ((U.pushCell (Jvm.Free.Multi.innerC (D.1 t1) k (.int 0))).setCell T.heap.size (Jvm.Free.Multi.outerC (D.1 t0) n T.heap.size (i + 1))).heap[T.heap.size]? = some (Jvm.Free.Multi.outerC (D.1 t0) n T.heap.size (i + 1)) := heapAt_setCell_self _ hlt1
        rw [e1, f1]; rfl) (by simp [State.setCell]) (fun q hq => State.heap_setCell_other (Ne.symm hq))
    have e2 : (locs ++ (List.range (i + 1)).map fun j => (⟨T.heap.size, j⟩ : Loc)) = (locs ++ (List.range i).map fun j => (⟨T.heap.size, j⟩ : Loc)) ++ [⟨T.heap.size, i⟩] := by simp [List.range_succ, List.append_assoc]
    have e3 : slots + n + (i + 1) * k = slots + n + i * k + k := by rw [Nat.succ_mul]; omega
    rw [e2, e3]
    rw [hsU] at h10
    show HI D h0 (tR (tA (m2 h t0 t1 n k i) t1 k k) (kZ h) i (some (kZ (m2 h t0 t1 n k i)))) s.heap ((Jvm.Free.Multi.fill T (D.1 t0) (D.1 t1) n k (.int 0) i |>.pushCell (Jvm.Free.Multi.innerC (D.1 t1) k (.int 0))).setCell T.heap.size (Jvm.Free.Multi.outerC (D.1 t0) n T.heap.size (i + 1))).heap _ _ _
    rw [hU, ← hsz]
    exact h10
def fill3 (s : State) (cA cB cC : ClassId) (N K M : Nat) (dv : Value) : Nat → State × Cell
  | 0 => (s.pushCell { cls := cA, slots := Array.replicate N .null, vm := .none }, { cls := cA, slots := Array.replicate N .null, vm := .none })
  | i + 1 => ((Jvm.Free.Multi.fill (fill3 s cA cB cC N K M dv i).1 cB cC K M dv K).setCell s.heap.size ((fill3 s cA cB cC N K M dv i).2.setSlot i (.ref (fill3 s cA cB cC N K M dv i).1.heap.size)), (fill3 s cA cB cC N K M dv i).2.setSlot i (.ref (fill3 s cA cB cC N K M dv i).1.heap.size))
theorem fill3_facts (T : State) (cA cB cC : ClassId) (N K M : Nat) (dv : Value) : ∀ i, (fill3 T cA cB cC N K M dv i).1.heap.size = T.heap.size + 1 + i * (1 + K) ∧ (fill3 T cA cB cC N K M dv i).1.heap[T.heap.size]? = some (fill3 T cA cB cC N K M dv i).2 ∧
    (fill3 T cA cB cC N K M dv i).1.vm = T.vm ∧ (fill3 T cA cB cC N K M dv i).1.slotsUsed = T.slotsUsed + N + i * (K + K * M) ∧ (fill3 T cA cB cC N K M dv i).2.cls = cA ∧ (fill3 T cA cB cC N K M dv i).2.vm = .none ∧ (fill3 T cA cB cC N K M dv i).2.slots.size = N
  | 0 => ⟨by simp [fill3], by simp [fill3], rfl, by simp [fill3], rfl, rfl, by simp [fill3]⟩
  | i + 1 => by
    obtain ⟨a, b, d, u, c1, c2, c3⟩ := fill3_facts T cA cB cC N K M dv i
    obtain ⟨f1, f2, f3, f4⟩ := Jvm.Free.Multi.fill_facts (fill3 T cA cB cC N K M dv i).1 cB cC K M dv K
    have hlt : T.heap.size < (fill3 T cA cB cC N K M dv i).1.heap.size := by omega
    have hb := (Jvm.Free.Multi.fill_old (fill3 T cA cB cC N K M dv i).1 cB cC K M dv hlt K).trans b
    refine ⟨?_, State.heap_setCell_self hb, ?_, ?_, by simp [fill3, Cell.setSlot, c1], by simp [fill3, Cell.setSlot, c2], by simp [fill3, Cell.setSlot, c3]⟩
    · simp only [fill3, State.setCell]
      rw [Array.size_setIfInBounds, f1, a, Nat.succ_mul]; omega
    · show (Jvm.Free.Multi.fill (fill3 T cA cB cC N K M dv i).1 cB cC K M dv K).vm = _
      rw [f3, d]
    · show (Jvm.Free.Multi.fill (fill3 T cA cB cC N K M dv i).1 cB cC K M dv K).slotsUsed = _
      rw [f4, u, Nat.succ_mul]; omega
theorem fill3_setTop (T : State) (f : JFrame) (cA cB cC : ClassId) (N K M : Nat) (dv : Value) : ∀ i, fill3 (T.setTop f) cA cB cC N K M dv i = ((fill3 T cA cB cC N K M dv i).1.setTop f, (fill3 T cA cB cC N K M dv i).2)
  | 0 => rfl
  | i + 1 => by simp only [fill3, fill3_setTop T f cA cB cC N K M dv i, State.heap_setTop, Jvm.Free.Multi.fill_setTop, State.setCell_setTop]
theorem filled3 {T : State} {R : Room} (X : Stand p l e R s m args below meth c T locs cells slots) (cA cB cC : ClassId) (N K M : Nat) (dv : Value) :
    ∀ i, Stand p l e R s m args below meth c (fill3 T cA cB cC N K M dv i).1 locs (cells + 1 + i * (1 + K)) (slots + N + i * (K + K * M))
  | 0 => by
    have h := X.pushed { cls := cA, slots := Array.replicate N .null, vm := .none }
    simpa [fill3] using h
  | i + 1 => by
    have Xi := filled3 X cA cB cC N K M dv i
    obtain ⟨a, b, -⟩ := fill3_facts T cA cB cC N K M dv i
    have hlt : T.heap.size < (fill3 T cA cB cC N K M dv i).1.heap.size := by omega
    have hb := (Jvm.Free.Multi.fill_old (fill3 T cA cB cC N K M dv i).1 cB cC K M dv hlt K).trans b
    have h1 := Stand.filled Xi cB cC K M dv K
    have h2 := h1.dropFresh (fun x hx => by
      obtain ⟨j, -, rfl⟩ := List.mem_map.mp hx
      exact Xi.heapGrown)
    have h3 := h2.stored hb i (.ref (fill3 T cA cB cC N K M dv i).1.heap.size)
    have h4 := h3.dropFresh (fun x hx => by
      rw [List.mem_singleton.mp hx]
      exact X.heapGrown)
    have e1 : cells + 1 + (i + 1) * (1 + K) = cells + 1 + i * (1 + K) + 1 + K := by rw [Nat.succ_mul]; omega
    have e2 : slots + N + (i + 1) * (K + K * M) = slots + N + i * (K + K * M) + K + K * M := by rw [Nat.succ_mul]; omega
    rw [e1, e2]
    exact h4
theorem HI.drop {H0 H : Heap} {J : List Loc} (hM : HI D h0 h H0 H (locs ++ J) cells slots) : HI D h0 h H0 H locs cells slots := by
  obtain ⟨a1, a2, a3, a4, a5⟩ := hM
  exact ⟨a1, a2, a3, fun x hx => a4 x (List.mem_append_left _ hx), a5⟩
theorem HI_m3 {T : State} {n k j : Nat} (hM : HI D h0 h s.heap T.heap locs cells slots) (hz : kZ h + (1 + n * (1 + k)) ≤ kG h 1) (hw : kW h + (n + n * (k + k * j)) ≤ kG h 2) :
    ∀ i, i ≤ n → HI D h0 (m3 h n k j i) s.heap (fill3 T (D.1 35) (D.1 34) (D.1 31) n k j (.int 0) i).1.heap locs (cells + 1 + i * (1 + k)) (slots + n + i * (k + k * j))
  | 0, _ => by
    have hsz := hM.1.1
    have hP : HP D (tA h 35 n n) (T.pushCell { cls := D.1 35, slots := Array.replicate n .null, vm := .none }).heap := by
      refine HP_new hM.1 (by simp) (fun q hq => State.heap_pushCell_of_lt _ _ hq) (by omega) ⟨fun cj hj e9 => (by omega), fun u b1 b2 e9 => (by omega), fun u b1 b2 e9 => ?_, fun h9 => (by omega), fun h9 => (by omega)⟩
      subst e9
      rw [State.heap_pushCell_size, ← arrV_new]
    have h9 := HI_new hM ⟨by omega, by have := Nat.zero_le (n * (k + k * j)); omega⟩ (fun q hq => State.heap_pushCell_of_lt _ _ hq) hP
    simpa [fill3, m3] using h9
  | i + 1, hi => by
    have ih := HI_m3 hM hz hw i (by omega)
    obtain ⟨f1, f2, f3, f4, c1, c2, c3⟩ := fill3_facts T (D.1 35) (D.1 34) (D.1 31) n k j (.int 0) i
    have hm1 : i * (1 + k) + (1 + k) ≤ n * (1 + k) := by
      have := Nat.mul_le_mul_right (1 + k) (show i + 1 ≤ n from hi)
      rw [Nat.succ_mul] at this; exact this
    have hm2 : i * (k + k * j) + (k + k * j) ≤ n * (k + k * j) := by
      have := Nat.mul_le_mul_right (k + k * j) (show i + 1 ≤ n from hi)
      rw [Nat.succ_mul] at this; exact this
    have e8 : (fill3 T (D.1 35) (D.1 34) (D.1 31) n k j (.int 0) (i + 1)).1 = (Jvm.Free.Multi.fill (fill3 T (D.1 35) (D.1 34) (D.1 31) n k j (.int 0) i).1 (D.1 34) (D.1 31) k j (.int 0) k).setCell T.heap.size ((fill3 T (D.1 35) (D.1 34) (D.1 31) n k j (.int 0) i).2.setSlot i (.ref (fill3 T (D.1 35) (D.1 34) (D.1 31) n k j (.int 0) i).1.heap.size)) := rfl
    rw [e8]
    generalize (fill3 T (D.1 35) (D.1 34) (D.1 31) n k j (.int 0) i).1 = U at *
    generalize (fill3 T (D.1 35) (D.1 34) (D.1 31) n k j (.int 0) i).2 = C at *
    have hsz : T.heap.size = kZ h := hM.1.1
    have hsU : U.heap.size = kZ (m3 h n k j i) := ih.1.1
    have h2 := (HI_m2 (t0 := 34) (t1 := 31) (n := k) (k := j) ih (by decide) (by decide) (by rw [m3_z, m3_g]; omega) (by rw [m3_w, m3_g]; omega) k (Nat.le_refl _)).drop
    have hlt : T.heap.size < U.heap.size := by omega
    have hb := (Jvm.Free.Multi.fill_old U (D.1 34) (D.1 31) k j (.int 0) hlt k).trans f2
    have hfs := (Jvm.Free.Multi.fill_facts U (D.1 34) (D.1 31) k j (.int 0) k).1
    generalize Jvm.Free.Multi.fill U (D.1 34) (D.1 31) k j (.int 0) k = V at *
    have ht : kT (m2 (m3 h n k j i) 34 31 k j k) T.heap.size = 35 := by rw [m2_oT _ _ _ _ _ _ (by rw [← hsU]; exact hlt), hsz, m3_t]
    have hcell := (h2.1.2 T.heap.size).2.2.1 35 (by decide) (by decide) ht
    rw [hb] at hcell
    have h10 := cwr_end (i := i) (v := U.heap.size) (H1 := (V.setCell T.heap.size (C.setSlot i (.ref U.heap.size))).heap) h2 ht (by decide) (by decide) (by rw [m2_g, m3_g, hM.2.1, hsz]; have := hM.2.2.2.2; omega) (by
        rw [← Option.some.inj hcell]
        exact State.heap_setCell_self hb) (by simp [State.setCell]) (fun q hq => State.heap_setCell_other (Ne.symm hq))
    have e1 : cells + 1 + (i + 1) * (1 + k) = cells + 1 + i * (1 + k) + 1 + k := by rw [Nat.succ_mul]; omega
    have e2 : slots + n + (i + 1) * (k + k * j) = slots + n + i * (k + k * j) + k + k * j := by rw [Nat.succ_mul]; omega
    rw [e1, e2]
    have h11 := h10.drop
    rw [hsU] at h11
    rw [hsU]
    show HI D h0 (tR (m2 (m3 h n k j i) 34 31 k j k) (kZ h) i (some (kZ (m3 h n k j i)))) s.heap _ _ _ _
    rw [← hsz]
    exact h11
/-- what the machine makes of three counts -/
theorem wp_make3 {E : CtlPost} {d : Bool} {acts : List Action} {U : State} {cA cB cC cc : ClassId} {kA kB kC : Class} {t0 t1 type : FieldType} {x y z : Int32} (hkA : U.vm.classes[cA]? = some kA) (hkindA : kA.kind = .array cB t0) (href0 : t0.isReference = true)
    (hkB : U.vm.classes[cB]? = some kB) (hkindB : kB.kind = .array cC t1) (href1 : t1.isReference = true) (hkC : U.vm.classes[cC]? = some kC) (hkindC : kC.kind = .array cc type) (hx : ¬ x < 0) (hy : ¬ y < 0) (hz : ¬ z < 0)
    (hl0 : ¬ x.toNatClampNeg > e.platform.arrayLengthLimit) (hh0 : ¬ x.toNatClampNeg * componentBytes t0 > e.platform.maxHeapBytes) (hl1 : ¬ y.toNatClampNeg > e.platform.arrayLengthLimit) (hh1 : ¬ y.toNatClampNeg * componentBytes t1 > e.platform.maxHeapBytes)
    (hl2 : ¬ z.toNatClampNeg > e.platform.arrayLengthLimit) (hh2 : ¬ z.toNatClampNeg * componentBytes type > e.platform.maxHeapBytes) (hdf : fits type (defaultValue type) = true) (hdd : (defaultValue type).isDefault = true)
    (hc : U.heap.size + 1 + x.toNatClampNeg * (1 + y.toNatClampNeg) ≤ e.platform.maxCells) (hs : U.slotsUsed + x.toNatClampNeg + x.toNatClampNeg * (y.toNatClampNeg + y.toNatClampNeg * z.toNatClampNeg) ≤ e.platform.maxSlots)
    {Q : Addr → Pre} (hq : ∀ d' acts', Q U.heap.size d' acts' (fill3 U cA cB cC x.toNatClampNeg y.toNatClampNeg z.toNatClampNeg (defaultValue type) x.toNatClampNeg).1) : wp (Jvm.Op.multianewarray.make cA [x, y, z]) Q E e d acts U := by
  have hfind : ([y, z].find? (· < 0)) = none := by simp [hy, hz]
  rw [Jvm.Op.multianewarray.make]
  simp only [wp_bind', Jvm.W.ite, hx, if_false, wp_pure', Jvm.W.theClass, hkA, hkindA, Option.some.injEq, exists_eq_left']
  refine Jvm.Free.Multi.wp_newArray hkA hkindA hl0 hh0 (Jvm.Free.Multi.refFits href0 _ (Or.inl rfl)) rfl (by omega) (by have := Nat.zero_le (x.toNatClampNeg * (y.toNatClampNeg + y.toNatClampNeg * z.toNatClampNeg)); omega) ?_
  simp only [hfind]
  rw [ite_self, wp_bind', Std.Legacy.Range.forIn_eq_forIn_range']
  have hsz : ([:x.toNatClampNeg] : Std.Legacy.Range).size = x.toNatClampNeg := by simp [Std.Legacy.Range.size]
  rw [hsz]
  show wp (forIn (List.range' 0 x.toNatClampNeg 1) PUnit.unit _) _ E e d acts _
  refine wp_forIn_inv (fun rest s' => ∃ i, i ≤ x.toNatClampNeg ∧ rest = List.range' i (x.toNatClampNeg - i) ∧ s' = (fill3 U cA cB cC x.toNatClampNeg y.toNatClampNeg z.toNatClampNeg (defaultValue type) i).1) _ _ ⟨0, Nat.zero_le _, rfl, rfl⟩ ?_ ?_
  · rintro w rest s' d' acts' Q' ⟨i, hi, hl, rfl⟩ hnext
    have hlt : i < x.toNatClampNeg := by
      rcases Nat.lt_or_ge i x.toNatClampNeg with h | h
      · exact h
      · rw [show x.toNatClampNeg - i = 0 from by omega] at hl; simp at hl
    obtain ⟨rfl, hrest⟩ : w = i ∧ rest = List.range' (i + 1) (x.toNatClampNeg - (i + 1)) := by
      rw [show x.toNatClampNeg - i = (x.toNatClampNeg - (i + 1)) + 1 from by omega, List.range'_succ] at hl
      exact ⟨(List.cons.inj hl).1, (List.cons.inj hl).2⟩
    obtain ⟨f1, f2, f3, f4, c1, c2, c3⟩ := fill3_facts U cA cB cC x.toNatClampNeg y.toNatClampNeg z.toNatClampNeg (defaultValue type) w
    have hm1 : w * (1 + y.toNatClampNeg) + (1 + y.toNatClampNeg) ≤ x.toNatClampNeg * (1 + y.toNatClampNeg) := by
      have := Nat.mul_le_mul_right (1 + y.toNatClampNeg) (show w + 1 ≤ x.toNatClampNeg from hlt)
      rw [Nat.succ_mul] at this; exact this
    have hm2 : w * (y.toNatClampNeg + y.toNatClampNeg * z.toNatClampNeg) + (y.toNatClampNeg + y.toNatClampNeg * z.toNatClampNeg) ≤ x.toNatClampNeg * (y.toNatClampNeg + y.toNatClampNeg * z.toNatClampNeg) := by
      have := Nat.mul_le_mul_right (y.toNatClampNeg + y.toNatClampNeg * z.toNatClampNeg) (show w + 1 ≤ x.toNatClampNeg from hlt)
      rw [Nat.succ_mul] at this; exact this
    simp only [wp_bind']
    refine Jvm.Free.Multi.wp_make2 (by rw [f3]; exact hkB) hkindB href1 (by rw [f3]; exact hkC) hkindC hy hz hl1 hh1 hl2 hh2 hdf hdd (by rw [f1]; omega) (by rw [f4]; omega) fun d2 acts2 => ?_
    have hlt0 : U.heap.size < (fill3 U cA cB cC x.toNatClampNeg y.toNatClampNeg z.toNatClampNeg (defaultValue type) w).1.heap.size := by rw [f1]; omega
    have hb := (Jvm.Free.Multi.fill_old (fill3 U cA cB cC x.toNatClampNeg y.toNatClampNeg z.toNatClampNeg (defaultValue type) w).1 cB cC y.toNatClampNeg z.toNatClampNeg (defaultValue type) hlt0 y.toNatClampNeg).trans f2
    have hvm := (Jvm.Free.Multi.fill_facts (fill3 U cA cB cC x.toNatClampNeg y.toNatClampNeg z.toNatClampNeg (defaultValue type) w).1 cB cC y.toNatClampNeg z.toNatClampNeg (defaultValue type) y.toNatClampNeg).2.2.1
    simp only [wp_bind', Jvm.W.writeLoc, wp_pure']
    refine ⟨_, hb, by rw [c2]; simp, by rw [c3]; exact hlt, ?_, hnext _ _ _ ⟨w + 1, hlt, hrest, rfl⟩⟩
    rw [c1, c2]
    simp [State.fitsSlot, State.slotType?, hvm, f3, hkA, hkindA, Jvm.Free.Multi.refFits href0 _ (Or.inr ⟨_, rfl⟩)]
  · rintro s' d' acts' ⟨i, hi, hl, rfl⟩
    have hiN : i = x.toNatClampNeg := by
      rcases Nat.lt_or_ge i x.toNatClampNeg with h | h
      · rw [show x.toNatClampNeg - i = (x.toNatClampNeg - (i + 1)) + 1 from by omega, List.range'_succ] at hl; cases hl
      · omega
    subst hiN
    simp only [wp_pure']
    exact hq _ _
theorem nM2e {t0 t1 : Nat} {n k : Int32} {r : Nat × HS} (e : nM2 h t0 t1 n k = some r) : (¬ n < 0 ∧ ¬ k < 0 ∧ n.toNatClampNeg ≤ 100000 ∧ k.toNatClampNeg ≤ 100000 ∧ kZ h + (1 + n.toNatClampNeg) ≤ kG h 1 ∧ kW h + (n.toNatClampNeg + n.toNatClampNeg * k.toNatClampNeg) ≤ kG h 2) ∧ r = (kZ h, m2 h t0 t1 n.toNatClampNeg k.toNatClampNeg n.toNatClampNeg) := by
  unfold nM2 at e; split at e
  · exact ⟨by assumption, (Option.some.inj e).symm⟩
  · cases e
theorem nM3e {n k j : Int32} {r : Nat × HS} (e : nM3 h n k j = some r) : (¬ n < 0 ∧ ¬ k < 0 ∧ ¬ j < 0 ∧ n.toNatClampNeg ≤ 100000 ∧ k.toNatClampNeg ≤ 100000 ∧ j.toNatClampNeg ≤ 100000 ∧ kZ h + (1 + n.toNatClampNeg * (1 + k.toNatClampNeg)) ≤ kG h 1 ∧ kW h + (n.toNatClampNeg + n.toNatClampNeg * (k.toNatClampNeg + k.toNatClampNeg * j.toNatClampNeg)) ≤ kG h 2) ∧ r = (kZ h, m3 h n.toNatClampNeg k.toNatClampNeg j.toNatClampNeg n.toNatClampNeg) := by
  unfold nM3 at e; split at e
  · exact ⟨by assumption, (Option.some.inj e).symm⟩
  · cases e
/-- a table of two dimensions -/
theorem cm2 (S : CallFix p m c cc nL s args lw_all own) (hM : HI D h0 h s.heap H locs cells slots) {t0 t1 : Nat} {ty : FieldType} {index : Nat} {n k : Int32} {r : Nat × HS} (hv : nM2 h t0 t1 n k = some r) (hclink : Cond.classLink own index ("[" ++ (FieldType.array ty).toString) ∈ lw_all) (hover : va_Nw (.arrayOver (.array ty)) s) (harr : Cond.arrayClass ty ∈ lw_all)
    (h34 : 34 ≤ t0 ∧ t0 ≤ 40) (h31 : 31 ≤ t1 ∧ t1 ≤ 33) (hty : defaultValue ty = .int 0 ∧ fits ty (.int 0) = true ∧ componentBytes ty ≤ 4) (hA : s.vm.findClass ("[" ++ (FieldType.array ty).toString) = some (D.1 t0)) (hB : s.vm.findClass (FieldType.array ty).toString = some (D.1 t1)) (hdg : decode cc pc = .ok (.multianewarray index 2, 4))
    (kk : ∀ (H1 : Heap) (c1 s1 : Nat), HI D h0 r.2 s.heap H1 locs c1 s1 → W p l e (cR FR LO h0) s m args below meth c H1 locs c1 s1 Q (F0 m (pc + 4) ls (.ref r.1 :: rest))) : W p l e (cR FR LO h0) s m args below meth c H locs cells slots Q (F0 m pc ls (.int k :: .int n :: rest)) := by
  obtain ⟨⟨hn, hk, hl1, hl2, hz, hw⟩, rfl⟩ := nM2e hv
  obtain ⟨hd1, hd2, hd3⟩ := hty
  obtain ⟨g0, g1, g2, g3, g4, g5, g6, g7, g8⟩ := id hM
  have hz' := hz
  have hw' := hw
  rw [g1] at hz' hw'
  intro T hT X
  subst hT
  obtain ⟨vm₁, cA, comp, hW, hfA, hfC, -, -, X1, step⟩ := X.multianewarray2F (g := F0 m pc ls (.int k :: .int n :: rest)) S.1 S.2.2.2.1 (S.2.2.2.2 _ hclink) hover (S.2.2.2.2 _ harr) rfl (by rw [S.2.1]; exact hdg) rfl hn hk (by omega) (by
      have := Nat.mul_le_mul_left k.toNatClampNeg hd3
      omega) (by omega) (by rw [hd1]; exact hd2) (by rw [hd1]; rfl) (by show cells + _ ≤ kG h0 1 - kZ h0; omega) (by show slots + _ ≤ kG h0 2 - kW h0; omega)
  cases hfA.symm.trans hA
  cases hfC.symm.trans hB
  rw [hd1] at X1 step
  have hi := (HI_m2 (T := T.setVm vm₁) (t0 := t0) (t1 := t1) (n := n.toNatClampNeg) (k := k.toNatClampNeg) hM h34 h31 hz hw n.toNatClampNeg (Nat.le_refl _)).drop
  obtain ⟨t, a1, b1⟩ := kk _ _ _ hi _ rfl X1
  refine ⟨t, step t ?_, b1⟩
  have e9 : T.heap.size = kZ h := g0.1
  rw [e9]
  exact a1
/-- a table of three -/
theorem cm3 (S : CallFix p m c cc nL s args lw_all own) (hM : HI D h0 h s.heap H locs cells slots) {index : Nat} {n k j : Int32} {r : Nat × HS} (hv : nM3 h n k j = some r) (hclink : Cond.classLink own index "[[[I" ∈ lw_all) (hover : va_Nw (.arrayOver (.array (.array .int))) s) (hover2 : va_Nw (.arrayOver (.array .int)) s) (harr : Cond.arrayClass .int ∈ lw_all)
    (hA : s.vm.findClass "[[[I" = some (D.1 35)) (hB : s.vm.findClass "[[I" = some (D.1 34)) (hC : s.vm.findClass "[I" = some (D.1 31)) (hdg : decode cc pc = .ok (.multianewarray index 3, 4))
    (kk : ∀ (H1 : Heap) (c1 s1 : Nat), HI D h0 r.2 s.heap H1 locs c1 s1 → W p l e (cR FR LO h0) s m args below meth c H1 locs c1 s1 Q (F0 m (pc + 4) ls (.ref r.1 :: rest))) : W p l e (cR FR LO h0) s m args below meth c H locs cells slots Q (F0 m pc ls (.int j :: .int k :: .int n :: rest)) := by
  obtain ⟨⟨hn, hk, hj, hl1, hl2, hl3, hz, hw⟩, rfl⟩ := nM3e hv
  obtain ⟨g0, g1, g2, g3, g4, g5, g6, g7, g8⟩ := id hM
  have hz' := hz
  have hw' := hw
  rw [g1] at hz' hw'
  intro T hT X
  subst hT
  have hpl : e.platform.magicAccessors = ({} : Platform).magicAccessors := by rw [X.admits.platform]
  have ov1 : (Cond.arrayOver (.array (.array .int))).before args s = true := hover
  have ov2 : (Cond.arrayOver (.array .int)).before args s = true := hover2
  obtain ⟨compA, cA, kA, hcompA, hkA, hkindA, hnameA⟩ := Cond.arrayOver_specA ov1
  obtain ⟨compB, cB, kB, hcompB, hkB, hkindB, hnameB⟩ := Cond.arrayOver_specA ov2
  obtain ⟨compC, kC, cc9, hcompC, hkC, hkindC⟩ := Cond.arrayClass_spec (S.2.2.2.2 _ harr)
  have hfA : s.vm.findClass "[[[I" = some cA := hnameA
  have hfB : s.vm.findClass "[[I" = some cB := hnameB
  have hfB2 : s.vm.findClass "[[I" = some compA := hcompA
  have hfC : s.vm.findClass "[I" = some compB := hcompB
  have hfC2 : s.vm.findClass "[I" = some compC := hcompC
  cases hfA.symm.trans hA
  cases hfB.symm.trans hB
  cases hfB2.symm.trans hB
  cases hfC.symm.trans hC
  cases hfC2.symm.trans hC
  obtain ⟨c0, hfc0, hcl⟩ := Cond.classLink_spec S.2.2.2.1 (S.2.2.2.2 _ hclink) e.platform hpl
  cases hA.symm.trans hfc0
  obtain ⟨hg₁, hwarm₁, hready₁⟩ := State.classEntry (e := e) X.warmed hcl
  generalize T.vm.noted m.cls index (.cls (D.1 35)) = vm₁ at hg₁ hwarm₁ hready₁
  have hal : s.vm.Alike vm₁ := hwarm₁.alike
  obtain ⟨kA₁, hkA₁, heA⟩ := hal.2.2 _ _ hkA
  obtain ⟨kB₁, hkB₁, heB⟩ := hal.2.2 _ _ hkB
  obtain ⟨kC₁, hkC₁, heC⟩ := hal.2.2 _ _ hkC
  have hkindA₁ : kA₁.kind = .array (D.1 34) (.array (.array .int)) := by rw [heA]; exact hkindA
  have hkindB₁ : kB₁.kind = .array (D.1 31) (.array .int) := by rw [heB]; exact hkindB
  have hkindC₁ : kC₁.kind = .array cc9 .int := by rw [heC]; exact hkindC
  have X₁ := X.noted hwarm₁
  obtain ⟨hr1, hr2⟩ := X.roomAbove (show cells + (1 + n.toNatClampNeg * (1 + k.toNatClampNeg)) ≤ kG h0 1 - kZ h0 from by omega) (show slots + (n.toNatClampNeg + n.toNatClampNeg * (k.toNatClampNeg + k.toNatClampNeg * j.toNatClampNeg)) ≤ kG h0 2 - kW h0 from by omega)
  have XF := filled3 X₁ (D.1 35) (D.1 34) (D.1 31) n.toNatClampNeg k.toNatClampNeg j.toNatClampNeg (.int 0) n.toNatClampNeg
  have hi := HI_m3 (T := T.setVm vm₁) (n := n.toNatClampNeg) (k := k.toNatClampNeg) (j := j.toNatClampNeg) hM hz hw n.toNatClampNeg (Nat.le_refl _)
  obtain ⟨t, a1, b1⟩ := kk _ _ _ hi _ rfl XF
  refine ⟨t, ?_, b1⟩
  have e9 : T.heap.size = kZ h := g0.1
  have lim : ∀ w : Nat, w ≤ 100000 → ¬ w > e.platform.arrayLengthLimit := fun w hw9 => by rw [Launch.admits_arrayLengthLimit X.admits]; omega
  have lim2 : ∀ w : Nat, w ≤ 100000 → ¬ w * 4 > e.platform.maxHeapBytes := fun w hw9 => by rw [Launch.admits_maxHeapBytes X.admits]; omega
  have hdg' : decode c.code pc = .ok (.multianewarray index 3, 4) := by rw [S.2.1]; exact hdg
  jvm_step X.here [S.1, hdg']
  simp only [Jvm.Op.multianewarray.sem, wp_bind', Jvm.W.resolveClassAt_links (State.method?_setTop (F0 m pc ls (.int j :: .int k :: .int n :: rest)) X.here.top) hg₁]
  rw [Jvm.W.popN, if_neg (by decide)]
  refine ⟨F0 m pc ls (.int j :: .int k :: .int n :: rest), State.topJava?_setTop' (s := T.setVm vm₁) _ X.here.top, [.int n, .int k, .int j], rest, rfl, rfl, ?_⟩
  simp only [List.mapM_cons, List.mapM_nil, wp_bind', wp_pure']
  refine wp_make3 (kA := kA₁) (kB := kB₁) (kC := kC₁) (t0 := .array (.array .int)) (t1 := .array .int) (type := .int) hkA₁ hkindA₁ rfl hkB₁ hkindB₁ rfl hkC₁ hkindC₁ hn hk hj (lim _ hl1) (lim2 _ hl1) (lim _ hl2) (lim2 _ hl2) (lim _ hl3) (lim2 _ hl3) rfl rfl (by show T.heap.size + 1 + _ ≤ _; omega) (by show T.slotsUsed + _ + _ ≤ _; omega) (fun d' acts' => ?_)
  have eS : ((T.setTop (F0 m pc ls (.int j :: .int k :: .int n :: rest))).setVm vm₁).setTop (F0 m pc ls rest) = (T.setVm vm₁).setTop (F0 m pc ls rest) := by
    show ((T.setVm vm₁).setTop _).setTop _ = _
    rw [State.setTop_setTop]
  rw [eS, fill3_setTop, show defaultValue FieldType.int = Value.int 0 from rfl]
  simp only [wp_bind', Jvm.W.mark, Jvm.W.pushRef, State.topJava?_setTop' _ XF.here.top, Option.some.injEq, exists_eq_left', State.setTop_setTop, State.heap_setTop]
  intro acts
  simp [jvm, XF.here.top]
  rw [← e9] at a1
  exact a1
end MW
