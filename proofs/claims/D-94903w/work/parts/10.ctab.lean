/-! the component: classes by number, fields by number; what the tables say beside the lists -/
def TXF : u_T := fun k => match k with
  | 0 => ("RugReader$Fault", "kind", "I", true)
  | _ => ("RugReader$Fault", "place", "I", true)
def tyXF : Nat → FieldType := fun _ => .int
theorem nmXF : ∀ a, a < 2 → ∀ b, b < 2 → a ≠ b → (TXF a).2.1 ≠ (TXF b).2.1 := by decide +kernel
theorem tyXF_ok : ∀ k, k < 2 → parseFieldDescriptor (TXF k).2.2.1 = some (tyXF k) := by decide +kernel
theorem in_XF : ∀ w ∈ u_ws RX8 TXF 2, w ∈ lw_all := lw_in (u_ws RX8 TXF 2) [794, 796] (by decide +kernel) (by decide +kernel)
def TXN : u_T := fun _ => ("", "", "", false)
def tyXN : Nat → FieldType := fun _ => .int
theorem nmXN : ∀ a, a < 0 → ∀ b, b < 0 → a ≠ b → (TXN a).2.1 ≠ (TXN b).2.1 := fun a h => absurd h (Nat.not_lt_zero a)
theorem tyXN_ok : ∀ k, k < 0 → parseFieldDescriptor (TXN k).2.2.1 = some (tyXN k) := fun a h => absurd h (Nat.not_lt_zero a)
theorem in_XN : ∀ w ∈ u_ws RJ18 TXN 0, w ∈ lw_all := fun w h => by cases h
def cN (ci : Nat) : String := match ci with
  | 0 => RX1
  | 1 => RX2
  | 2 => RX3
  | 3 => RX4
  | 4 => RX7
  | 5 => RX12
  | 6 => RX13
  | 7 => RX8
  | 8 => RX10
  | 9 => RX11
  | 10 => RX15
  | 11 => RX16
  | 12 => RX17
  | 13 => RX18
  | 14 => RJ2
  | 15 => RJ5
  | 16 => RJ6
  | 17 => RJ16
  | 18 => RJ18
  | 19 => RX8
  | _ => RJ18
def cT (ci : Nat) : u_T := match ci with
  | 0 => TX1
  | 1 => TX2
  | 2 => TX3
  | 3 => TX4
  | 4 => TX7
  | 5 => TX12
  | 6 => TX13
  | 7 => TXF
  | 8 => TX10
  | 9 => TX11
  | 10 => TX15
  | 11 => TX16
  | 12 => TX17
  | 13 => TX18
  | 14 => TJ2
  | 15 => TJ5
  | 16 => TJ6
  | 17 => TJ16
  | 18 => TXN
  | 19 => TX8
  | _ => TJ18
def cnf (ci : Nat) : Nat := match ci with
  | 0 => 32
  | 1 => 10
  | 2 => 9
  | 3 => 3
  | 4 => 11
  | 5 => 17
  | 6 => 12
  | 7 => 2
  | 8 => 4
  | 9 => 4
  | 10 => 1
  | 11 => 1
  | 12 => 3
  | 13 => 3
  | 14 => 3
  | 15 => 4
  | 16 => 4
  | 17 => 1
  | 18 => 0
  | 19 => 8
  | _ => 6
def cty (ci : Nat) : Nat → FieldType := match ci with
  | 0 => tyX1
  | 1 => tyX2
  | 2 => tyX3
  | 3 => tyX4
  | 4 => tyX7
  | 5 => tyX12
  | 6 => tyX13
  | 7 => tyXF
  | 8 => tyX10
  | 9 => tyX11
  | 10 => tyX15
  | 11 => tyX16
  | 12 => tyX17
  | 13 => tyX18
  | 14 => tyJ2
  | 15 => tyJ5
  | 16 => tyJ6
  | 17 => tyJ16
  | 18 => tyXN
  | 19 => tyX8
  | _ => tyJ18
abbrev cCl : List vw_C := [(RX1, TX1, 32), (RX2, TX2, 10), (RX3, TX3, 9), (RX4, TX4, 3), (RX7, TX7, 11), (RX12, TX12, 17), (RX13, TX13, 12), (RX8, TXF, 2), (RX10, TX10, 4), (RX11, TX11, 4), (RX15, TX15, 1), (RX16, TX16, 1), (RX17, TX17, 3), (RX18, TX18, 3), (RJ2, TJ2, 3), (RJ5, TJ5, 4), (RJ6, TJ6, 4), (RJ16, TJ16, 1), (RJ18, TXN, 0), (RX8, TX8, 8), (RJ18, TJ18, 6)]
theorem cfacts (ci : Nat) (h : ci < 21) : cCl[ci]? = some (cN ci, cT ci, cnf ci) ∧ (∀ w ∈ u_ws (cN ci) (cT ci) (cnf ci), w ∈ lw_all) ∧ (∀ k, k < cnf ci → parseFieldDescriptor (cT ci k).2.2.1 = some (cty ci k)) ∧ ∀ a, a < cnf ci → ∀ b, b < cnf ci → a ≠ b → (cT ci a).2.1 ≠ (cT ci b).2.1 := by
  match ci, h with
  | 0, _ => exact ⟨rfl, in_X1, tyX1_ok, nmX1⟩
  | 1, _ => exact ⟨rfl, in_X2, tyX2_ok, nmX2⟩
  | 2, _ => exact ⟨rfl, in_X3, tyX3_ok, nmX3⟩
  | 3, _ => exact ⟨rfl, in_X4, tyX4_ok, nmX4⟩
  | 4, _ => exact ⟨rfl, in_X7, tyX7_ok, nmX7⟩
  | 5, _ => exact ⟨rfl, in_X12, tyX12_ok, nmX12⟩
  | 6, _ => exact ⟨rfl, in_X13, tyX13_ok, nmX13⟩
  | 7, _ => exact ⟨rfl, in_XF, tyXF_ok, nmXF⟩
  | 8, _ => exact ⟨rfl, in_X10, tyX10_ok, nmX10⟩
  | 9, _ => exact ⟨rfl, in_X11, tyX11_ok, nmX11⟩
  | 10, _ => exact ⟨rfl, in_X15, tyX15_ok, nmX15⟩
  | 11, _ => exact ⟨rfl, in_X16, tyX16_ok, nmX16⟩
  | 12, _ => exact ⟨rfl, in_X17, tyX17_ok, nmX17⟩
  | 13, _ => exact ⟨rfl, in_X18, tyX18_ok, nmX18⟩
  | 14, _ => exact ⟨rfl, in_J2, tyJ2_ok, nmJ2⟩
  | 15, _ => exact ⟨rfl, in_J5, tyJ5_ok, nmJ5⟩
  | 16, _ => exact ⟨rfl, in_J6, tyJ6_ok, nmJ6⟩
  | 17, _ => exact ⟨rfl, in_J16, tyJ16_ok, nmJ16⟩
  | 18, _ => exact ⟨rfl, in_XN, tyXN_ok, nmXN⟩
  | 19, _ => exact ⟨rfl, in_X8, tyX8_ok, nmX8⟩
  | 20, _ => exact ⟨rfl, in_J18, tyJ18_ok, nmJ18⟩
  | n + 21, h => exact absurd h (by omega)
abbrev cTy (D : va_G) : List (ClassId × FieldType) := [(D.1 31, .int), (D.1 32, .byte), (D.1 33, .boolean), (D.1 34, .array .int), (D.1 35, .array (.array .int)), (D.1 36, .object "RugReader$Rug"), (D.1 37, .object "RugReader$Kept"), (D.1 38, .array .boolean), (D.1 39, .object "java/lang/Object"), (D.1 40, .object "java/lang/Integer"), (D.1 41, .long)]
def nwF : List (String × Nat × String × String × String × String) := [("RugReader", 393, "RugReader$House", "wide", "I", "RugReader"), ("RugReader", 396, "RugReader$House", "high", "I", "RugReader"), ("RugReader", 262, "RugReader$House", "fade", "I", "RugReader"), ("RugReader", 133, "RugReader$House", "lines", "I", "RugReader"), ("RugReader", 419, "RugReader$House", "walls", "I", "RugReader"), ("RugReader", 144, "RugReader$House", "people", "Ljava/util/ArrayList;", "RugReader"), ("RugReader", 157, "RugReader$House", "ways", "Ljava/util/ArrayList;", "RugReader"), ("RugReader", 365, "RugReader$House", "doors", "Ljava/util/ArrayList;", "RugReader"), ("RugReader", 214, "RugReader$House", "wall", "[Z", "RugReader"), ("RugReader", 217, "RugReader$House", "door", "[Z", "RugReader"), ("RugReader", 242, "RugReader$Rug", "day", "I", "RugReader"), ("RugReader", 203, "RugReader$Rug", "who", "[I", "RugReader"), ("RugReader", 206, "RugReader$Rug", "sole", "[I", "RugReader"), ("RugReader", 208, "RugReader$Rug", "dir", "[I", "RugReader"), ("RugReader", 211, "RugReader$Rug", "old", "[I", "RugReader"), ("RugReader", 190, "RugReader$Rug", "walks", "[I", "RugReader"), ("RugReader", 414, "RugReader$Kept", "house", "LRugReader$House;", "RugReader"), ("RugReader", 415, "RugReader$Kept", "sentence", "LRugReader$Cond;", "RugReader"), ("RugReader", 416, "RugReader$Kept", "rug", "LRugReader$Rug;", "RugReader"), ("RugReader", 138, "RugReader$Fault", "kind", "I", "RugReader"), ("RugReader", 141, "RugReader$Fault", "place", "I", "RugReader"), ("RugReader", 174, "RugReader$Person", "weight", "I", "RugReader"), ("RugReader", 177, "RugReader$Person", "sole", "I", "RugReader"), ("RugReader", 180, "RugReader$Person", "pace", "I", "RugReader"), ("RugReader", 228, "RugReader$Way", "tuft", "[I", "RugReader"), ("RugReader", 225, "RugReader$Way", "steps", "I", "RugReader"), ("RugReader", 332, "RugReader$WalkReader", "why", "I", "RugReader"), ("RugReader", 343, "RugReader$WalkReader", "wrong", "I", "RugReader"), ("RugReader", 341, "RugReader$WalkReader", "tuft", "I", "RugReader"), ("RugReader", 335, "RugReader$WalkReader", "tufts", "I", "RugReader"), ("RugReader", 338, "RugReader$WalkReader", "minutes", "I", "RugReader"), ("RugReader", 405, "RugReader$SentenceReader", "ones", "I", "RugReader"), ("RugReader$WalkReader", 29, "RugReader$House", "people", "Ljava/util/ArrayList;", "RugReader"), ("RugReader$WalkReader", 54, "RugReader$House", "wall", "[Z", "RugReader"), ("RugReader$WalkReader", 90, "RugReader$Person", "pace", "I", "RugReader"), ("RugReader$SentenceReader", 91, "RugReader$House", "ways", "Ljava/util/ArrayList;", "RugReader"), ("RugReader$Trod", 19, "RugReader$House", "ways", "Ljava/util/ArrayList;", "RugReader"), ("RugReader$Trod", 13, "RugReader$Rug", "h", "LRugReader$House;", "RugReader"), ("RugReader$Than", 25, "RugReader$House", "people", "Ljava/util/ArrayList;", "RugReader"), ("RugReader$Than", 19, "RugReader$Rug", "h", "LRugReader$House;", "RugReader"), ("RugReader$Than", 39, "RugReader$Person", "weight", "I", "RugReader"), ("RugReader$Than", 42, "RugReader$Person", "sole", "I", "RugReader"), ("RugReader$Than", 45, "RugReader$Person", "pace", "I", "RugReader"), ("RugReader$House", 49, "RugReader", "EAST", "[I", "RugReader"), ("RugReader$House", 53, "RugReader", "SOUTH", "[I", "RugReader"), ("RugReader$Rug", 95, "RugReader$House", "fade", "I", "RugReader"), ("RugReader$Rug", 83, "RugReader$House", "people", "Ljava/util/ArrayList;", "RugReader"), ("RugReader$Rug", 63, "RugReader$House", "ways", "Ljava/util/ArrayList;", "RugReader"), ("RugReader$Rug", 106, "RugReader$Person", "weight", "I", "RugReader"), ("RugReader$Rug", 88, "RugReader$Person", "sole", "I", "RugReader"), ("RugReader$Rug", 80, "RugReader$Way", "tuft", "[I", "RugReader"), ("RugReader$Rug", 90, "RugReader$Way", "dir", "[I", "RugReader"), ("RugReader$Rug", 77, "RugReader$Way", "steps", "I", "RugReader"), ("RugReader$Reader", 114, "RugReader$House", "wide", "I", "RugReader"), ("RugReader$Reader", 121, "RugReader$House", "high", "I", "RugReader"), ("RugReader$HouseReader", 82, "RugReader$House", "wide", "I", "RugReader"), ("RugReader$HouseReader", 85, "RugReader$House", "high", "I", "RugReader"), ("RugReader$HouseReader", 89, "RugReader$House", "fade", "I", "RugReader"), ("RugReader$HouseReader", 33, "RugReader$House", "lines", "I", "RugReader"), ("RugReader$HouseReader", 129, "RugReader$House", "walls", "I", "RugReader"), ("RugReader$HouseReader", 95, "RugReader$House", "people", "Ljava/util/ArrayList;", "RugReader"), ("RugReader$HouseReader", 103, "RugReader$House", "ways", "Ljava/util/ArrayList;", "RugReader"), ("RugReader$HouseReader", 139, "RugReader$House", "doors", "Ljava/util/ArrayList;", "RugReader"), ("RugReader$HouseReader", 136, "RugReader$House", "wall", "[Z", "RugReader"), ("RugReader$HouseReader", 142, "RugReader$House", "door", "[Z", "RugReader"), ("RugReader$HouseReader", 161, "RugReader$Way", "steps", "I", "RugReader")]
def nwM : List (String × Nat × MethodName × String) := [("RugReader", 18, ⟨"RugReader$House", "<init>", "()V"⟩, "RugReader"), ("RugReader", 25, ⟨"RugReader$Rug", "<init>", "()V"⟩, "RugReader"), ("RugReader", 98, ⟨"RugReader$Kept", "<init>", "()V"⟩, "RugReader"), ("RugReader$Not", 1, ⟨"RugReader$Cond", "<init>", "()V"⟩, "RugReader"), ("RugReader$Trod", 1, ⟨"RugReader$Cond", "<init>", "()V"⟩, "RugReader"), ("RugReader$Than", 1, ⟨"RugReader$Cond", "<init>", "()V"⟩, "RugReader"), ("RugReader$Two", 1, ⟨"RugReader$Cond", "<init>", "()V"⟩, "RugReader"), ("RugReader$House", 38, ⟨"RugReader", "isIn", "(III)Z"⟩, "RugReader"), ("RugReader$Kept", 9, ⟨"RugReader$Rug", "<init>", "()V"⟩, "RugReader"), ("RugReader$Reader", 91, ⟨"RugReader", "isIn", "(III)Z"⟩, "RugReader"), ("RugReader$HouseReader", 11, ⟨"RugReader$House", "<init>", "()V"⟩, "RugReader"), ("RugReader$HouseReader", 66, ⟨"RugReader", "isOf", "(II)Z"⟩, "RugReader")]
def nwC : List (String × String) := [("java/lang/Throwable", "java/lang/Object"), ("java/lang/Integer", "java/lang/Object"), ("java/util/NoSuchElementException", "java/util/NoSuchElementException"), ("java/util/NoSuchElementException", "java/lang/Object"), ("java/util/ArrayList", "java/lang/Object"), ("java/lang/StringBuilder", "java/lang/Object"), ("java/lang/String", "java/lang/Object"), ("RugReader", "java/lang/Object"), ("RugReader$Person", "RugReader$Named"), ("RugReader$Person", "java/lang/Object"), ("RugReader$Way", "RugReader$Named"), ("RugReader$Way", "java/lang/Object"), ("RugReader$WalkReader", "java/lang/Object"), ("RugReader$SentenceReader", "java/lang/Object"), ("RugReader$Not", "java/lang/Object"), ("RugReader$Trod", "java/lang/Object"), ("RugReader$Than", "java/lang/Object"), ("RugReader$Two", "java/lang/Object"), ("RugReader$House", "java/lang/Object"), ("RugReader$Rug", "java/lang/Object"), ("RugReader$Kept", "java/lang/Object"), ("RugReaderModel", "java/lang/Object"), ("RugReader$HouseReader", "java/lang/Object"), ("RugReader$Fault", "RugReader$Fault"), ("RugReader$Fault", "java/lang/Object"), ("[B", "java/lang/Cloneable"), ("[B", "java/lang/Object"), ("[I", "java/lang/Object"), ("[J", "java/lang/Object"), ("[LRugReader$Kept;", "java/lang/Object"), ("[LRugReader$Rug;", "java/lang/Object"), ("[Ljava/lang/Object;", "java/lang/Object"), ("[Z", "java/lang/Object"), ("[[I", "java/lang/Object"), ("[[Z", "java/lang/Object"), ("[[[I", "java/lang/Object")]
def nwD : List MethodName := [⟨"java/lang/Throwable", "<init>", "()V"⟩, ⟨"java/lang/Throwable", "<init>", "(Ljava/lang/String;)V"⟩, ⟨"java/lang/Exception", "<init>", "()V"⟩, ⟨"java/lang/Exception", "<init>", "(Ljava/lang/String;)V"⟩, ⟨"java/lang/RuntimeException", "<init>", "()V"⟩, ⟨"java/lang/RuntimeException", "<init>", "(Ljava/lang/String;)V"⟩, ⟨"java/lang/Object", "getClass", "()Ljava/lang/Class;"⟩, ⟨"RugReader$Cond", "holds", "(LRugReader$Rug;I)Z"⟩, ⟨"RugReader$Reader", "go", "()V"⟩, ⟨"RugReader$Reader", "is", "(Ljava/lang/String;)Z"⟩, ⟨"RugReader$Reader", "need", "(ZI)V"⟩, ⟨"RugReader$Reader", "number", "(II)I"⟩, ⟨"RugReader$Reader", "isName", "()Z"⟩, ⟨"RugReader$Reader", "find", "(Ljava/util/ArrayList;)I"⟩, ⟨"RugReader$Reader", "holdTuft", "(LRugReader$House;)I"⟩, ⟨"RugReader$Reader", "direction", "()I"⟩, ⟨"RugReader$Reader", "hold", "(II)I"⟩, ⟨"RugReader$Reader", "end", "()V"⟩, ⟨"RugReader$Reader", "holdOne", "(Ljava/util/ArrayList;)I"⟩]
def nwP : List MethodName := [⟨"java/lang/AbstractStringBuilder", "ensureCapacityInternal", "(I)V"⟩, ⟨"java/lang/AbstractStringBuilder", "newCapacity", "(I)I"⟩, ⟨"java/lang/AbstractStringBuilder", "inflate", "()V"⟩, ⟨"java/lang/AbstractStringBuilder", "appendNull", "()Ljava/lang/AbstractStringBuilder;"⟩, ⟨"java/lang/AbstractStringBuilder", "putStringAt", "(ILjava/lang/String;)V"⟩, ⟨"java/lang/AbstractStringBuilder", "inflateIfNeededFor", "(Ljava/lang/String;)V"⟩, ⟨"RugReader$Reader", "byteAt", "(I)I"⟩]
def nwS : List (String × Nat × String × Nat) := [("RugReader$SentenceReader", 63, "not", 20), ("RugReader$SentenceReader", 65, "trod", 21), ("RugReader$SentenceReader", 48, "weight", 22), ("RugReader$SentenceReader", 50, "sole", 23), ("RugReader$SentenceReader", 52, "pace", 24), ("RugReader$SentenceReader", 54, "prints", 25), ("RugReader$SentenceReader", 56, "tufts", 26), ("RugReader$SentenceReader", 58, "place", 27), ("RugReader$SentenceReader", 47, "and", 28), ("RugReader$SentenceReader", 34, "or", 29), ("RugReader$Reader", 9, "", 30), ("RugReader$Reader", 76, " rug person wall door way fade n e s w or and not trod weight sole pace prints tufts place ", 31), ("RugReader$Reader", 78, " ", 32), ("RugReader$Reader", 102, "n", 33), ("RugReader$Reader", 108, "e", 34), ("RugReader$Reader", 110, "s", 35), ("RugReader$Reader", 112, "w", 36), ("RugReader$HouseReader", 36, "rug", 37), ("RugReader$HouseReader", 44, "person", 38), ("RugReader$HouseReader", 48, "wall", 39), ("RugReader$HouseReader", 52, "door", 40), ("RugReader$HouseReader", 56, "way", 41), ("RugReader$HouseReader", 88, "fade", 42)]
def nwA : List FieldType := [.array (.array .int), .array .int, .object "RugReader$Rug", .array .boolean, .object "RugReader$Kept", .object "java/lang/Object"]
def cNW (s : State) : Prop := (∀ t ∈ nwF, va_Nw (.fieldLinkNest t.1 t.2.1 t.2.2.1 t.2.2.2.1 t.2.2.2.2.1 t.2.2.2.2.2) s) ∧ (∀ t ∈ nwM, va_Nw (.methodLinkNest t.1 t.2.1 t.2.2.1 t.2.2.2) s) ∧ (∀ t ∈ nwC, va_Nw (.castable t.1 t.2) s) ∧ (∀ t ∈ nwD, va_Nw (.declares t) s) ∧ (∀ t ∈ nwA, va_Nw (.arrayOver t) s) ∧ ∀ t ∈ nwP, va_Nw (.privateMethod t) s
def cST (G : Nat → Nat) (s : State) (H : Heap) : Prop := (∀ t ∈ nwS, vk_R t.1 t.2.1 t.2.2.1 (G t.2.2.2) s) ∧ va_Z "RugReader" "EAST" "[I" (.ref (G 10)) (fun q => G 0 ≤ q) s H ∧ va_Z "RugReader" "SOUTH" "[I" (.ref (G 11)) (fun q => G 0 ≤ q) s H ∧ va_Z "java/util/ArrayList" "DEFAULTCAPACITY_EMPTY_ELEMENTDATA" "[Ljava/lang/Object;" (.ref (G 12)) (fun q => G 0 ≤ q) s H ∧ va_Z "java/lang/String" "COMPACT_STRINGS" "Z" (.int 1) (fun q => G 0 ≤ q) s H ∧ va_Z "java/lang/Integer$IntegerCache" "high" "I" (.int 127) (fun q => G 0 ≤ q) s H ∧ va_Z "java/lang/Integer$IntegerCache" "cache" "[Ljava/lang/Integer;" (.ref (G 13)) (fun q => G 0 ≤ q) s H
/-- where a static field lies (after the kit's exceptions paper) -/
def cLy (C n d : String) (A : Nat → Prop) (U : State) (H : Heap) : Prop := ∃ (c : ClassId) (k : Class) (i : Nat) (f : Field) (a : Nat) (cell : Cell), U.vm.findClass C = some c ∧ U.fieldFound? C n d = some (c, k, i, f) ∧ f.isStatic = true ∧ k.statics = some a ∧ H[a]? = some cell ∧ cell.vm.isStatics = true ∧ cell.cls = c ∧ f.slot < cell.slots.size ∧ k.staticTypes[f.slot]? = some f.type ∧ ¬ A a
theorem cLy.moved {C n d : String} {A : Nat → Prop} {u U : State} {H : Heap} (hvm : u.vm.Alike U.vm) (h : cLy C n d A u H) : cLy C n d A U H := by
  obtain ⟨c, k, i, f, a, cell, h1, h2, h3, h4, h5, h6, h7, h8, h9, h10⟩ := h
  obtain ⟨k', hi', he⟩ := State.fieldFound?_setVm hvm h2
  exact ⟨c, k', i, f, a, cell, by rw [hvm.findClass]; exact h1, hi', h3, by rw [he]; exact h4, h5, h6, h7, h8, by rw [he]; exact h9, h10⟩
theorem cLy.kept {C n d : String} {A : Nat → Prop} {U : State} {H H1 : Heap} (h : cLy C n d A U H) (hq : ∀ a : Nat, a < H.size → ¬ A a → H1[a]? = H[a]?) : cLy C n d A U H1 := by
  obtain ⟨c, k, i, f, a, cell, h1, h2, h3, h4, h5, h6, h7, h8, h9, h10⟩ := h
  exact ⟨c, k, i, f, a, cell, h1, h2, h3, h4, by rw [hq a (Array.getElem?_eq_some_iff.mp h5).1 h10]; exact h5, h6, h7, h8, h9, h10⟩
theorem cLy.word {C n d : String} {A : Nat → Prop} {s : State} {args : Array Value} (h : cLy C n d A s s.heap) : (Cond.laysStatic C n d).before args s = true := by
  obtain ⟨c, k, i, f, a, cell, h1, h2, h3, h4, h5, h6, h7, h8, h9, -⟩ := h
  show (Cond.laysStatic C n d).holds args s none s [] = true
  exact Cond.laysStatic_of h1 h2 h3 h4 h5 h6 h7 h8 h9
theorem cIsR {C n d : String} {v : Value} {A : Nat → Prop} {s : State} {args : Array Value} (h : va_Z C n d v A s s.heap) (hv : v.isRef = true) : (Cond.isRef (.static C n d)).before args s = true := by
  obtain ⟨cf, kf, fi, f, a, cell, h1, h2, h3, h4, h5, h6, h7, -⟩ := h
  have he : (Term.static C n d).eval args s none [] s = some v := by
    simp [Term.eval, State.fieldNamed?, h1, h2, h4, h5, h6, h7]
  simp only [Cond.before, Cond.holds, Cond.value, he]
  cases v <;> simp_all [Value.isRef]
theorem cIsRq {C n d : String} {A : Nat → Prop} {s : State} {args : Array Value} (h : va_Zq C n d A s s.heap) : (Cond.isRef (.static C n d)).before args s = true := by
  rcases h with h | ⟨t, h⟩
  · exact cIsR h rfl
  · exact cIsR h rfl
def CX (D : va_G) (G : Nat → Nat) (s : State) : Prop := va_K D cCl (cTy D) s ∧ cNW s ∧ cST G s s.heap ∧ va_Zq "java/lang/Throwable" "UNASSIGNED_STACK" "[Ljava/lang/StackTraceElement;" (fun q => G 0 ≤ q) s s.heap ∧ va_Zq "java/lang/Throwable" "SUPPRESSED_SENTINEL" "Ljava/util/List;" (fun q => G 0 ≤ q) s s.heap ∧ cLy "java/lang/Throwable" "UNASSIGNED_STACK" "[Ljava/lang/StackTraceElement;" (fun q => G 0 ≤ q) s s.heap ∧ cLy "java/lang/Throwable" "SUPPRESSED_SENTINEL" "Ljava/util/List;" (fun q => G 0 ≤ q) s s.heap
section UQ0
theorem cPM_moved {y : MethodName} {s U : State} (hW : s.WarmedH U.vm) (h : va_Nw (.privateMethod y) s) : va_Nw (.privateMethod y) U := va_tabs rfl (rfl : (s.setVm U.vm).vm = U.vm) (by rw [Cond.privateMethod_setVm hW.alike]; exact h)
theorem cAO_arr {t : FieldType} {s U : State} (hvm : s.vm.Alike U.vm) (h : va_Nw (.arrayOver (.array t)) s) : va_Nw (.arrayOver (.array t)) U := by
  unfold va_Nw Cond.before at h ⊢
  simp only [Cond.holds, Cond.value, beq_iff_eq] at h ⊢
  cases hc : s.vm.findClass (FieldType.array t).toString with
  | none => simp [hc] at h
  | some comp =>
    simp only [hc, Option.bind_some, Option.bind_eq_some_iff, Option.map_eq_some_iff] at h
    obtain ⟨c, hi, k, hk, hb⟩ := h
    obtain ⟨k', hk', he⟩ := hvm.2.2 _ _ hk
    have hi' : (U.vm.classes.findIdx? fun (x : Class) => match x.kind with | .array component _ => component == comp | _ => false) = some c := by
      have a := va_idx_bare U.vm comp
      have b := va_idx_bare s.vm comp
      have hbe : U.vm.bare = s.vm.bare := by first | exact hvm.bare_eq | exact hvm.bare_eq.symm
      rw [hbe] at a
      exact (a.symm.trans b).trans hi
    have f1 : U.vm.findClass (FieldType.array t).toString = some comp := by rw [hvm.findClass]; exact hc
    simp only [f1, Option.bind_some, Option.bind_eq_some_iff, Option.map_eq_some_iff]
    refine ⟨c, hi', k', hk', ?_⟩
    rw [he]
    simp only [hvm.findClass]
    exact hb
theorem cAO_moved {t : FieldType} {s U : State} (ht : t ∈ nwA) (hW : s.WarmedH U.vm) (h : va_Nw (.arrayOver t) s) : va_Nw (.arrayOver t) U := by
  simp only [nwA, List.mem_cons, List.not_mem_nil, or_false] at ht
  rcases ht with rfl | rfl | rfl | rfl | rfl | rfl
  · exact cAO_arr hW.alike h
  · exact cAO_arr hW.alike h
  · exact va_AO.moved hW.alike h
  · exact cAO_arr hW.alike h
  · exact va_AO.moved hW.alike h
  · exact va_AO.moved hW.alike h
end UQ0
section UQ
variable {D : va_G} {G : Nat → Nat} {s : State} {args : Array Value}
theorem uq186 (h : CX D G s) : (Cond.fieldLinkNest "RugReader" 393 "RugReader$House" "wide" "I" "RugReader").before args s = true := va_Nw.use rfl (h.2.1.1 ("RugReader", 393, "RugReader$House", "wide", "I", "RugReader") (List.mem_of_getElem? (i := 0) rfl))
theorem uq190 (h : CX D G s) : (Cond.fieldLinkNest "RugReader" 396 "RugReader$House" "high" "I" "RugReader").before args s = true := va_Nw.use rfl (h.2.1.1 ("RugReader", 396, "RugReader$House", "high", "I", "RugReader") (List.mem_of_getElem? (i := 1) rfl))
theorem uq194 (h : CX D G s) : (Cond.fieldLinkNest "RugReader" 262 "RugReader$House" "fade" "I" "RugReader").before args s = true := va_Nw.use rfl (h.2.1.1 ("RugReader", 262, "RugReader$House", "fade", "I", "RugReader") (List.mem_of_getElem? (i := 2) rfl))
theorem uq196 (h : CX D G s) : (Cond.fieldLinkNest "RugReader" 133 "RugReader$House" "lines" "I" "RugReader").before args s = true := va_Nw.use rfl (h.2.1.1 ("RugReader", 133, "RugReader$House", "lines", "I", "RugReader") (List.mem_of_getElem? (i := 3) rfl))
theorem uq198 (h : CX D G s) : (Cond.fieldLinkNest "RugReader" 419 "RugReader$House" "walls" "I" "RugReader").before args s = true := va_Nw.use rfl (h.2.1.1 ("RugReader", 419, "RugReader$House", "walls", "I", "RugReader") (List.mem_of_getElem? (i := 4) rfl))
theorem uq204 (h : CX D G s) : (Cond.fieldLinkNest "RugReader" 144 "RugReader$House" "people" "Ljava/util/ArrayList;" "RugReader").before args s = true := va_Nw.use rfl (h.2.1.1 ("RugReader", 144, "RugReader$House", "people", "Ljava/util/ArrayList;", "RugReader") (List.mem_of_getElem? (i := 5) rfl))
theorem uq210 (h : CX D G s) : (Cond.fieldLinkNest "RugReader" 157 "RugReader$House" "ways" "Ljava/util/ArrayList;" "RugReader").before args s = true := va_Nw.use rfl (h.2.1.1 ("RugReader", 157, "RugReader$House", "ways", "Ljava/util/ArrayList;", "RugReader") (List.mem_of_getElem? (i := 6) rfl))
theorem uq213 (h : CX D G s) : (Cond.fieldLinkNest "RugReader" 365 "RugReader$House" "doors" "Ljava/util/ArrayList;" "RugReader").before args s = true := va_Nw.use rfl (h.2.1.1 ("RugReader", 365, "RugReader$House", "doors", "Ljava/util/ArrayList;", "RugReader") (List.mem_of_getElem? (i := 7) rfl))
theorem uq217 (h : CX D G s) : (Cond.fieldLinkNest "RugReader" 214 "RugReader$House" "wall" "[Z" "RugReader").before args s = true := va_Nw.use rfl (h.2.1.1 ("RugReader", 214, "RugReader$House", "wall", "[Z", "RugReader") (List.mem_of_getElem? (i := 8) rfl))
theorem uq220 (h : CX D G s) : (Cond.fieldLinkNest "RugReader" 217 "RugReader$House" "door" "[Z" "RugReader").before args s = true := va_Nw.use rfl (h.2.1.1 ("RugReader", 217, "RugReader$House", "door", "[Z", "RugReader") (List.mem_of_getElem? (i := 9) rfl))
theorem uq256 (h : CX D G s) : (Cond.fieldLinkNest "RugReader" 242 "RugReader$Rug" "day" "I" "RugReader").before args s = true := va_Nw.use rfl (h.2.1.1 ("RugReader", 242, "RugReader$Rug", "day", "I", "RugReader") (List.mem_of_getElem? (i := 10) rfl))
theorem uq260 (h : CX D G s) : (Cond.fieldLinkNest "RugReader" 203 "RugReader$Rug" "who" "[I" "RugReader").before args s = true := va_Nw.use rfl (h.2.1.1 ("RugReader", 203, "RugReader$Rug", "who", "[I", "RugReader") (List.mem_of_getElem? (i := 11) rfl))
theorem uq262 (h : CX D G s) : (Cond.fieldLinkNest "RugReader" 206 "RugReader$Rug" "sole" "[I" "RugReader").before args s = true := va_Nw.use rfl (h.2.1.1 ("RugReader", 206, "RugReader$Rug", "sole", "[I", "RugReader") (List.mem_of_getElem? (i := 12) rfl))
theorem uq264 (h : CX D G s) : (Cond.fieldLinkNest "RugReader" 208 "RugReader$Rug" "dir" "[I" "RugReader").before args s = true := va_Nw.use rfl (h.2.1.1 ("RugReader", 208, "RugReader$Rug", "dir", "[I", "RugReader") (List.mem_of_getElem? (i := 13) rfl))
theorem uq266 (h : CX D G s) : (Cond.fieldLinkNest "RugReader" 211 "RugReader$Rug" "old" "[I" "RugReader").before args s = true := va_Nw.use rfl (h.2.1.1 ("RugReader", 211, "RugReader$Rug", "old", "[I", "RugReader") (List.mem_of_getElem? (i := 14) rfl))
theorem uq268 (h : CX D G s) : (Cond.fieldLinkNest "RugReader" 190 "RugReader$Rug" "walks" "[I" "RugReader").before args s = true := va_Nw.use rfl (h.2.1.1 ("RugReader", 190, "RugReader$Rug", "walks", "[I", "RugReader") (List.mem_of_getElem? (i := 15) rfl))
theorem uq313 (h : CX D G s) : (Cond.fieldLinkNest "RugReader" 414 "RugReader$Kept" "house" "LRugReader$House;" "RugReader").before args s = true := va_Nw.use rfl (h.2.1.1 ("RugReader", 414, "RugReader$Kept", "house", "LRugReader$House;", "RugReader") (List.mem_of_getElem? (i := 16) rfl))
theorem uq314 (h : CX D G s) : (Cond.fieldLinkNest "RugReader" 415 "RugReader$Kept" "sentence" "LRugReader$Cond;" "RugReader").before args s = true := va_Nw.use rfl (h.2.1.1 ("RugReader", 415, "RugReader$Kept", "sentence", "LRugReader$Cond;", "RugReader") (List.mem_of_getElem? (i := 17) rfl))
theorem uq316 (h : CX D G s) : (Cond.fieldLinkNest "RugReader" 416 "RugReader$Kept" "rug" "LRugReader$Rug;" "RugReader").before args s = true := va_Nw.use rfl (h.2.1.1 ("RugReader", 416, "RugReader$Kept", "rug", "LRugReader$Rug;", "RugReader") (List.mem_of_getElem? (i := 18) rfl))
theorem uq787 (h : CX D G s) : (Cond.fieldLinkNest "RugReader" 138 "RugReader$Fault" "kind" "I" "RugReader").before args s = true := va_Nw.use rfl (h.2.1.1 ("RugReader", 138, "RugReader$Fault", "kind", "I", "RugReader") (List.mem_of_getElem? (i := 19) rfl))
theorem uq789 (h : CX D G s) : (Cond.fieldLinkNest "RugReader" 141 "RugReader$Fault" "place" "I" "RugReader").before args s = true := va_Nw.use rfl (h.2.1.1 ("RugReader", 141, "RugReader$Fault", "place", "I", "RugReader") (List.mem_of_getElem? (i := 20) rfl))
theorem uq949 (h : CX D G s) : (Cond.fieldLinkNest "RugReader" 174 "RugReader$Person" "weight" "I" "RugReader").before args s = true := va_Nw.use rfl (h.2.1.1 ("RugReader", 174, "RugReader$Person", "weight", "I", "RugReader") (List.mem_of_getElem? (i := 21) rfl))
theorem uq953 (h : CX D G s) : (Cond.fieldLinkNest "RugReader" 177 "RugReader$Person" "sole" "I" "RugReader").before args s = true := va_Nw.use rfl (h.2.1.1 ("RugReader", 177, "RugReader$Person", "sole", "I", "RugReader") (List.mem_of_getElem? (i := 22) rfl))
theorem uq957 (h : CX D G s) : (Cond.fieldLinkNest "RugReader" 180 "RugReader$Person" "pace" "I" "RugReader").before args s = true := va_Nw.use rfl (h.2.1.1 ("RugReader", 180, "RugReader$Person", "pace", "I", "RugReader") (List.mem_of_getElem? (i := 23) rfl))
theorem uq1071 (h : CX D G s) : (Cond.fieldLinkNest "RugReader" 228 "RugReader$Way" "tuft" "[I" "RugReader").before args s = true := va_Nw.use rfl (h.2.1.1 ("RugReader", 228, "RugReader$Way", "tuft", "[I", "RugReader") (List.mem_of_getElem? (i := 24) rfl))
theorem uq1077 (h : CX D G s) : (Cond.fieldLinkNest "RugReader" 225 "RugReader$Way" "steps" "I" "RugReader").before args s = true := va_Nw.use rfl (h.2.1.1 ("RugReader", 225, "RugReader$Way", "steps", "I", "RugReader") (List.mem_of_getElem? (i := 25) rfl))
theorem uq1331 (h : CX D G s) : (Cond.fieldLinkNest "RugReader" 332 "RugReader$WalkReader" "why" "I" "RugReader").before args s = true := va_Nw.use rfl (h.2.1.1 ("RugReader", 332, "RugReader$WalkReader", "why", "I", "RugReader") (List.mem_of_getElem? (i := 26) rfl))
theorem uq1333 (h : CX D G s) : (Cond.fieldLinkNest "RugReader" 343 "RugReader$WalkReader" "wrong" "I" "RugReader").before args s = true := va_Nw.use rfl (h.2.1.1 ("RugReader", 343, "RugReader$WalkReader", "wrong", "I", "RugReader") (List.mem_of_getElem? (i := 27) rfl))
theorem uq1336 (h : CX D G s) : (Cond.fieldLinkNest "RugReader" 341 "RugReader$WalkReader" "tuft" "I" "RugReader").before args s = true := va_Nw.use rfl (h.2.1.1 ("RugReader", 341, "RugReader$WalkReader", "tuft", "I", "RugReader") (List.mem_of_getElem? (i := 28) rfl))
theorem uq1338 (h : CX D G s) : (Cond.fieldLinkNest "RugReader" 335 "RugReader$WalkReader" "tufts" "I" "RugReader").before args s = true := va_Nw.use rfl (h.2.1.1 ("RugReader", 335, "RugReader$WalkReader", "tufts", "I", "RugReader") (List.mem_of_getElem? (i := 29) rfl))
theorem uq1340 (h : CX D G s) : (Cond.fieldLinkNest "RugReader" 338 "RugReader$WalkReader" "minutes" "I" "RugReader").before args s = true := va_Nw.use rfl (h.2.1.1 ("RugReader", 338, "RugReader$WalkReader", "minutes", "I", "RugReader") (List.mem_of_getElem? (i := 30) rfl))
theorem uq1497 (h : CX D G s) : (Cond.fieldLinkNest "RugReader" 405 "RugReader$SentenceReader" "ones" "I" "RugReader").before args s = true := va_Nw.use rfl (h.2.1.1 ("RugReader", 405, "RugReader$SentenceReader", "ones", "I", "RugReader") (List.mem_of_getElem? (i := 31) rfl))
theorem uq201 (h : CX D G s) : (Cond.fieldLinkNest "RugReader$WalkReader" 29 "RugReader$House" "people" "Ljava/util/ArrayList;" "RugReader").before args s = true := va_Nw.use rfl (h.2.1.1 ("RugReader$WalkReader", 29, "RugReader$House", "people", "Ljava/util/ArrayList;", "RugReader") (List.mem_of_getElem? (i := 32) rfl))
theorem uq215 (h : CX D G s) : (Cond.fieldLinkNest "RugReader$WalkReader" 54 "RugReader$House" "wall" "[Z" "RugReader").before args s = true := va_Nw.use rfl (h.2.1.1 ("RugReader$WalkReader", 54, "RugReader$House", "wall", "[Z", "RugReader") (List.mem_of_getElem? (i := 33) rfl))
theorem uq956 (h : CX D G s) : (Cond.fieldLinkNest "RugReader$WalkReader" 90 "RugReader$Person" "pace" "I" "RugReader").before args s = true := va_Nw.use rfl (h.2.1.1 ("RugReader$WalkReader", 90, "RugReader$Person", "pace", "I", "RugReader") (List.mem_of_getElem? (i := 34) rfl))
theorem uq208 (h : CX D G s) : (Cond.fieldLinkNest "RugReader$SentenceReader" 91 "RugReader$House" "ways" "Ljava/util/ArrayList;" "RugReader").before args s = true := va_Nw.use rfl (h.2.1.1 ("RugReader$SentenceReader", 91, "RugReader$House", "ways", "Ljava/util/ArrayList;", "RugReader") (List.mem_of_getElem? (i := 35) rfl))
theorem uq206 (h : CX D G s) : (Cond.fieldLinkNest "RugReader$Trod" 19 "RugReader$House" "ways" "Ljava/util/ArrayList;" "RugReader").before args s = true := va_Nw.use rfl (h.2.1.1 ("RugReader$Trod", 19, "RugReader$House", "ways", "Ljava/util/ArrayList;", "RugReader") (List.mem_of_getElem? (i := 36) rfl))
theorem uq254 (h : CX D G s) : (Cond.fieldLinkNest "RugReader$Trod" 13 "RugReader$Rug" "h" "LRugReader$House;" "RugReader").before args s = true := va_Nw.use rfl (h.2.1.1 ("RugReader$Trod", 13, "RugReader$Rug", "h", "LRugReader$House;", "RugReader") (List.mem_of_getElem? (i := 37) rfl))
theorem uq200 (h : CX D G s) : (Cond.fieldLinkNest "RugReader$Than" 25 "RugReader$House" "people" "Ljava/util/ArrayList;" "RugReader").before args s = true := va_Nw.use rfl (h.2.1.1 ("RugReader$Than", 25, "RugReader$House", "people", "Ljava/util/ArrayList;", "RugReader") (List.mem_of_getElem? (i := 38) rfl))
theorem uq252 (h : CX D G s) : (Cond.fieldLinkNest "RugReader$Than" 19 "RugReader$Rug" "h" "LRugReader$House;" "RugReader").before args s = true := va_Nw.use rfl (h.2.1.1 ("RugReader$Than", 19, "RugReader$Rug", "h", "LRugReader$House;", "RugReader") (List.mem_of_getElem? (i := 39) rfl))
theorem uq947 (h : CX D G s) : (Cond.fieldLinkNest "RugReader$Than" 39 "RugReader$Person" "weight" "I" "RugReader").before args s = true := va_Nw.use rfl (h.2.1.1 ("RugReader$Than", 39, "RugReader$Person", "weight", "I", "RugReader") (List.mem_of_getElem? (i := 40) rfl))
theorem uq951 (h : CX D G s) : (Cond.fieldLinkNest "RugReader$Than" 42 "RugReader$Person" "sole" "I" "RugReader").before args s = true := va_Nw.use rfl (h.2.1.1 ("RugReader$Than", 42, "RugReader$Person", "sole", "I", "RugReader") (List.mem_of_getElem? (i := 41) rfl))
theorem uq955 (h : CX D G s) : (Cond.fieldLinkNest "RugReader$Than" 45 "RugReader$Person" "pace" "I" "RugReader").before args s = true := va_Nw.use rfl (h.2.1.1 ("RugReader$Than", 45, "RugReader$Person", "pace", "I", "RugReader") (List.mem_of_getElem? (i := 42) rfl))
theorem uq1113 (h : CX D G s) : (Cond.fieldLinkNest "RugReader$House" 49 "RugReader" "EAST" "[I" "RugReader").before args s = true := va_Nw.use rfl (h.2.1.1 ("RugReader$House", 49, "RugReader", "EAST", "[I", "RugReader") (List.mem_of_getElem? (i := 43) rfl))
theorem uq1115 (h : CX D G s) : (Cond.fieldLinkNest "RugReader$House" 53 "RugReader" "SOUTH" "[I" "RugReader").before args s = true := va_Nw.use rfl (h.2.1.1 ("RugReader$House", 53, "RugReader", "SOUTH", "[I", "RugReader") (List.mem_of_getElem? (i := 44) rfl))
theorem uq193 (h : CX D G s) : (Cond.fieldLinkNest "RugReader$Rug" 95 "RugReader$House" "fade" "I" "RugReader").before args s = true := va_Nw.use rfl (h.2.1.1 ("RugReader$Rug", 95, "RugReader$House", "fade", "I", "RugReader") (List.mem_of_getElem? (i := 45) rfl))
theorem uq203 (h : CX D G s) : (Cond.fieldLinkNest "RugReader$Rug" 83 "RugReader$House" "people" "Ljava/util/ArrayList;" "RugReader").before args s = true := va_Nw.use rfl (h.2.1.1 ("RugReader$Rug", 83, "RugReader$House", "people", "Ljava/util/ArrayList;", "RugReader") (List.mem_of_getElem? (i := 46) rfl))
theorem uq207 (h : CX D G s) : (Cond.fieldLinkNest "RugReader$Rug" 63 "RugReader$House" "ways" "Ljava/util/ArrayList;" "RugReader").before args s = true := va_Nw.use rfl (h.2.1.1 ("RugReader$Rug", 63, "RugReader$House", "ways", "Ljava/util/ArrayList;", "RugReader") (List.mem_of_getElem? (i := 47) rfl))
theorem uq948 (h : CX D G s) : (Cond.fieldLinkNest "RugReader$Rug" 106 "RugReader$Person" "weight" "I" "RugReader").before args s = true := va_Nw.use rfl (h.2.1.1 ("RugReader$Rug", 106, "RugReader$Person", "weight", "I", "RugReader") (List.mem_of_getElem? (i := 48) rfl))
theorem uq952 (h : CX D G s) : (Cond.fieldLinkNest "RugReader$Rug" 88 "RugReader$Person" "sole" "I" "RugReader").before args s = true := va_Nw.use rfl (h.2.1.1 ("RugReader$Rug", 88, "RugReader$Person", "sole", "I", "RugReader") (List.mem_of_getElem? (i := 49) rfl))
theorem uq1070 (h : CX D G s) : (Cond.fieldLinkNest "RugReader$Rug" 80 "RugReader$Way" "tuft" "[I" "RugReader").before args s = true := va_Nw.use rfl (h.2.1.1 ("RugReader$Rug", 80, "RugReader$Way", "tuft", "[I", "RugReader") (List.mem_of_getElem? (i := 50) rfl))
theorem uq1073 (h : CX D G s) : (Cond.fieldLinkNest "RugReader$Rug" 90 "RugReader$Way" "dir" "[I" "RugReader").before args s = true := va_Nw.use rfl (h.2.1.1 ("RugReader$Rug", 90, "RugReader$Way", "dir", "[I", "RugReader") (List.mem_of_getElem? (i := 51) rfl))
theorem uq1075 (h : CX D G s) : (Cond.fieldLinkNest "RugReader$Rug" 77 "RugReader$Way" "steps" "I" "RugReader").before args s = true := va_Nw.use rfl (h.2.1.1 ("RugReader$Rug", 77, "RugReader$Way", "steps", "I", "RugReader") (List.mem_of_getElem? (i := 52) rfl))
theorem uq185 (h : CX D G s) : (Cond.fieldLinkNest "RugReader$Reader" 114 "RugReader$House" "wide" "I" "RugReader").before args s = true := va_Nw.use rfl (h.2.1.1 ("RugReader$Reader", 114, "RugReader$House", "wide", "I", "RugReader") (List.mem_of_getElem? (i := 53) rfl))
theorem uq189 (h : CX D G s) : (Cond.fieldLinkNest "RugReader$Reader" 121 "RugReader$House" "high" "I" "RugReader").before args s = true := va_Nw.use rfl (h.2.1.1 ("RugReader$Reader", 121, "RugReader$House", "high", "I", "RugReader") (List.mem_of_getElem? (i := 54) rfl))
theorem uq184 (h : CX D G s) : (Cond.fieldLinkNest "RugReader$HouseReader" 82 "RugReader$House" "wide" "I" "RugReader").before args s = true := va_Nw.use rfl (h.2.1.1 ("RugReader$HouseReader", 82, "RugReader$House", "wide", "I", "RugReader") (List.mem_of_getElem? (i := 55) rfl))
theorem uq188 (h : CX D G s) : (Cond.fieldLinkNest "RugReader$HouseReader" 85 "RugReader$House" "high" "I" "RugReader").before args s = true := va_Nw.use rfl (h.2.1.1 ("RugReader$HouseReader", 85, "RugReader$House", "high", "I", "RugReader") (List.mem_of_getElem? (i := 56) rfl))
theorem uq192 (h : CX D G s) : (Cond.fieldLinkNest "RugReader$HouseReader" 89 "RugReader$House" "fade" "I" "RugReader").before args s = true := va_Nw.use rfl (h.2.1.1 ("RugReader$HouseReader", 89, "RugReader$House", "fade", "I", "RugReader") (List.mem_of_getElem? (i := 57) rfl))
theorem uq195 (h : CX D G s) : (Cond.fieldLinkNest "RugReader$HouseReader" 33 "RugReader$House" "lines" "I" "RugReader").before args s = true := va_Nw.use rfl (h.2.1.1 ("RugReader$HouseReader", 33, "RugReader$House", "lines", "I", "RugReader") (List.mem_of_getElem? (i := 58) rfl))
theorem uq197 (h : CX D G s) : (Cond.fieldLinkNest "RugReader$HouseReader" 129 "RugReader$House" "walls" "I" "RugReader").before args s = true := va_Nw.use rfl (h.2.1.1 ("RugReader$HouseReader", 129, "RugReader$House", "walls", "I", "RugReader") (List.mem_of_getElem? (i := 59) rfl))
theorem uq202 (h : CX D G s) : (Cond.fieldLinkNest "RugReader$HouseReader" 95 "RugReader$House" "people" "Ljava/util/ArrayList;" "RugReader").before args s = true := va_Nw.use rfl (h.2.1.1 ("RugReader$HouseReader", 95, "RugReader$House", "people", "Ljava/util/ArrayList;", "RugReader") (List.mem_of_getElem? (i := 60) rfl))
theorem uq209 (h : CX D G s) : (Cond.fieldLinkNest "RugReader$HouseReader" 103 "RugReader$House" "ways" "Ljava/util/ArrayList;" "RugReader").before args s = true := va_Nw.use rfl (h.2.1.1 ("RugReader$HouseReader", 103, "RugReader$House", "ways", "Ljava/util/ArrayList;", "RugReader") (List.mem_of_getElem? (i := 61) rfl))
theorem uq212 (h : CX D G s) : (Cond.fieldLinkNest "RugReader$HouseReader" 139 "RugReader$House" "doors" "Ljava/util/ArrayList;" "RugReader").before args s = true := va_Nw.use rfl (h.2.1.1 ("RugReader$HouseReader", 139, "RugReader$House", "doors", "Ljava/util/ArrayList;", "RugReader") (List.mem_of_getElem? (i := 62) rfl))
theorem uq216 (h : CX D G s) : (Cond.fieldLinkNest "RugReader$HouseReader" 136 "RugReader$House" "wall" "[Z" "RugReader").before args s = true := va_Nw.use rfl (h.2.1.1 ("RugReader$HouseReader", 136, "RugReader$House", "wall", "[Z", "RugReader") (List.mem_of_getElem? (i := 63) rfl))
theorem uq219 (h : CX D G s) : (Cond.fieldLinkNest "RugReader$HouseReader" 142 "RugReader$House" "door" "[Z" "RugReader").before args s = true := va_Nw.use rfl (h.2.1.1 ("RugReader$HouseReader", 142, "RugReader$House", "door", "[Z", "RugReader") (List.mem_of_getElem? (i := 64) rfl))
theorem uq1076 (h : CX D G s) : (Cond.fieldLinkNest "RugReader$HouseReader" 161 "RugReader$Way" "steps" "I" "RugReader").before args s = true := va_Nw.use rfl (h.2.1.1 ("RugReader$HouseReader", 161, "RugReader$Way", "steps", "I", "RugReader") (List.mem_of_getElem? (i := 65) rfl))
theorem uq152 (h : CX D G s) : va_Nw (Cond.methodLinkNest "RugReader" 18 ⟨"RugReader$House", "<init>", "()V"⟩ "RugReader") s := h.2.1.2.1 ("RugReader", 18, ⟨"RugReader$House", "<init>", "()V"⟩, "RugReader") (List.mem_of_getElem? (i := 0) rfl)
theorem uq245 (h : CX D G s) : va_Nw (Cond.methodLinkNest "RugReader" 25 ⟨"RugReader$Rug", "<init>", "()V"⟩ "RugReader") s := h.2.1.2.1 ("RugReader", 25, ⟨"RugReader$Rug", "<init>", "()V"⟩, "RugReader") (List.mem_of_getElem? (i := 1) rfl)
theorem uq307 (h : CX D G s) : va_Nw (Cond.methodLinkNest "RugReader" 98 ⟨"RugReader$Kept", "<init>", "()V"⟩ "RugReader") s := h.2.1.2.1 ("RugReader", 98, ⟨"RugReader$Kept", "<init>", "()V"⟩, "RugReader") (List.mem_of_getElem? (i := 2) rfl)
theorem uq1561 (h : CX D G s) : va_Nw (Cond.methodLinkNest "RugReader$Not" 1 ⟨"RugReader$Cond", "<init>", "()V"⟩ "RugReader") s := h.2.1.2.1 ("RugReader$Not", 1, ⟨"RugReader$Cond", "<init>", "()V"⟩, "RugReader") (List.mem_of_getElem? (i := 3) rfl)
theorem uq1581 (h : CX D G s) : va_Nw (Cond.methodLinkNest "RugReader$Trod" 1 ⟨"RugReader$Cond", "<init>", "()V"⟩ "RugReader") s := h.2.1.2.1 ("RugReader$Trod", 1, ⟨"RugReader$Cond", "<init>", "()V"⟩, "RugReader") (List.mem_of_getElem? (i := 4) rfl)
theorem uq1598 (h : CX D G s) : va_Nw (Cond.methodLinkNest "RugReader$Than" 1 ⟨"RugReader$Cond", "<init>", "()V"⟩ "RugReader") s := h.2.1.2.1 ("RugReader$Than", 1, ⟨"RugReader$Cond", "<init>", "()V"⟩, "RugReader") (List.mem_of_getElem? (i := 5) rfl)
theorem uq1615 (h : CX D G s) : va_Nw (Cond.methodLinkNest "RugReader$Two" 1 ⟨"RugReader$Cond", "<init>", "()V"⟩ "RugReader") s := h.2.1.2.1 ("RugReader$Two", 1, ⟨"RugReader$Cond", "<init>", "()V"⟩, "RugReader") (List.mem_of_getElem? (i := 6) rfl)
theorem uq1121 (h : CX D G s) : va_Nw (Cond.methodLinkNest "RugReader$House" 38 ⟨"RugReader", "isIn", "(III)Z"⟩ "RugReader") s := h.2.1.2.1 ("RugReader$House", 38, ⟨"RugReader", "isIn", "(III)Z"⟩, "RugReader") (List.mem_of_getElem? (i := 7) rfl)
theorem uq312 (h : CX D G s) : va_Nw (Cond.methodLinkNest "RugReader$Kept" 9 ⟨"RugReader$Rug", "<init>", "()V"⟩ "RugReader") s := h.2.1.2.1 ("RugReader$Kept", 9, ⟨"RugReader$Rug", "<init>", "()V"⟩, "RugReader") (List.mem_of_getElem? (i := 8) rfl)
theorem uq820 (h : CX D G s) : va_Nw (Cond.methodLinkNest "RugReader$Reader" 91 ⟨"RugReader", "isIn", "(III)Z"⟩ "RugReader") s := h.2.1.2.1 ("RugReader$Reader", 91, ⟨"RugReader", "isIn", "(III)Z"⟩, "RugReader") (List.mem_of_getElem? (i := 9) rfl)
theorem uq453 (h : CX D G s) : va_Nw (Cond.methodLinkNest "RugReader$HouseReader" 11 ⟨"RugReader$House", "<init>", "()V"⟩ "RugReader") s := h.2.1.2.1 ("RugReader$HouseReader", 11, ⟨"RugReader$House", "<init>", "()V"⟩, "RugReader") (List.mem_of_getElem? (i := 10) rfl)
theorem uq732 (h : CX D G s) : va_Nw (Cond.methodLinkNest "RugReader$HouseReader" 66 ⟨"RugReader", "isOf", "(II)Z"⟩ "RugReader") s := h.2.1.2.1 ("RugReader$HouseReader", 66, ⟨"RugReader", "isOf", "(II)Z"⟩, "RugReader") (List.mem_of_getElem? (i := 11) rfl)
theorem uq2377 (h : CX D G s) : va_Nw (Cond.castable "java/lang/Throwable" "java/lang/Object") s := h.2.1.2.2.1 ("java/lang/Throwable", "java/lang/Object") (List.mem_of_getElem? (i := 0) rfl)
theorem uq2368 (h : CX D G s) : va_Nw (Cond.castable "java/lang/Integer" "java/lang/Object") s := h.2.1.2.2.1 ("java/lang/Integer", "java/lang/Object") (List.mem_of_getElem? (i := 1) rfl)
theorem uq1697 (h : CX D G s) : va_Nw (Cond.castable "java/util/NoSuchElementException" "java/util/NoSuchElementException") s := h.2.1.2.2.1 ("java/util/NoSuchElementException", "java/util/NoSuchElementException") (List.mem_of_getElem? (i := 2) rfl)
theorem uq2370 (h : CX D G s) : va_Nw (Cond.castable "java/util/NoSuchElementException" "java/lang/Object") s := h.2.1.2.2.1 ("java/util/NoSuchElementException", "java/lang/Object") (List.mem_of_getElem? (i := 3) rfl)
theorem uq2361 (h : CX D G s) : va_Nw (Cond.castable "java/util/ArrayList" "java/lang/Object") s := h.2.1.2.2.1 ("java/util/ArrayList", "java/lang/Object") (List.mem_of_getElem? (i := 4) rfl)
theorem uq2364 (h : CX D G s) : va_Nw (Cond.castable "java/lang/StringBuilder" "java/lang/Object") s := h.2.1.2.2.1 ("java/lang/StringBuilder", "java/lang/Object") (List.mem_of_getElem? (i := 5) rfl)
theorem uq2365 (h : CX D G s) : va_Nw (Cond.castable "java/lang/String" "java/lang/Object") s := h.2.1.2.2.1 ("java/lang/String", "java/lang/Object") (List.mem_of_getElem? (i := 6) rfl)
theorem uq2359 (h : CX D G s) : va_Nw (Cond.castable "RugReader" "java/lang/Object") s := h.2.1.2.2.1 ("RugReader", "java/lang/Object") (List.mem_of_getElem? (i := 7) rfl)
theorem uq2355 (h : CX D G s) : va_Nw (Cond.castable "RugReader$Person" "RugReader$Named") s := h.2.1.2.2.1 ("RugReader$Person", "RugReader$Named") (List.mem_of_getElem? (i := 8) rfl)
theorem uq2367 (h : CX D G s) : va_Nw (Cond.castable "RugReader$Person" "java/lang/Object") s := h.2.1.2.2.1 ("RugReader$Person", "java/lang/Object") (List.mem_of_getElem? (i := 9) rfl)
theorem uq2356 (h : CX D G s) : va_Nw (Cond.castable "RugReader$Way" "RugReader$Named") s := h.2.1.2.2.1 ("RugReader$Way", "RugReader$Named") (List.mem_of_getElem? (i := 10) rfl)
theorem uq2369 (h : CX D G s) : va_Nw (Cond.castable "RugReader$Way" "java/lang/Object") s := h.2.1.2.2.1 ("RugReader$Way", "java/lang/Object") (List.mem_of_getElem? (i := 11) rfl)
theorem uq2371 (h : CX D G s) : va_Nw (Cond.castable "RugReader$WalkReader" "java/lang/Object") s := h.2.1.2.2.1 ("RugReader$WalkReader", "java/lang/Object") (List.mem_of_getElem? (i := 12) rfl)
theorem uq2372 (h : CX D G s) : va_Nw (Cond.castable "RugReader$SentenceReader" "java/lang/Object") s := h.2.1.2.2.1 ("RugReader$SentenceReader", "java/lang/Object") (List.mem_of_getElem? (i := 13) rfl)
theorem uq2373 (h : CX D G s) : va_Nw (Cond.castable "RugReader$Not" "java/lang/Object") s := h.2.1.2.2.1 ("RugReader$Not", "java/lang/Object") (List.mem_of_getElem? (i := 14) rfl)
theorem uq2374 (h : CX D G s) : va_Nw (Cond.castable "RugReader$Trod" "java/lang/Object") s := h.2.1.2.2.1 ("RugReader$Trod", "java/lang/Object") (List.mem_of_getElem? (i := 15) rfl)
theorem uq2375 (h : CX D G s) : va_Nw (Cond.castable "RugReader$Than" "java/lang/Object") s := h.2.1.2.2.1 ("RugReader$Than", "java/lang/Object") (List.mem_of_getElem? (i := 16) rfl)
theorem uq2376 (h : CX D G s) : va_Nw (Cond.castable "RugReader$Two" "java/lang/Object") s := h.2.1.2.2.1 ("RugReader$Two", "java/lang/Object") (List.mem_of_getElem? (i := 17) rfl)
theorem uq2360 (h : CX D G s) : va_Nw (Cond.castable "RugReader$House" "java/lang/Object") s := h.2.1.2.2.1 ("RugReader$House", "java/lang/Object") (List.mem_of_getElem? (i := 18) rfl)
theorem uq2357 (h : CX D G s) : va_Nw (Cond.castable "RugReader$Rug" "java/lang/Object") s := h.2.1.2.2.1 ("RugReader$Rug", "java/lang/Object") (List.mem_of_getElem? (i := 19) rfl)
theorem uq2358 (h : CX D G s) : va_Nw (Cond.castable "RugReader$Kept" "java/lang/Object") s := h.2.1.2.2.1 ("RugReader$Kept", "java/lang/Object") (List.mem_of_getElem? (i := 20) rfl)
theorem uq2362 (h : CX D G s) : va_Nw (Cond.castable "RugReaderModel" "java/lang/Object") s := h.2.1.2.2.1 ("RugReaderModel", "java/lang/Object") (List.mem_of_getElem? (i := 21) rfl)
theorem uq2363 (h : CX D G s) : va_Nw (Cond.castable "RugReader$HouseReader" "java/lang/Object") s := h.2.1.2.2.1 ("RugReader$HouseReader", "java/lang/Object") (List.mem_of_getElem? (i := 22) rfl)
theorem uq743 (h : CX D G s) : va_Nw (Cond.castable "RugReader$Fault" "RugReader$Fault") s := h.2.1.2.2.1 ("RugReader$Fault", "RugReader$Fault") (List.mem_of_getElem? (i := 23) rfl)
theorem uq2366 (h : CX D G s) : va_Nw (Cond.castable "RugReader$Fault" "java/lang/Object") s := h.2.1.2.2.1 ("RugReader$Fault", "java/lang/Object") (List.mem_of_getElem? (i := 24) rfl)
theorem uq583 (h : CX D G s) : va_Nw (Cond.castable "[B" "java/lang/Cloneable") s := h.2.1.2.2.1 ("[B", "java/lang/Cloneable") (List.mem_of_getElem? (i := 25) rfl)
theorem uq2381 (h : CX D G s) : va_Nw (Cond.castable "[B" "java/lang/Object") s := h.2.1.2.2.1 ("[B", "java/lang/Object") (List.mem_of_getElem? (i := 26) rfl)
theorem uq2385 (h : CX D G s) : va_Nw (Cond.castable "[I" "java/lang/Object") s := h.2.1.2.2.1 ("[I", "java/lang/Object") (List.mem_of_getElem? (i := 27) rfl)
theorem uq2390 (h : CX D G s) : va_Nw (Cond.castable "[J" "java/lang/Object") s := h.2.1.2.2.1 ("[J", "java/lang/Object") (List.mem_of_getElem? (i := 28) rfl)
theorem uq2388 (h : CX D G s) : va_Nw (Cond.castable "[LRugReader$Kept;" "java/lang/Object") s := h.2.1.2.2.1 ("[LRugReader$Kept;", "java/lang/Object") (List.mem_of_getElem? (i := 29) rfl)
theorem uq2386 (h : CX D G s) : va_Nw (Cond.castable "[LRugReader$Rug;" "java/lang/Object") s := h.2.1.2.2.1 ("[LRugReader$Rug;", "java/lang/Object") (List.mem_of_getElem? (i := 30) rfl)
theorem uq2389 (h : CX D G s) : va_Nw (Cond.castable "[Ljava/lang/Object;" "java/lang/Object") s := h.2.1.2.2.1 ("[Ljava/lang/Object;", "java/lang/Object") (List.mem_of_getElem? (i := 31) rfl)
theorem uq2382 (h : CX D G s) : va_Nw (Cond.castable "[Z" "java/lang/Object") s := h.2.1.2.2.1 ("[Z", "java/lang/Object") (List.mem_of_getElem? (i := 32) rfl)
theorem uq2384 (h : CX D G s) : va_Nw (Cond.castable "[[I" "java/lang/Object") s := h.2.1.2.2.1 ("[[I", "java/lang/Object") (List.mem_of_getElem? (i := 33) rfl)
theorem uq2387 (h : CX D G s) : va_Nw (Cond.castable "[[Z" "java/lang/Object") s := h.2.1.2.2.1 ("[[Z", "java/lang/Object") (List.mem_of_getElem? (i := 34) rfl)
theorem uq2383 (h : CX D G s) : va_Nw (Cond.castable "[[[I" "java/lang/Object") s := h.2.1.2.2.1 ("[[[I", "java/lang/Object") (List.mem_of_getElem? (i := 35) rfl)
theorem uq746 (h : CX D G s) : va_Nw (Cond.declares ⟨"java/lang/Throwable", "<init>", "()V"⟩) s := h.2.1.2.2.2.1 ⟨"java/lang/Throwable", "<init>", "()V"⟩ (List.mem_of_getElem? (i := 0) rfl)
theorem uq747 (h : CX D G s) : va_Nw (Cond.declares ⟨"java/lang/Throwable", "<init>", "(Ljava/lang/String;)V"⟩) s := h.2.1.2.2.2.1 ⟨"java/lang/Throwable", "<init>", "(Ljava/lang/String;)V"⟩ (List.mem_of_getElem? (i := 1) rfl)
theorem uq744 (h : CX D G s) : va_Nw (Cond.declares ⟨"java/lang/Exception", "<init>", "()V"⟩) s := h.2.1.2.2.2.1 ⟨"java/lang/Exception", "<init>", "()V"⟩ (List.mem_of_getElem? (i := 2) rfl)
theorem uq745 (h : CX D G s) : va_Nw (Cond.declares ⟨"java/lang/Exception", "<init>", "(Ljava/lang/String;)V"⟩) s := h.2.1.2.2.2.1 ⟨"java/lang/Exception", "<init>", "(Ljava/lang/String;)V"⟩ (List.mem_of_getElem? (i := 3) rfl)
theorem uq1698 (h : CX D G s) : va_Nw (Cond.declares ⟨"java/lang/RuntimeException", "<init>", "()V"⟩) s := h.2.1.2.2.2.1 ⟨"java/lang/RuntimeException", "<init>", "()V"⟩ (List.mem_of_getElem? (i := 4) rfl)
theorem uq1699 (h : CX D G s) : va_Nw (Cond.declares ⟨"java/lang/RuntimeException", "<init>", "(Ljava/lang/String;)V"⟩) s := h.2.1.2.2.2.1 ⟨"java/lang/RuntimeException", "<init>", "(Ljava/lang/String;)V"⟩ (List.mem_of_getElem? (i := 5) rfl)
theorem uq2380 (h : CX D G s) : va_Nw (Cond.declares ⟨"java/lang/Object", "getClass", "()Ljava/lang/Class;"⟩) s := h.2.1.2.2.2.1 ⟨"java/lang/Object", "getClass", "()Ljava/lang/Class;"⟩ (List.mem_of_getElem? (i := 6) rfl)
theorem uq1632 (h : CX D G s) : va_Nw (Cond.declares ⟨"RugReader$Cond", "holds", "(LRugReader$Rug;I)Z"⟩) s := h.2.1.2.2.2.1 ⟨"RugReader$Cond", "holds", "(LRugReader$Rug;I)Z"⟩ (List.mem_of_getElem? (i := 7) rfl)
theorem uq504 (h : CX D G s) : va_Nw (Cond.declares ⟨"RugReader$Reader", "go", "()V"⟩) s := h.2.1.2.2.2.1 ⟨"RugReader$Reader", "go", "()V"⟩ (List.mem_of_getElem? (i := 8) rfl)
theorem uq712 (h : CX D G s) : va_Nw (Cond.declares ⟨"RugReader$Reader", "is", "(Ljava/lang/String;)Z"⟩) s := h.2.1.2.2.2.1 ⟨"RugReader$Reader", "is", "(Ljava/lang/String;)Z"⟩ (List.mem_of_getElem? (i := 9) rfl)
theorem uq737 (h : CX D G s) : va_Nw (Cond.declares ⟨"RugReader$Reader", "need", "(ZI)V"⟩) s := h.2.1.2.2.2.1 ⟨"RugReader$Reader", "need", "(ZI)V"⟩ (List.mem_of_getElem? (i := 10) rfl)
theorem uq808 (h : CX D G s) : va_Nw (Cond.declares ⟨"RugReader$Reader", "number", "(II)I"⟩) s := h.2.1.2.2.2.1 ⟨"RugReader$Reader", "number", "(II)I"⟩ (List.mem_of_getElem? (i := 11) rfl)
theorem uq839 (h : CX D G s) : va_Nw (Cond.declares ⟨"RugReader$Reader", "isName", "()Z"⟩) s := h.2.1.2.2.2.1 ⟨"RugReader$Reader", "isName", "()Z"⟩ (List.mem_of_getElem? (i := 12) rfl)
theorem uq919 (h : CX D G s) : va_Nw (Cond.declares ⟨"RugReader$Reader", "find", "(Ljava/util/ArrayList;)I"⟩) s := h.2.1.2.2.2.1 ⟨"RugReader$Reader", "find", "(Ljava/util/ArrayList;)I"⟩ (List.mem_of_getElem? (i := 13) rfl)
theorem uq1028 (h : CX D G s) : va_Nw (Cond.declares ⟨"RugReader$Reader", "holdTuft", "(LRugReader$House;)I"⟩) s := h.2.1.2.2.2.1 ⟨"RugReader$Reader", "holdTuft", "(LRugReader$House;)I"⟩ (List.mem_of_getElem? (i := 14) rfl)
theorem uq1088 (h : CX D G s) : va_Nw (Cond.declares ⟨"RugReader$Reader", "direction", "()I"⟩) s := h.2.1.2.2.2.1 ⟨"RugReader$Reader", "direction", "()I"⟩ (List.mem_of_getElem? (i := 15) rfl)
theorem uq1099 (h : CX D G s) : va_Nw (Cond.declares ⟨"RugReader$Reader", "hold", "(II)I"⟩) s := h.2.1.2.2.2.1 ⟨"RugReader$Reader", "hold", "(II)I"⟩ (List.mem_of_getElem? (i := 16) rfl)
theorem uq1133 (h : CX D G s) : va_Nw (Cond.declares ⟨"RugReader$Reader", "end", "()V"⟩) s := h.2.1.2.2.2.1 ⟨"RugReader$Reader", "end", "()V"⟩ (List.mem_of_getElem? (i := 17) rfl)
theorem uq1377 (h : CX D G s) : va_Nw (Cond.declares ⟨"RugReader$Reader", "holdOne", "(Ljava/util/ArrayList;)I"⟩) s := h.2.1.2.2.2.1 ⟨"RugReader$Reader", "holdOne", "(Ljava/util/ArrayList;)I"⟩ (List.mem_of_getElem? (i := 18) rfl)
theorem uq557 (h : CX D G s) : va_Nw (Cond.privateMethod ⟨"java/lang/AbstractStringBuilder", "ensureCapacityInternal", "(I)V"⟩) s := h.2.1.2.2.2.2.2 ⟨"java/lang/AbstractStringBuilder", "ensureCapacityInternal", "(I)V"⟩ (List.mem_of_getElem? (i := 0) rfl)
theorem uq561 (h : CX D G s) : va_Nw (Cond.privateMethod ⟨"java/lang/AbstractStringBuilder", "newCapacity", "(I)I"⟩) s := h.2.1.2.2.2.2.2 ⟨"java/lang/AbstractStringBuilder", "newCapacity", "(I)I"⟩ (List.mem_of_getElem? (i := 1) rfl)
theorem uq600 (h : CX D G s) : va_Nw (Cond.privateMethod ⟨"java/lang/AbstractStringBuilder", "inflate", "()V"⟩) s := h.2.1.2.2.2.2.2 ⟨"java/lang/AbstractStringBuilder", "inflate", "()V"⟩ (List.mem_of_getElem? (i := 2) rfl)
theorem uq853 (h : CX D G s) : va_Nw (Cond.privateMethod ⟨"java/lang/AbstractStringBuilder", "appendNull", "()Ljava/lang/AbstractStringBuilder;"⟩) s := h.2.1.2.2.2.2.2 ⟨"java/lang/AbstractStringBuilder", "appendNull", "()Ljava/lang/AbstractStringBuilder;"⟩ (List.mem_of_getElem? (i := 3) rfl)
theorem uq877 (h : CX D G s) : va_Nw (Cond.privateMethod ⟨"java/lang/AbstractStringBuilder", "putStringAt", "(ILjava/lang/String;)V"⟩) s := h.2.1.2.2.2.2.2 ⟨"java/lang/AbstractStringBuilder", "putStringAt", "(ILjava/lang/String;)V"⟩ (List.mem_of_getElem? (i := 4) rfl)
theorem uq881 (h : CX D G s) : va_Nw (Cond.privateMethod ⟨"java/lang/AbstractStringBuilder", "inflateIfNeededFor", "(Ljava/lang/String;)V"⟩) s := h.2.1.2.2.2.2.2 ⟨"java/lang/AbstractStringBuilder", "inflateIfNeededFor", "(Ljava/lang/String;)V"⟩ (List.mem_of_getElem? (i := 5) rfl)
theorem uq509 (h : CX D G s) : va_Nw (Cond.privateMethod ⟨"RugReader$Reader", "byteAt", "(I)I"⟩) s := h.2.1.2.2.2.2.2 ⟨"RugReader$Reader", "byteAt", "(I)I"⟩ (List.mem_of_getElem? (i := 6) rfl)
theorem uq1534 (h : CX D G s) : vk_R "RugReader$SentenceReader" 63 "not" (G 20) s := h.2.2.1.1 ("RugReader$SentenceReader", 63, "not", 20) (List.mem_of_getElem? (i := 0) rfl)
theorem uq1538 (h : CX D G s) : vk_R "RugReader$SentenceReader" 65 "trod" (G 21) s := h.2.2.1.1 ("RugReader$SentenceReader", 65, "trod", 21) (List.mem_of_getElem? (i := 1) rfl)
theorem uq1543 (h : CX D G s) : vk_R "RugReader$SentenceReader" 48 "weight" (G 22) s := h.2.2.1.1 ("RugReader$SentenceReader", 48, "weight", 22) (List.mem_of_getElem? (i := 2) rfl)
theorem uq1544 (h : CX D G s) : vk_R "RugReader$SentenceReader" 50 "sole" (G 23) s := h.2.2.1.1 ("RugReader$SentenceReader", 50, "sole", 23) (List.mem_of_getElem? (i := 3) rfl)
theorem uq1545 (h : CX D G s) : vk_R "RugReader$SentenceReader" 52 "pace" (G 24) s := h.2.2.1.1 ("RugReader$SentenceReader", 52, "pace", 24) (List.mem_of_getElem? (i := 4) rfl)
theorem uq1546 (h : CX D G s) : vk_R "RugReader$SentenceReader" 54 "prints" (G 25) s := h.2.2.1.1 ("RugReader$SentenceReader", 54, "prints", 25) (List.mem_of_getElem? (i := 5) rfl)
theorem uq1547 (h : CX D G s) : vk_R "RugReader$SentenceReader" 56 "tufts" (G 26) s := h.2.2.1.1 ("RugReader$SentenceReader", 56, "tufts", 26) (List.mem_of_getElem? (i := 6) rfl)
theorem uq1548 (h : CX D G s) : vk_R "RugReader$SentenceReader" 58 "place" (G 27) s := h.2.2.1.1 ("RugReader$SentenceReader", 58, "place", 27) (List.mem_of_getElem? (i := 7) rfl)
theorem uq1609 (h : CX D G s) : vk_R "RugReader$SentenceReader" 47 "and" (G 28) s := h.2.2.1.1 ("RugReader$SentenceReader", 47, "and", 28) (List.mem_of_getElem? (i := 8) rfl)
theorem uq1626 (h : CX D G s) : vk_R "RugReader$SentenceReader" 34 "or" (G 29) s := h.2.2.1.1 ("RugReader$SentenceReader", 34, "or", 29) (List.mem_of_getElem? (i := 9) rfl)
theorem uq451 (h : CX D G s) : vk_R "RugReader$Reader" 9 "" (G 30) s := h.2.2.1.1 ("RugReader$Reader", 9, "", 30) (List.mem_of_getElem? (i := 10) rfl)
theorem uq843 (h : CX D G s) : vk_R "RugReader$Reader" 76 " rug person wall door way fade n e s w or and not trod weight sole pace prints tufts place " (G 31) s := h.2.2.1.1 ("RugReader$Reader", 76, " rug person wall door way fade n e s w or and not trod weight sole pace prints tufts place ", 31) (List.mem_of_getElem? (i := 11) rfl)
theorem uq844 (h : CX D G s) : vk_R "RugReader$Reader" 78 " " (G 32) s := h.2.2.1.1 ("RugReader$Reader", 78, " ", 32) (List.mem_of_getElem? (i := 12) rfl)
theorem uq1092 (h : CX D G s) : vk_R "RugReader$Reader" 102 "n" (G 33) s := h.2.2.1.1 ("RugReader$Reader", 102, "n", 33) (List.mem_of_getElem? (i := 13) rfl)
theorem uq1094 (h : CX D G s) : vk_R "RugReader$Reader" 108 "e" (G 34) s := h.2.2.1.1 ("RugReader$Reader", 108, "e", 34) (List.mem_of_getElem? (i := 14) rfl)
theorem uq1095 (h : CX D G s) : vk_R "RugReader$Reader" 110 "s" (G 35) s := h.2.2.1.1 ("RugReader$Reader", 110, "s", 35) (List.mem_of_getElem? (i := 15) rfl)
theorem uq1096 (h : CX D G s) : vk_R "RugReader$Reader" 112 "w" (G 36) s := h.2.2.1.1 ("RugReader$Reader", 112, "w", 36) (List.mem_of_getElem? (i := 16) rfl)
theorem uq709 (h : CX D G s) : vk_R "RugReader$HouseReader" 36 "rug" (G 37) s := h.2.2.1.1 ("RugReader$HouseReader", 36, "rug", 37) (List.mem_of_getElem? (i := 17) rfl)
theorem uq824 (h : CX D G s) : vk_R "RugReader$HouseReader" 44 "person" (G 38) s := h.2.2.1.1 ("RugReader$HouseReader", 44, "person", 38) (List.mem_of_getElem? (i := 18) rfl)
theorem uq1021 (h : CX D G s) : vk_R "RugReader$HouseReader" 48 "wall" (G 39) s := h.2.2.1.1 ("RugReader$HouseReader", 48, "wall", 39) (List.mem_of_getElem? (i := 19) rfl)
theorem uq1033 (h : CX D G s) : vk_R "RugReader$HouseReader" 52 "door" (G 40) s := h.2.2.1.1 ("RugReader$HouseReader", 52, "door", 40) (List.mem_of_getElem? (i := 20) rfl)
theorem uq1058 (h : CX D G s) : vk_R "RugReader$HouseReader" 56 "way" (G 41) s := h.2.2.1.1 ("RugReader$HouseReader", 56, "way", 41) (List.mem_of_getElem? (i := 21) rfl)
theorem uq1130 (h : CX D G s) : vk_R "RugReader$HouseReader" 88 "fade" (G 42) s := h.2.2.1.1 ("RugReader$HouseReader", 88, "fade", 42) (List.mem_of_getElem? (i := 22) rfl)
theorem ust0 (h : CX D G s) : va_Z "RugReader" "EAST" "[I" (.ref (G 10)) (fun q => G 0 ≤ q) s s.heap := h.2.2.1.2.1
theorem ust1 (h : CX D G s) : va_Z "RugReader" "SOUTH" "[I" (.ref (G 11)) (fun q => G 0 ≤ q) s s.heap := h.2.2.1.2.2.1
theorem ust2 (h : CX D G s) : va_Z "java/util/ArrayList" "DEFAULTCAPACITY_EMPTY_ELEMENTDATA" "[Ljava/lang/Object;" (.ref (G 12)) (fun q => G 0 ≤ q) s s.heap := h.2.2.1.2.2.2.1
theorem ust3 (h : CX D G s) : va_Z "java/lang/String" "COMPACT_STRINGS" "Z" (.int 1) (fun q => G 0 ≤ q) s s.heap := h.2.2.1.2.2.2.2.1
theorem ust4 (h : CX D G s) : va_Z "java/lang/Integer$IntegerCache" "high" "I" (.int 127) (fun q => G 0 ≤ q) s s.heap := h.2.2.1.2.2.2.2.2.1
theorem ust5 (h : CX D G s) : va_Z "java/lang/Integer$IntegerCache" "cache" "[Ljava/lang/Integer;" (.ref (G 13)) (fun q => G 0 ≤ q) s s.heap := h.2.2.1.2.2.2.2.2.2
theorem CX.moved {U : State} (hW : s.WarmedH U.vm) (hq : ∀ q : Nat, q < G 0 → U.heap[q]? = s.heap[q]?) (h : CX D G s) : CX D G U := by
  obtain ⟨h1, ⟨a1, a2, a3, a4, a5, a6⟩, ⟨b0, b1, b2, b3, b4, b5, b6⟩, c1, c2, c3, c4⟩ := h
  have hk : ∀ a : Nat, a < s.heap.size → ¬ G 0 ≤ a → U.heap[a]? = s.heap[a]? := fun a _ hn => hq a (by omega)
  refine ⟨va_K.moved hW.alike h1, ⟨fun t ht => va_Nw.warmF hW (a1 t ht), fun t ht => va_Nw.warmM hW (a2 t ht), fun t ht => va_Nw.warmC hW (a3 t ht), fun t ht => va_Nw.warmD hW (a4 t ht), fun t ht => ?_, fun t ht => cPM_moved hW (a6 t ht)⟩, ⟨fun t ht => vk_R.warm hW (b0 t ht), (va_Z.moved hW.alike b1).kept hk, (va_Z.moved hW.alike b2).kept hk, (va_Z.moved hW.alike b3).kept hk, (va_Z.moved hW.alike b4).kept hk, (va_Z.moved hW.alike b5).kept hk, (va_Z.moved hW.alike b6).kept hk⟩, ?_, ?_, (cLy.moved hW.alike c3).kept hk, (cLy.moved hW.alike c4).kept hk⟩
  · exact cAO_moved ht hW (a5 t ht)
  · exact c1.elim (fun z => Or.inl ((va_Z.moved hW.alike z).kept hk)) (fun ⟨t, z⟩ => Or.inr ⟨t, (va_Z.moved hW.alike z).kept hk⟩)
  · exact c2.elim (fun z => Or.inl ((va_Z.moved hW.alike z).kept hk)) (fun ⟨t, z⟩ => Or.inr ⟨t, (va_Z.moved hW.alike z).kept hk⟩)
end UQ
