/-! RugReaderModel -/
set_option maxRecDepth 100000
def RX5 : String := "RugReaderModel"
def TX5 : u_T := fun k => match k with
  | 0 => ("RugReaderModel", "thrown", "I", false)
  | 1 => ("RugReaderModel", "tape", "[B", true)
  | 2 => ("RugReaderModel", "length", "I", false)
  | 3 => ("RugReaderModel", "size", "I", false)
  | 4 => ("RugReaderModel", "p", "I", false)
  | 5 => ("RugReaderModel", "limit", "I", false)
  | 6 => ("RugReaderModel", "s", "[I", true)
  | 7 => ("RugReaderModel", "h", "[I", true)
  | 8 => ("RugReaderModel", "read", "[I", true)
  | 9 => ("RugReaderModel", "names", "[J", true)
  | 10 => ("RugReaderModel", "reserved", "[J", true)
  | 11 => ("RugReaderModel", "token", "I", false)
  | 12 => ("RugReaderModel", "at", "I", false)
  | 13 => ("RugReaderModel", "span", "I", false)
  | 14 => ("RugReaderModel", "number", "I", false)
  | 15 => ("RugReaderModel", "fault", "I", false)
  | 16 => ("RugReaderModel", "faultAt", "I", false)
  | 17 => ("RugReaderModel", "word", "J", false)
  | 18 => ("RugReaderModel", "got", "I", false)
  | 19 => ("RugReaderModel", "lines", "I", false)
  | 20 => ("RugReaderModel", "hasRug", "Z", false)
  | 21 => ("RugReaderModel", "hasFade", "Z", false)
  | 22 => ("RugReaderModel", "undone", "[I", true)
  | 23 => ("RugReaderModel", "undoMany", "I", false)
  | 24 => ("RugReaderModel", "treadsOf", "[I", true)
  | 25 => ("RugReaderModel", "who", "[I", true)
  | 26 => ("RugReaderModel", "firstRead", "[I", true)
  | 27 => ("RugReaderModel", "allRead", "[I", true)
  | 28 => ("RugReaderModel", "readWays", "I", false)
  | 29 => ("RugReaderModel", "fewestRead", "I", false)
  | 30 => ("RugReaderModel", "cost", "[I", true)
  | 31 => ("RugReaderModel", "walkedAt", "[I", true)
  | 32 => ("RugReaderModel", "goer", "I", false)
  | 33 => ("RugReaderModel", "startAt", "I", false)
  | 34 => ("RugReaderModel", "walkLines", "I", false)
  | 35 => ("RugReaderModel", "hasWalked", "Z", false)
  | 36 => ("RugReaderModel", "runs", "[I", true)
  | 37 => ("RugReaderModel", "over", "[I", true)
  | 38 => ("RugReaderModel", "ahead", "[I", true)
  | 39 => ("RugReaderModel", "queue", "[I", true)
  | 40 => ("RugReaderModel", "seenRow", "[I", true)
  | 41 => ("RugReaderModel", "laid", "[Z", true)
  | 42 => ("RugReaderModel", "seenMany", "I", false)
  | 43 => ("RugReaderModel", "queueMany", "I", false)
  | 44 => ("RugReaderModel", "seed", "I", false)
  | 45 => ("RugReaderModel", "stack", "[I", true)
  | 46 => ("RugReaderModel", "codes", "I", false)
  | 47 => ("RugReaderModel", "ones", "I", false)
  | 48 => ("RugReaderModel", "top", "I", false)
  | 49 => ("RugReaderModel", "deep", "I", false)
  | 50 => ("RugReaderModel", "isWhole", "Z", false)
  | 51 => ("RugReaderModel", "values", "[Z", true)
  | 52 => ("RugReaderModel", "kept", "[I", true)
  | 53 => ("RugReaderModel", "namesKept", "[J", true)
  | _ => ("RugReaderModel", "isKept", "[Z", true)
def tyX5 : Nat → FieldType := fun k => match k with
  | 0 => .int
  | 1 => .array .byte
  | 2 => .int
  | 3 => .int
  | 4 => .int
  | 5 => .int
  | 6 => .array .int
  | 7 => .array .int
  | 8 => .array .int
  | 9 => .array .long
  | 10 => .array .long
  | 11 => .int
  | 12 => .int
  | 13 => .int
  | 14 => .int
  | 15 => .int
  | 16 => .int
  | 17 => .long
  | 18 => .int
  | 19 => .int
  | 20 => .boolean
  | 21 => .boolean
  | 22 => .array .int
  | 23 => .int
  | 24 => .array .int
  | 25 => .array .int
  | 26 => .array .int
  | 27 => .array .int
  | 28 => .int
  | 29 => .int
  | 30 => .array .int
  | 31 => .array .int
  | 32 => .int
  | 33 => .int
  | 34 => .int
  | 35 => .boolean
  | 36 => .array .int
  | 37 => .array .int
  | 38 => .array .int
  | 39 => .array .int
  | 40 => .array .int
  | 41 => .array .boolean
  | 42 => .int
  | 43 => .int
  | 44 => .int
  | 45 => .array .int
  | 46 => .int
  | 47 => .int
  | 48 => .int
  | 49 => .int
  | 50 => .boolean
  | 51 => .array .boolean
  | 52 => .array .int
  | 53 => .array .long
  | _ => .array .boolean
abbrev wsX50 : List Cond := u_ws RX5 TX5 55
set_option maxRecDepth 100000 in
theorem nmX5 : ∀ a, a < 55 → ∀ b, b < 55 → a ≠ b → (TX5 a).2.1 ≠ (TX5 b).2.1 := by decide +kernel
set_option maxRecDepth 100000 in
theorem tyX5_ok : ∀ k, k < 55 → parseFieldDescriptor (TX5 k).2.2.1 = some (tyX5 k) := by decide +kernel
abbrev cX5_thrown : ByteArray := prog_19_method_1_code
def yX5_thrown : MethodName := ⟨RX5, "thrown", "()I"⟩
theorem dX5_thrown_0 : decode cX5_thrown 0 = .ok (.aload_n 0, 1) := by decide +kernel
theorem dX5_thrown_1 : decode cX5_thrown 1 = .ok (.getfield 1, 3) := by decide +kernel
theorem dX5_thrown_4 : decode cX5_thrown 4 = .ok (.ireturn, 1) := by decide +kernel
abbrev cX5_feed : ByteArray := prog_19_method_3_code
def yX5_feed : MethodName := ⟨RX5, "feed", "(IIIII)I"⟩
def dkwX5_feed_2 : List UInt8 := [182, 0, 10, 42, 180, 0, 7, 172]
abbrev dktX5_feed_2 : List UInt8 := dkwX5_feed_2 ++ []
def dkwX5_feed_1 : List UInt8 := [182, 0, 10, 42, 28, 182, 0, 10, 42, 29, 182, 0, 10, 42, 21, 4, 182, 0, 10, 42, 21, 5]
abbrev dktX5_feed_1 : List UInt8 := dkwX5_feed_1 ++ dktX5_feed_2
def dkwX5_feed_0 : List UInt8 := [42, 3, 181, 0, 1, 42, 180, 0, 7, 16, 20, 96, 17, 3, 172, 164, 0, 5, 2, 172, 42, 27]
abbrev dktX5_feed_0 : List UInt8 := dkwX5_feed_0 ++ dktX5_feed_1
theorem dksX5_feed_0 : cX5_feed.data.toList.drop 0 = dktX5_feed_0 := by decide +kernel
theorem dksX5_feed_1 : cX5_feed.data.toList.drop 22 = dktX5_feed_1 := dk_seg dksX5_feed_0 22 rfl rfl
theorem dksX5_feed_2 : cX5_feed.data.toList.drop 44 = dktX5_feed_2 := dk_seg dksX5_feed_1 22 rfl rfl
theorem dX5_feed_0 : decode cX5_feed 0 = .ok (.aload_n 0, 1) := dk_42 (dk_at dksX5_feed_0 0 rfl rfl)
theorem dX5_feed_1 : decode cX5_feed 1 = .ok (.iconst 0, 1) := dk_3 (dk_at dksX5_feed_0 1 rfl rfl)
theorem dX5_feed_2 : decode cX5_feed 2 = .ok (.putfield 1, 3) := dk_181 0 1 (dk_at dksX5_feed_0 2 rfl rfl)
theorem dX5_feed_5 : decode cX5_feed 5 = .ok (.aload_n 0, 1) := dk_42 (dk_at dksX5_feed_0 5 rfl rfl)
theorem dX5_feed_6 : decode cX5_feed 6 = .ok (.getfield 7, 3) := dk_180 0 7 (dk_at dksX5_feed_0 6 rfl rfl)
theorem dX5_feed_9 : decode cX5_feed 9 = .ok (.bipush 20, 2) := dk_16 20 (dk_at dksX5_feed_0 9 rfl rfl)
theorem dX5_feed_11 : decode cX5_feed 11 = .ok (.iadd, 1) := dk_96 (dk_at dksX5_feed_0 11 rfl rfl)
theorem dX5_feed_12 : decode cX5_feed 12 = .ok (.sipush 940, 3) := dk_17 3 172 (dk_at dksX5_feed_0 12 rfl rfl)
theorem dX5_feed_15 : decode cX5_feed 15 = .ok (.if_icmp .le 5, 3) := dk_164 0 5 (dk_at dksX5_feed_0 15 rfl rfl)
theorem dX5_feed_18 : decode cX5_feed 18 = .ok (.iconst (-1), 1) := dk_2 (dk_at dksX5_feed_0 18 rfl rfl)
theorem dX5_feed_19 : decode cX5_feed 19 = .ok (.ireturn, 1) := dk_172 (dk_at dksX5_feed_0 19 rfl rfl)
theorem dX5_feed_20 : decode cX5_feed 20 = .ok (.aload_n 0, 1) := dk_42 (dk_at dksX5_feed_0 20 rfl rfl)
theorem dX5_feed_21 : decode cX5_feed 21 = .ok (.iload_n 1, 1) := dk_27 (dk_at dksX5_feed_0 21 rfl rfl)
theorem dX5_feed_22 : decode cX5_feed 22 = .ok (.invokevirtual 10, 3) := dk_182 0 10 (dk_at dksX5_feed_1 0 rfl rfl)
theorem dX5_feed_25 : decode cX5_feed 25 = .ok (.aload_n 0, 1) := dk_42 (dk_at dksX5_feed_1 3 rfl rfl)
theorem dX5_feed_26 : decode cX5_feed 26 = .ok (.iload_n 2, 1) := dk_28 (dk_at dksX5_feed_1 4 rfl rfl)
theorem dX5_feed_27 : decode cX5_feed 27 = .ok (.invokevirtual 10, 3) := dk_182 0 10 (dk_at dksX5_feed_1 5 rfl rfl)
theorem dX5_feed_30 : decode cX5_feed 30 = .ok (.aload_n 0, 1) := dk_42 (dk_at dksX5_feed_1 8 rfl rfl)
theorem dX5_feed_31 : decode cX5_feed 31 = .ok (.iload_n 3, 1) := dk_29 (dk_at dksX5_feed_1 9 rfl rfl)
theorem dX5_feed_32 : decode cX5_feed 32 = .ok (.invokevirtual 10, 3) := dk_182 0 10 (dk_at dksX5_feed_1 10 rfl rfl)
theorem dX5_feed_35 : decode cX5_feed 35 = .ok (.aload_n 0, 1) := dk_42 (dk_at dksX5_feed_1 13 rfl rfl)
theorem dX5_feed_36 : decode cX5_feed 36 = .ok (.iload 4, 2) := dk_21 4 (dk_at dksX5_feed_1 14 rfl rfl)
theorem dX5_feed_38 : decode cX5_feed 38 = .ok (.invokevirtual 10, 3) := dk_182 0 10 (dk_at dksX5_feed_1 16 rfl rfl)
theorem dX5_feed_41 : decode cX5_feed 41 = .ok (.aload_n 0, 1) := dk_42 (dk_at dksX5_feed_1 19 rfl rfl)
theorem dX5_feed_42 : decode cX5_feed 42 = .ok (.iload 5, 2) := dk_21 5 (dk_at dksX5_feed_1 20 rfl rfl)
theorem dX5_feed_44 : decode cX5_feed 44 = .ok (.invokevirtual 10, 3) := dk_182 0 10 (dk_at dksX5_feed_2 0 rfl rfl)
theorem dX5_feed_47 : decode cX5_feed 47 = .ok (.aload_n 0, 1) := dk_42 (dk_at dksX5_feed_2 3 rfl rfl)
theorem dX5_feed_48 : decode cX5_feed 48 = .ok (.getfield 7, 3) := dk_180 0 7 (dk_at dksX5_feed_2 4 rfl rfl)
theorem dX5_feed_51 : decode cX5_feed 51 = .ok (.ireturn, 1) := dk_172 (dk_at dksX5_feed_2 7 rfl rfl)
abbrev cX5_four : ByteArray := prog_19_method_4_code
def yX5_four : MethodName := ⟨RX5, "four", "(I)V"⟩
def dkwX5_four_1 : List UInt8 := [180, 0, 7, 4, 96, 181, 0, 7, 132, 2, 248, 167, 255, 226, 177]
abbrev dktX5_four_1 : List UInt8 := dkwX5_four_1 ++ []
def dkwX5_four_0 : List UInt8 := [16, 24, 61, 28, 155, 0, 32, 42, 180, 0, 14, 42, 180, 0, 7, 27, 28, 122, 145, 84, 42, 89]
abbrev dktX5_four_0 : List UInt8 := dkwX5_four_0 ++ dktX5_four_1
theorem dksX5_four_0 : cX5_four.data.toList.drop 0 = dktX5_four_0 := by decide +kernel
theorem dksX5_four_1 : cX5_four.data.toList.drop 22 = dktX5_four_1 := dk_seg dksX5_four_0 22 rfl rfl
theorem dX5_four_0 : decode cX5_four 0 = .ok (.bipush 24, 2) := dk_16 24 (dk_at dksX5_four_0 0 rfl rfl)
theorem dX5_four_2 : decode cX5_four 2 = .ok (.istore_n 2, 1) := dk_61 (dk_at dksX5_four_0 2 rfl rfl)
theorem dX5_four_3 : decode cX5_four 3 = .ok (.iload_n 2, 1) := dk_28 (dk_at dksX5_four_0 3 rfl rfl)
theorem dX5_four_4 : decode cX5_four 4 = .ok (.ifCond .lt 32, 3) := dk_155 0 32 (dk_at dksX5_four_0 4 rfl rfl)
theorem dX5_four_7 : decode cX5_four 7 = .ok (.aload_n 0, 1) := dk_42 (dk_at dksX5_four_0 7 rfl rfl)
theorem dX5_four_8 : decode cX5_four 8 = .ok (.getfield 14, 3) := dk_180 0 14 (dk_at dksX5_four_0 8 rfl rfl)
theorem dX5_four_11 : decode cX5_four 11 = .ok (.aload_n 0, 1) := dk_42 (dk_at dksX5_four_0 11 rfl rfl)
theorem dX5_four_12 : decode cX5_four 12 = .ok (.getfield 7, 3) := dk_180 0 7 (dk_at dksX5_four_0 12 rfl rfl)
theorem dX5_four_15 : decode cX5_four 15 = .ok (.iload_n 1, 1) := dk_27 (dk_at dksX5_four_0 15 rfl rfl)
theorem dX5_four_16 : decode cX5_four 16 = .ok (.iload_n 2, 1) := dk_28 (dk_at dksX5_four_0 16 rfl rfl)
theorem dX5_four_17 : decode cX5_four 17 = .ok (.ishr, 1) := dk_122 (dk_at dksX5_four_0 17 rfl rfl)
theorem dX5_four_18 : decode cX5_four 18 = .ok (.i2b, 1) := dk_145 (dk_at dksX5_four_0 18 rfl rfl)
theorem dX5_four_19 : decode cX5_four 19 = .ok (.bastore, 1) := dk_84 (dk_at dksX5_four_0 19 rfl rfl)
theorem dX5_four_20 : decode cX5_four 20 = .ok (.aload_n 0, 1) := dk_42 (dk_at dksX5_four_0 20 rfl rfl)
theorem dX5_four_21 : decode cX5_four 21 = .ok (.dup, 1) := dk_89 (dk_at dksX5_four_0 21 rfl rfl)
theorem dX5_four_22 : decode cX5_four 22 = .ok (.getfield 7, 3) := dk_180 0 7 (dk_at dksX5_four_1 0 rfl rfl)
theorem dX5_four_25 : decode cX5_four 25 = .ok (.iconst 1, 1) := dk_4 (dk_at dksX5_four_1 3 rfl rfl)
theorem dX5_four_26 : decode cX5_four 26 = .ok (.iadd, 1) := dk_96 (dk_at dksX5_four_1 4 rfl rfl)
theorem dX5_four_27 : decode cX5_four 27 = .ok (.putfield 7, 3) := dk_181 0 7 (dk_at dksX5_four_1 5 rfl rfl)
theorem dX5_four_30 : decode cX5_four 30 = .ok (.iinc 2 (-8), 3) := dk_132 2 248 (dk_at dksX5_four_1 8 rfl rfl)
theorem dX5_four_33 : decode cX5_four 33 = .ok (.goto (-30), 3) := dk_167 255 226 (dk_at dksX5_four_1 11 rfl rfl)
theorem dX5_four_36 : decode cX5_four 36 = .ok (.return_, 1) := dk_177 (dk_at dksX5_four_1 14 rfl rfl)
abbrev cX5_end : ByteArray := prog_19_method_5_code
def yX5_end : MethodName := ⟨RX5, "end", "(I)Z"⟩
def dkwX5_end_1 : List UInt8 := [4, 172]
abbrev dktX5_end_1 : List UInt8 := dkwX5_end_1 ++ []
def dkwX5_end_0 : List UInt8 := [42, 3, 181, 0, 1, 27, 155, 0, 11, 27, 42, 180, 0, 7, 164, 0, 5, 3, 172, 42, 27, 181, 0, 7]
abbrev dktX5_end_0 : List UInt8 := dkwX5_end_0 ++ dktX5_end_1
theorem dksX5_end_0 : cX5_end.data.toList.drop 0 = dktX5_end_0 := by decide +kernel
theorem dksX5_end_1 : cX5_end.data.toList.drop 24 = dktX5_end_1 := dk_seg dksX5_end_0 24 rfl rfl
theorem dX5_end_0 : decode cX5_end 0 = .ok (.aload_n 0, 1) := dk_42 (dk_at dksX5_end_0 0 rfl rfl)
theorem dX5_end_1 : decode cX5_end 1 = .ok (.iconst 0, 1) := dk_3 (dk_at dksX5_end_0 1 rfl rfl)
theorem dX5_end_2 : decode cX5_end 2 = .ok (.putfield 1, 3) := dk_181 0 1 (dk_at dksX5_end_0 2 rfl rfl)
theorem dX5_end_5 : decode cX5_end 5 = .ok (.iload_n 1, 1) := dk_27 (dk_at dksX5_end_0 5 rfl rfl)
theorem dX5_end_6 : decode cX5_end 6 = .ok (.ifCond .lt 11, 3) := dk_155 0 11 (dk_at dksX5_end_0 6 rfl rfl)
theorem dX5_end_9 : decode cX5_end 9 = .ok (.iload_n 1, 1) := dk_27 (dk_at dksX5_end_0 9 rfl rfl)
theorem dX5_end_10 : decode cX5_end 10 = .ok (.aload_n 0, 1) := dk_42 (dk_at dksX5_end_0 10 rfl rfl)
theorem dX5_end_11 : decode cX5_end 11 = .ok (.getfield 7, 3) := dk_180 0 7 (dk_at dksX5_end_0 11 rfl rfl)
theorem dX5_end_14 : decode cX5_end 14 = .ok (.if_icmp .le 5, 3) := dk_164 0 5 (dk_at dksX5_end_0 14 rfl rfl)
theorem dX5_end_17 : decode cX5_end 17 = .ok (.iconst 0, 1) := dk_3 (dk_at dksX5_end_0 17 rfl rfl)
theorem dX5_end_18 : decode cX5_end 18 = .ok (.ireturn, 1) := dk_172 (dk_at dksX5_end_0 18 rfl rfl)
theorem dX5_end_19 : decode cX5_end 19 = .ok (.aload_n 0, 1) := dk_42 (dk_at dksX5_end_0 19 rfl rfl)
theorem dX5_end_20 : decode cX5_end 20 = .ok (.iload_n 1, 1) := dk_27 (dk_at dksX5_end_0 20 rfl rfl)
theorem dX5_end_21 : decode cX5_end 21 = .ok (.putfield 7, 3) := dk_181 0 7 (dk_at dksX5_end_0 21 rfl rfl)
theorem dX5_end_24 : decode cX5_end 24 = .ok (.iconst 1, 1) := dk_4 (dk_at dksX5_end_1 0 rfl rfl)
theorem dX5_end_25 : decode cX5_end 25 = .ok (.ireturn, 1) := dk_172 (dk_at dksX5_end_1 1 rfl rfl)
abbrev cX5_init : ByteArray := prog_19_method_10_code
def yX5_init : MethodName := ⟨RX5, "<init>", "()V"⟩
def dkwX5_init_17 : List UInt8 := [16, 19, 20, 0, 147, 80, 42, 180, 0, 33, 16, 6, 16, 9, 79, 177]
abbrev dktX5_init_17 : List UInt8 := dkwX5_init_17 ++ []
def dkwX5_init_16 : List UInt8 := [42, 180, 0, 47, 16, 17, 20, 0, 143, 80, 42, 180, 0, 47, 16, 18, 20, 0, 145, 80, 42, 180, 0, 47]
abbrev dktX5_init_16 : List UInt8 := dkwX5_init_16 ++ dktX5_init_17
def dkwX5_init_15 : List UInt8 := [20, 0, 137, 80, 42, 180, 0, 47, 16, 15, 20, 0, 139, 80, 42, 180, 0, 47, 16, 16, 20, 0, 141, 80]
abbrev dktX5_init_15 : List UInt8 := dkwX5_init_15 ++ dktX5_init_16
def dkwX5_init_14 : List UInt8 := [16, 12, 20, 0, 133, 80, 42, 180, 0, 47, 16, 13, 20, 0, 135, 80, 42, 180, 0, 47, 16, 14]
abbrev dktX5_init_14 : List UInt8 := dkwX5_init_14 ++ dktX5_init_15
def dkwX5_init_13 : List UInt8 := [42, 180, 0, 47, 16, 10, 20, 0, 129, 80, 42, 180, 0, 47, 16, 11, 20, 0, 131, 80, 42, 180, 0, 47]
abbrev dktX5_init_13 : List UInt8 := dkwX5_init_13 ++ dktX5_init_14
def dkwX5_init_12 : List UInt8 := [20, 0, 123, 80, 42, 180, 0, 47, 16, 8, 20, 0, 125, 80, 42, 180, 0, 47, 16, 9, 20, 0, 127, 80]
abbrev dktX5_init_12 : List UInt8 := dkwX5_init_12 ++ dktX5_init_13
def dkwX5_init_11 : List UInt8 := [180, 0, 47, 8, 20, 0, 119, 80, 42, 180, 0, 47, 16, 6, 20, 0, 121, 80, 42, 180, 0, 47, 16, 7]
abbrev dktX5_init_11 : List UInt8 := dkwX5_init_11 ++ dktX5_init_12
def dkwX5_init_10 : List UInt8 := [20, 0, 113, 80, 42, 180, 0, 47, 6, 20, 0, 115, 80, 42, 180, 0, 47, 7, 20, 0, 117, 80, 42]
abbrev dktX5_init_10 : List UInt8 := dkwX5_init_10 ++ dktX5_init_11
def dkwX5_init_9 : List UInt8 := [42, 180, 0, 47, 3, 20, 0, 109, 80, 42, 180, 0, 47, 4, 20, 0, 111, 80, 42, 180, 0, 47, 5]
abbrev dktX5_init_9 : List UInt8 := dkwX5_init_9 ++ dktX5_init_10
def dkwX5_init_8 : List UInt8 := [42, 17, 80, 50, 188, 10, 181, 0, 100, 42, 16, 24, 188, 11, 181, 0, 103, 42, 5, 188, 4, 181, 0, 106]
abbrev dktX5_init_8 : List UInt8 := dkwX5_init_8 ++ dktX5_init_9
def dkwX5_init_7 : List UInt8 := [17, 0, 144, 188, 4, 181, 0, 90, 42, 16, 45, 188, 10, 181, 0, 94, 42, 16, 45, 188, 4, 181, 0, 97]
abbrev dktX5_init_7 : List UInt8 := dkwX5_init_7 ++ dktX5_init_8
def dkwX5_init_6 : List UInt8 := [181, 0, 81, 42, 17, 1, 32, 188, 10, 181, 0, 84, 42, 17, 0, 144, 188, 10, 181, 0, 87, 42]
abbrev dktX5_init_6 : List UInt8 := dkwX5_init_6 ++ dktX5_init_7
def dkwX5_init_5 : List UInt8 := [42, 17, 2, 64, 188, 10, 181, 0, 75, 42, 17, 0, 144, 188, 10, 181, 0, 78, 42, 17, 1, 32, 188, 10]
abbrev dktX5_init_5 : List UInt8 := dkwX5_init_5 ++ dktX5_init_6
def dkwX5_init_4 : List UInt8 := [181, 0, 63, 42, 2, 181, 0, 66, 42, 17, 0, 144, 188, 10, 181, 0, 69, 42, 7, 188, 10, 181, 0, 72]
abbrev dktX5_init_4 : List UInt8 := dkwX5_init_4 ++ dktX5_init_5
def dkwX5_init_3 : List UInt8 := [181, 0, 54, 42, 16, 6, 188, 10, 181, 0, 57, 42, 16, 6, 188, 10, 181, 0, 60, 42, 16, 6, 188, 10]
abbrev dktX5_init_3 : List UInt8 := dkwX5_init_3 ++ dktX5_init_4
def dkwX5_init_2 : List UInt8 := [181, 0, 43, 42, 16, 20, 188, 11, 181, 0, 47, 42, 18, 50, 188, 10, 181, 0, 51, 42, 16, 48, 188, 10]
abbrev dktX5_init_2 : List UInt8 := dkwX5_init_2 ++ dktX5_init_3
def dkwX5_init_1 : List UInt8 := [17, 1, 173, 188, 10, 181, 0, 37, 42, 17, 0, 135, 188, 10, 181, 0, 40, 42, 16, 24, 188, 11]
abbrev dktX5_init_1 : List UInt8 := dkwX5_init_1 ++ dktX5_init_2
def dkwX5_init_0 : List UInt8 := [42, 183, 0, 27, 42, 17, 3, 172, 188, 8, 181, 0, 14, 42, 17, 40, 25, 188, 10, 181, 0, 33, 42]
abbrev dktX5_init_0 : List UInt8 := dkwX5_init_0 ++ dktX5_init_1
theorem dksX5_init_0 : cX5_init.data.toList.drop 0 = dktX5_init_0 := by decide +kernel
theorem dksX5_init_1 : cX5_init.data.toList.drop 23 = dktX5_init_1 := dk_seg dksX5_init_0 23 rfl rfl
theorem dksX5_init_2 : cX5_init.data.toList.drop 45 = dktX5_init_2 := dk_seg dksX5_init_1 22 rfl rfl
theorem dksX5_init_3 : cX5_init.data.toList.drop 69 = dktX5_init_3 := dk_seg dksX5_init_2 24 rfl rfl
theorem dksX5_init_4 : cX5_init.data.toList.drop 93 = dktX5_init_4 := dk_seg dksX5_init_3 24 rfl rfl
theorem dksX5_init_5 : cX5_init.data.toList.drop 117 = dktX5_init_5 := dk_seg dksX5_init_4 24 rfl rfl
theorem dksX5_init_6 : cX5_init.data.toList.drop 141 = dktX5_init_6 := dk_seg dksX5_init_5 24 rfl rfl
theorem dksX5_init_7 : cX5_init.data.toList.drop 163 = dktX5_init_7 := dk_seg dksX5_init_6 22 rfl rfl
theorem dksX5_init_8 : cX5_init.data.toList.drop 187 = dktX5_init_8 := dk_seg dksX5_init_7 24 rfl rfl
theorem dksX5_init_9 : cX5_init.data.toList.drop 211 = dktX5_init_9 := dk_seg dksX5_init_8 24 rfl rfl
theorem dksX5_init_10 : cX5_init.data.toList.drop 234 = dktX5_init_10 := dk_seg dksX5_init_9 23 rfl rfl
theorem dksX5_init_11 : cX5_init.data.toList.drop 257 = dktX5_init_11 := dk_seg dksX5_init_10 23 rfl rfl
theorem dksX5_init_12 : cX5_init.data.toList.drop 281 = dktX5_init_12 := dk_seg dksX5_init_11 24 rfl rfl
theorem dksX5_init_13 : cX5_init.data.toList.drop 305 = dktX5_init_13 := dk_seg dksX5_init_12 24 rfl rfl
theorem dksX5_init_14 : cX5_init.data.toList.drop 329 = dktX5_init_14 := dk_seg dksX5_init_13 24 rfl rfl
theorem dksX5_init_15 : cX5_init.data.toList.drop 351 = dktX5_init_15 := dk_seg dksX5_init_14 22 rfl rfl
theorem dksX5_init_16 : cX5_init.data.toList.drop 375 = dktX5_init_16 := dk_seg dksX5_init_15 24 rfl rfl
theorem dksX5_init_17 : cX5_init.data.toList.drop 399 = dktX5_init_17 := dk_seg dksX5_init_16 24 rfl rfl
theorem dX5_init_0 : decode cX5_init 0 = .ok (.aload_n 0, 1) := dk_42 (dk_at dksX5_init_0 0 rfl rfl)
theorem dX5_init_1 : decode cX5_init 1 = .ok (.invokespecial 27, 3) := dk_183 0 27 (dk_at dksX5_init_0 1 rfl rfl)
theorem dX5_init_4 : decode cX5_init 4 = .ok (.aload_n 0, 1) := dk_42 (dk_at dksX5_init_0 4 rfl rfl)
theorem dX5_init_5 : decode cX5_init 5 = .ok (.sipush 940, 3) := dk_17 3 172 (dk_at dksX5_init_0 5 rfl rfl)
theorem dX5_init_8 : decode cX5_init 8 = .ok (.newarray .byte, 2) := dk_188_8 (dk_at dksX5_init_0 8 rfl rfl)
theorem dX5_init_10 : decode cX5_init 10 = .ok (.putfield 14, 3) := dk_181 0 14 (dk_at dksX5_init_0 10 rfl rfl)
theorem dX5_init_13 : decode cX5_init 13 = .ok (.aload_n 0, 1) := dk_42 (dk_at dksX5_init_0 13 rfl rfl)
theorem dX5_init_14 : decode cX5_init 14 = .ok (.sipush 10265, 3) := dk_17 40 25 (dk_at dksX5_init_0 14 rfl rfl)
theorem dX5_init_17 : decode cX5_init 17 = .ok (.newarray .int, 2) := dk_188_10 (dk_at dksX5_init_0 17 rfl rfl)
theorem dX5_init_19 : decode cX5_init 19 = .ok (.putfield 33, 3) := dk_181 0 33 (dk_at dksX5_init_0 19 rfl rfl)
theorem dX5_init_22 : decode cX5_init 22 = .ok (.aload_n 0, 1) := dk_42 (dk_at dksX5_init_0 22 rfl rfl)
theorem dX5_init_23 : decode cX5_init 23 = .ok (.sipush 429, 3) := dk_17 1 173 (dk_at dksX5_init_1 0 rfl rfl)
theorem dX5_init_26 : decode cX5_init 26 = .ok (.newarray .int, 2) := dk_188_10 (dk_at dksX5_init_1 3 rfl rfl)
theorem dX5_init_28 : decode cX5_init 28 = .ok (.putfield 37, 3) := dk_181 0 37 (dk_at dksX5_init_1 5 rfl rfl)
theorem dX5_init_31 : decode cX5_init 31 = .ok (.aload_n 0, 1) := dk_42 (dk_at dksX5_init_1 8 rfl rfl)
theorem dX5_init_32 : decode cX5_init 32 = .ok (.sipush 135, 3) := dk_17 0 135 (dk_at dksX5_init_1 9 rfl rfl)
theorem dX5_init_35 : decode cX5_init 35 = .ok (.newarray .int, 2) := dk_188_10 (dk_at dksX5_init_1 12 rfl rfl)
theorem dX5_init_37 : decode cX5_init 37 = .ok (.putfield 40, 3) := dk_181 0 40 (dk_at dksX5_init_1 14 rfl rfl)
theorem dX5_init_40 : decode cX5_init 40 = .ok (.aload_n 0, 1) := dk_42 (dk_at dksX5_init_1 17 rfl rfl)
theorem dX5_init_41 : decode cX5_init 41 = .ok (.bipush 24, 2) := dk_16 24 (dk_at dksX5_init_1 18 rfl rfl)
theorem dX5_init_43 : decode cX5_init 43 = .ok (.newarray .long, 2) := dk_188_11 (dk_at dksX5_init_1 20 rfl rfl)
theorem dX5_init_45 : decode cX5_init 45 = .ok (.putfield 43, 3) := dk_181 0 43 (dk_at dksX5_init_2 0 rfl rfl)
theorem dX5_init_48 : decode cX5_init 48 = .ok (.aload_n 0, 1) := dk_42 (dk_at dksX5_init_2 3 rfl rfl)
theorem dX5_init_49 : decode cX5_init 49 = .ok (.bipush 20, 2) := dk_16 20 (dk_at dksX5_init_2 4 rfl rfl)
theorem dX5_init_51 : decode cX5_init 51 = .ok (.newarray .long, 2) := dk_188_11 (dk_at dksX5_init_2 6 rfl rfl)
theorem dX5_init_53 : decode cX5_init 53 = .ok (.putfield 47, 3) := dk_181 0 47 (dk_at dksX5_init_2 8 rfl rfl)
theorem dX5_init_56 : decode cX5_init 56 = .ok (.aload_n 0, 1) := dk_42 (dk_at dksX5_init_2 11 rfl rfl)
theorem dX5_init_57 : decode cX5_init 57 = .ok (.ldc 50, 2) := dk_18 50 (dk_at dksX5_init_2 12 rfl rfl)
theorem dX5_init_59 : decode cX5_init 59 = .ok (.newarray .int, 2) := dk_188_10 (dk_at dksX5_init_2 14 rfl rfl)
theorem dX5_init_61 : decode cX5_init 61 = .ok (.putfield 51, 3) := dk_181 0 51 (dk_at dksX5_init_2 16 rfl rfl)
theorem dX5_init_64 : decode cX5_init 64 = .ok (.aload_n 0, 1) := dk_42 (dk_at dksX5_init_2 19 rfl rfl)
theorem dX5_init_65 : decode cX5_init 65 = .ok (.bipush 48, 2) := dk_16 48 (dk_at dksX5_init_2 20 rfl rfl)
theorem dX5_init_67 : decode cX5_init 67 = .ok (.newarray .int, 2) := dk_188_10 (dk_at dksX5_init_2 22 rfl rfl)
theorem dX5_init_69 : decode cX5_init 69 = .ok (.putfield 54, 3) := dk_181 0 54 (dk_at dksX5_init_3 0 rfl rfl)
theorem dX5_init_72 : decode cX5_init 72 = .ok (.aload_n 0, 1) := dk_42 (dk_at dksX5_init_3 3 rfl rfl)
theorem dX5_init_73 : decode cX5_init 73 = .ok (.bipush 6, 2) := dk_16 6 (dk_at dksX5_init_3 4 rfl rfl)
theorem dX5_init_75 : decode cX5_init 75 = .ok (.newarray .int, 2) := dk_188_10 (dk_at dksX5_init_3 6 rfl rfl)
theorem dX5_init_77 : decode cX5_init 77 = .ok (.putfield 57, 3) := dk_181 0 57 (dk_at dksX5_init_3 8 rfl rfl)
theorem dX5_init_80 : decode cX5_init 80 = .ok (.aload_n 0, 1) := dk_42 (dk_at dksX5_init_3 11 rfl rfl)
theorem dX5_init_81 : decode cX5_init 81 = .ok (.bipush 6, 2) := dk_16 6 (dk_at dksX5_init_3 12 rfl rfl)
theorem dX5_init_83 : decode cX5_init 83 = .ok (.newarray .int, 2) := dk_188_10 (dk_at dksX5_init_3 14 rfl rfl)
theorem dX5_init_85 : decode cX5_init 85 = .ok (.putfield 60, 3) := dk_181 0 60 (dk_at dksX5_init_3 16 rfl rfl)
theorem dX5_init_88 : decode cX5_init 88 = .ok (.aload_n 0, 1) := dk_42 (dk_at dksX5_init_3 19 rfl rfl)
theorem dX5_init_89 : decode cX5_init 89 = .ok (.bipush 6, 2) := dk_16 6 (dk_at dksX5_init_3 20 rfl rfl)
theorem dX5_init_91 : decode cX5_init 91 = .ok (.newarray .int, 2) := dk_188_10 (dk_at dksX5_init_3 22 rfl rfl)
theorem dX5_init_93 : decode cX5_init 93 = .ok (.putfield 63, 3) := dk_181 0 63 (dk_at dksX5_init_4 0 rfl rfl)
theorem dX5_init_96 : decode cX5_init 96 = .ok (.aload_n 0, 1) := dk_42 (dk_at dksX5_init_4 3 rfl rfl)
theorem dX5_init_97 : decode cX5_init 97 = .ok (.iconst (-1), 1) := dk_2 (dk_at dksX5_init_4 4 rfl rfl)
theorem dX5_init_98 : decode cX5_init 98 = .ok (.putfield 66, 3) := dk_181 0 66 (dk_at dksX5_init_4 5 rfl rfl)
theorem dX5_init_101 : decode cX5_init 101 = .ok (.aload_n 0, 1) := dk_42 (dk_at dksX5_init_4 8 rfl rfl)
theorem dX5_init_102 : decode cX5_init 102 = .ok (.sipush 144, 3) := dk_17 0 144 (dk_at dksX5_init_4 9 rfl rfl)
theorem dX5_init_105 : decode cX5_init 105 = .ok (.newarray .int, 2) := dk_188_10 (dk_at dksX5_init_4 12 rfl rfl)
theorem dX5_init_107 : decode cX5_init 107 = .ok (.putfield 69, 3) := dk_181 0 69 (dk_at dksX5_init_4 14 rfl rfl)
theorem dX5_init_110 : decode cX5_init 110 = .ok (.aload_n 0, 1) := dk_42 (dk_at dksX5_init_4 17 rfl rfl)
theorem dX5_init_111 : decode cX5_init 111 = .ok (.iconst 4, 1) := dk_7 (dk_at dksX5_init_4 18 rfl rfl)
theorem dX5_init_112 : decode cX5_init 112 = .ok (.newarray .int, 2) := dk_188_10 (dk_at dksX5_init_4 19 rfl rfl)
theorem dX5_init_114 : decode cX5_init 114 = .ok (.putfield 72, 3) := dk_181 0 72 (dk_at dksX5_init_4 21 rfl rfl)
theorem dX5_init_117 : decode cX5_init 117 = .ok (.aload_n 0, 1) := dk_42 (dk_at dksX5_init_5 0 rfl rfl)
theorem dX5_init_118 : decode cX5_init 118 = .ok (.sipush 576, 3) := dk_17 2 64 (dk_at dksX5_init_5 1 rfl rfl)
theorem dX5_init_121 : decode cX5_init 121 = .ok (.newarray .int, 2) := dk_188_10 (dk_at dksX5_init_5 4 rfl rfl)
theorem dX5_init_123 : decode cX5_init 123 = .ok (.putfield 75, 3) := dk_181 0 75 (dk_at dksX5_init_5 6 rfl rfl)
theorem dX5_init_126 : decode cX5_init 126 = .ok (.aload_n 0, 1) := dk_42 (dk_at dksX5_init_5 9 rfl rfl)
theorem dX5_init_127 : decode cX5_init 127 = .ok (.sipush 144, 3) := dk_17 0 144 (dk_at dksX5_init_5 10 rfl rfl)
theorem dX5_init_130 : decode cX5_init 130 = .ok (.newarray .int, 2) := dk_188_10 (dk_at dksX5_init_5 13 rfl rfl)
theorem dX5_init_132 : decode cX5_init 132 = .ok (.putfield 78, 3) := dk_181 0 78 (dk_at dksX5_init_5 15 rfl rfl)
theorem dX5_init_135 : decode cX5_init 135 = .ok (.aload_n 0, 1) := dk_42 (dk_at dksX5_init_5 18 rfl rfl)
theorem dX5_init_136 : decode cX5_init 136 = .ok (.sipush 288, 3) := dk_17 1 32 (dk_at dksX5_init_5 19 rfl rfl)
theorem dX5_init_139 : decode cX5_init 139 = .ok (.newarray .int, 2) := dk_188_10 (dk_at dksX5_init_5 22 rfl rfl)
theorem dX5_init_141 : decode cX5_init 141 = .ok (.putfield 81, 3) := dk_181 0 81 (dk_at dksX5_init_6 0 rfl rfl)
theorem dX5_init_144 : decode cX5_init 144 = .ok (.aload_n 0, 1) := dk_42 (dk_at dksX5_init_6 3 rfl rfl)
theorem dX5_init_145 : decode cX5_init 145 = .ok (.sipush 288, 3) := dk_17 1 32 (dk_at dksX5_init_6 4 rfl rfl)
theorem dX5_init_148 : decode cX5_init 148 = .ok (.newarray .int, 2) := dk_188_10 (dk_at dksX5_init_6 7 rfl rfl)
theorem dX5_init_150 : decode cX5_init 150 = .ok (.putfield 84, 3) := dk_181 0 84 (dk_at dksX5_init_6 9 rfl rfl)
theorem dX5_init_153 : decode cX5_init 153 = .ok (.aload_n 0, 1) := dk_42 (dk_at dksX5_init_6 12 rfl rfl)
theorem dX5_init_154 : decode cX5_init 154 = .ok (.sipush 144, 3) := dk_17 0 144 (dk_at dksX5_init_6 13 rfl rfl)
theorem dX5_init_157 : decode cX5_init 157 = .ok (.newarray .int, 2) := dk_188_10 (dk_at dksX5_init_6 16 rfl rfl)
theorem dX5_init_159 : decode cX5_init 159 = .ok (.putfield 87, 3) := dk_181 0 87 (dk_at dksX5_init_6 18 rfl rfl)
theorem dX5_init_162 : decode cX5_init 162 = .ok (.aload_n 0, 1) := dk_42 (dk_at dksX5_init_6 21 rfl rfl)
theorem dX5_init_163 : decode cX5_init 163 = .ok (.sipush 144, 3) := dk_17 0 144 (dk_at dksX5_init_7 0 rfl rfl)
theorem dX5_init_166 : decode cX5_init 166 = .ok (.newarray .boolean, 2) := dk_188_4 (dk_at dksX5_init_7 3 rfl rfl)
theorem dX5_init_168 : decode cX5_init 168 = .ok (.putfield 90, 3) := dk_181 0 90 (dk_at dksX5_init_7 5 rfl rfl)
theorem dX5_init_171 : decode cX5_init 171 = .ok (.aload_n 0, 1) := dk_42 (dk_at dksX5_init_7 8 rfl rfl)
theorem dX5_init_172 : decode cX5_init 172 = .ok (.bipush 45, 2) := dk_16 45 (dk_at dksX5_init_7 9 rfl rfl)
theorem dX5_init_174 : decode cX5_init 174 = .ok (.newarray .int, 2) := dk_188_10 (dk_at dksX5_init_7 11 rfl rfl)
theorem dX5_init_176 : decode cX5_init 176 = .ok (.putfield 94, 3) := dk_181 0 94 (dk_at dksX5_init_7 13 rfl rfl)
theorem dX5_init_179 : decode cX5_init 179 = .ok (.aload_n 0, 1) := dk_42 (dk_at dksX5_init_7 16 rfl rfl)
theorem dX5_init_180 : decode cX5_init 180 = .ok (.bipush 45, 2) := dk_16 45 (dk_at dksX5_init_7 17 rfl rfl)
theorem dX5_init_182 : decode cX5_init 182 = .ok (.newarray .boolean, 2) := dk_188_4 (dk_at dksX5_init_7 19 rfl rfl)
theorem dX5_init_184 : decode cX5_init 184 = .ok (.putfield 97, 3) := dk_181 0 97 (dk_at dksX5_init_7 21 rfl rfl)
theorem dX5_init_187 : decode cX5_init 187 = .ok (.aload_n 0, 1) := dk_42 (dk_at dksX5_init_8 0 rfl rfl)
theorem dX5_init_188 : decode cX5_init 188 = .ok (.sipush 20530, 3) := dk_17 80 50 (dk_at dksX5_init_8 1 rfl rfl)
theorem dX5_init_191 : decode cX5_init 191 = .ok (.newarray .int, 2) := dk_188_10 (dk_at dksX5_init_8 4 rfl rfl)
theorem dX5_init_193 : decode cX5_init 193 = .ok (.putfield 100, 3) := dk_181 0 100 (dk_at dksX5_init_8 6 rfl rfl)
theorem dX5_init_196 : decode cX5_init 196 = .ok (.aload_n 0, 1) := dk_42 (dk_at dksX5_init_8 9 rfl rfl)
theorem dX5_init_197 : decode cX5_init 197 = .ok (.bipush 24, 2) := dk_16 24 (dk_at dksX5_init_8 10 rfl rfl)
theorem dX5_init_199 : decode cX5_init 199 = .ok (.newarray .long, 2) := dk_188_11 (dk_at dksX5_init_8 12 rfl rfl)
theorem dX5_init_201 : decode cX5_init 201 = .ok (.putfield 103, 3) := dk_181 0 103 (dk_at dksX5_init_8 14 rfl rfl)
theorem dX5_init_204 : decode cX5_init 204 = .ok (.aload_n 0, 1) := dk_42 (dk_at dksX5_init_8 17 rfl rfl)
theorem dX5_init_205 : decode cX5_init 205 = .ok (.iconst 2, 1) := dk_5 (dk_at dksX5_init_8 18 rfl rfl)
theorem dX5_init_206 : decode cX5_init 206 = .ok (.newarray .boolean, 2) := dk_188_4 (dk_at dksX5_init_8 19 rfl rfl)
theorem dX5_init_208 : decode cX5_init 208 = .ok (.putfield 106, 3) := dk_181 0 106 (dk_at dksX5_init_8 21 rfl rfl)
theorem dX5_init_211 : decode cX5_init 211 = .ok (.aload_n 0, 1) := dk_42 (dk_at dksX5_init_9 0 rfl rfl)
theorem dX5_init_212 : decode cX5_init 212 = .ok (.getfield 47, 3) := dk_180 0 47 (dk_at dksX5_init_9 1 rfl rfl)
theorem dX5_init_215 : decode cX5_init 215 = .ok (.iconst 0, 1) := dk_3 (dk_at dksX5_init_9 4 rfl rfl)
theorem dX5_init_216 : decode cX5_init 216 = .ok (.ldc2_w 109, 3) := dk_20 0 109 (dk_at dksX5_init_9 5 rfl rfl)
theorem dX5_init_219 : decode cX5_init 219 = .ok (.lastore, 1) := dk_80 (dk_at dksX5_init_9 8 rfl rfl)
theorem dX5_init_220 : decode cX5_init 220 = .ok (.aload_n 0, 1) := dk_42 (dk_at dksX5_init_9 9 rfl rfl)
theorem dX5_init_221 : decode cX5_init 221 = .ok (.getfield 47, 3) := dk_180 0 47 (dk_at dksX5_init_9 10 rfl rfl)
theorem dX5_init_224 : decode cX5_init 224 = .ok (.iconst 1, 1) := dk_4 (dk_at dksX5_init_9 13 rfl rfl)
theorem dX5_init_225 : decode cX5_init 225 = .ok (.ldc2_w 111, 3) := dk_20 0 111 (dk_at dksX5_init_9 14 rfl rfl)
theorem dX5_init_228 : decode cX5_init 228 = .ok (.lastore, 1) := dk_80 (dk_at dksX5_init_9 17 rfl rfl)
theorem dX5_init_229 : decode cX5_init 229 = .ok (.aload_n 0, 1) := dk_42 (dk_at dksX5_init_9 18 rfl rfl)
theorem dX5_init_230 : decode cX5_init 230 = .ok (.getfield 47, 3) := dk_180 0 47 (dk_at dksX5_init_9 19 rfl rfl)
theorem dX5_init_233 : decode cX5_init 233 = .ok (.iconst 2, 1) := dk_5 (dk_at dksX5_init_9 22 rfl rfl)
theorem dX5_init_234 : decode cX5_init 234 = .ok (.ldc2_w 113, 3) := dk_20 0 113 (dk_at dksX5_init_10 0 rfl rfl)
theorem dX5_init_237 : decode cX5_init 237 = .ok (.lastore, 1) := dk_80 (dk_at dksX5_init_10 3 rfl rfl)
theorem dX5_init_238 : decode cX5_init 238 = .ok (.aload_n 0, 1) := dk_42 (dk_at dksX5_init_10 4 rfl rfl)
theorem dX5_init_239 : decode cX5_init 239 = .ok (.getfield 47, 3) := dk_180 0 47 (dk_at dksX5_init_10 5 rfl rfl)
theorem dX5_init_242 : decode cX5_init 242 = .ok (.iconst 3, 1) := dk_6 (dk_at dksX5_init_10 8 rfl rfl)
theorem dX5_init_243 : decode cX5_init 243 = .ok (.ldc2_w 115, 3) := dk_20 0 115 (dk_at dksX5_init_10 9 rfl rfl)
theorem dX5_init_246 : decode cX5_init 246 = .ok (.lastore, 1) := dk_80 (dk_at dksX5_init_10 12 rfl rfl)
theorem dX5_init_247 : decode cX5_init 247 = .ok (.aload_n 0, 1) := dk_42 (dk_at dksX5_init_10 13 rfl rfl)
theorem dX5_init_248 : decode cX5_init 248 = .ok (.getfield 47, 3) := dk_180 0 47 (dk_at dksX5_init_10 14 rfl rfl)
theorem dX5_init_251 : decode cX5_init 251 = .ok (.iconst 4, 1) := dk_7 (dk_at dksX5_init_10 17 rfl rfl)
theorem dX5_init_252 : decode cX5_init 252 = .ok (.ldc2_w 117, 3) := dk_20 0 117 (dk_at dksX5_init_10 18 rfl rfl)
theorem dX5_init_255 : decode cX5_init 255 = .ok (.lastore, 1) := dk_80 (dk_at dksX5_init_10 21 rfl rfl)
theorem dX5_init_256 : decode cX5_init 256 = .ok (.aload_n 0, 1) := dk_42 (dk_at dksX5_init_10 22 rfl rfl)
theorem dX5_init_257 : decode cX5_init 257 = .ok (.getfield 47, 3) := dk_180 0 47 (dk_at dksX5_init_11 0 rfl rfl)
theorem dX5_init_260 : decode cX5_init 260 = .ok (.iconst 5, 1) := dk_8 (dk_at dksX5_init_11 3 rfl rfl)
theorem dX5_init_261 : decode cX5_init 261 = .ok (.ldc2_w 119, 3) := dk_20 0 119 (dk_at dksX5_init_11 4 rfl rfl)
theorem dX5_init_264 : decode cX5_init 264 = .ok (.lastore, 1) := dk_80 (dk_at dksX5_init_11 7 rfl rfl)
theorem dX5_init_265 : decode cX5_init 265 = .ok (.aload_n 0, 1) := dk_42 (dk_at dksX5_init_11 8 rfl rfl)
theorem dX5_init_266 : decode cX5_init 266 = .ok (.getfield 47, 3) := dk_180 0 47 (dk_at dksX5_init_11 9 rfl rfl)
theorem dX5_init_269 : decode cX5_init 269 = .ok (.bipush 6, 2) := dk_16 6 (dk_at dksX5_init_11 12 rfl rfl)
theorem dX5_init_271 : decode cX5_init 271 = .ok (.ldc2_w 121, 3) := dk_20 0 121 (dk_at dksX5_init_11 14 rfl rfl)
theorem dX5_init_274 : decode cX5_init 274 = .ok (.lastore, 1) := dk_80 (dk_at dksX5_init_11 17 rfl rfl)
theorem dX5_init_275 : decode cX5_init 275 = .ok (.aload_n 0, 1) := dk_42 (dk_at dksX5_init_11 18 rfl rfl)
theorem dX5_init_276 : decode cX5_init 276 = .ok (.getfield 47, 3) := dk_180 0 47 (dk_at dksX5_init_11 19 rfl rfl)
theorem dX5_init_279 : decode cX5_init 279 = .ok (.bipush 7, 2) := dk_16 7 (dk_at dksX5_init_11 22 rfl rfl)
theorem dX5_init_281 : decode cX5_init 281 = .ok (.ldc2_w 123, 3) := dk_20 0 123 (dk_at dksX5_init_12 0 rfl rfl)
theorem dX5_init_284 : decode cX5_init 284 = .ok (.lastore, 1) := dk_80 (dk_at dksX5_init_12 3 rfl rfl)
theorem dX5_init_285 : decode cX5_init 285 = .ok (.aload_n 0, 1) := dk_42 (dk_at dksX5_init_12 4 rfl rfl)
theorem dX5_init_286 : decode cX5_init 286 = .ok (.getfield 47, 3) := dk_180 0 47 (dk_at dksX5_init_12 5 rfl rfl)
theorem dX5_init_289 : decode cX5_init 289 = .ok (.bipush 8, 2) := dk_16 8 (dk_at dksX5_init_12 8 rfl rfl)
theorem dX5_init_291 : decode cX5_init 291 = .ok (.ldc2_w 125, 3) := dk_20 0 125 (dk_at dksX5_init_12 10 rfl rfl)
theorem dX5_init_294 : decode cX5_init 294 = .ok (.lastore, 1) := dk_80 (dk_at dksX5_init_12 13 rfl rfl)
theorem dX5_init_295 : decode cX5_init 295 = .ok (.aload_n 0, 1) := dk_42 (dk_at dksX5_init_12 14 rfl rfl)
theorem dX5_init_296 : decode cX5_init 296 = .ok (.getfield 47, 3) := dk_180 0 47 (dk_at dksX5_init_12 15 rfl rfl)
theorem dX5_init_299 : decode cX5_init 299 = .ok (.bipush 9, 2) := dk_16 9 (dk_at dksX5_init_12 18 rfl rfl)
theorem dX5_init_301 : decode cX5_init 301 = .ok (.ldc2_w 127, 3) := dk_20 0 127 (dk_at dksX5_init_12 20 rfl rfl)
theorem dX5_init_304 : decode cX5_init 304 = .ok (.lastore, 1) := dk_80 (dk_at dksX5_init_12 23 rfl rfl)
theorem dX5_init_305 : decode cX5_init 305 = .ok (.aload_n 0, 1) := dk_42 (dk_at dksX5_init_13 0 rfl rfl)
theorem dX5_init_306 : decode cX5_init 306 = .ok (.getfield 47, 3) := dk_180 0 47 (dk_at dksX5_init_13 1 rfl rfl)
theorem dX5_init_309 : decode cX5_init 309 = .ok (.bipush 10, 2) := dk_16 10 (dk_at dksX5_init_13 4 rfl rfl)
theorem dX5_init_311 : decode cX5_init 311 = .ok (.ldc2_w 129, 3) := dk_20 0 129 (dk_at dksX5_init_13 6 rfl rfl)
theorem dX5_init_314 : decode cX5_init 314 = .ok (.lastore, 1) := dk_80 (dk_at dksX5_init_13 9 rfl rfl)
theorem dX5_init_315 : decode cX5_init 315 = .ok (.aload_n 0, 1) := dk_42 (dk_at dksX5_init_13 10 rfl rfl)
theorem dX5_init_316 : decode cX5_init 316 = .ok (.getfield 47, 3) := dk_180 0 47 (dk_at dksX5_init_13 11 rfl rfl)
theorem dX5_init_319 : decode cX5_init 319 = .ok (.bipush 11, 2) := dk_16 11 (dk_at dksX5_init_13 14 rfl rfl)
theorem dX5_init_321 : decode cX5_init 321 = .ok (.ldc2_w 131, 3) := dk_20 0 131 (dk_at dksX5_init_13 16 rfl rfl)
theorem dX5_init_324 : decode cX5_init 324 = .ok (.lastore, 1) := dk_80 (dk_at dksX5_init_13 19 rfl rfl)
theorem dX5_init_325 : decode cX5_init 325 = .ok (.aload_n 0, 1) := dk_42 (dk_at dksX5_init_13 20 rfl rfl)
theorem dX5_init_326 : decode cX5_init 326 = .ok (.getfield 47, 3) := dk_180 0 47 (dk_at dksX5_init_13 21 rfl rfl)
theorem dX5_init_329 : decode cX5_init 329 = .ok (.bipush 12, 2) := dk_16 12 (dk_at dksX5_init_14 0 rfl rfl)
theorem dX5_init_331 : decode cX5_init 331 = .ok (.ldc2_w 133, 3) := dk_20 0 133 (dk_at dksX5_init_14 2 rfl rfl)
theorem dX5_init_334 : decode cX5_init 334 = .ok (.lastore, 1) := dk_80 (dk_at dksX5_init_14 5 rfl rfl)
theorem dX5_init_335 : decode cX5_init 335 = .ok (.aload_n 0, 1) := dk_42 (dk_at dksX5_init_14 6 rfl rfl)
theorem dX5_init_336 : decode cX5_init 336 = .ok (.getfield 47, 3) := dk_180 0 47 (dk_at dksX5_init_14 7 rfl rfl)
theorem dX5_init_339 : decode cX5_init 339 = .ok (.bipush 13, 2) := dk_16 13 (dk_at dksX5_init_14 10 rfl rfl)
theorem dX5_init_341 : decode cX5_init 341 = .ok (.ldc2_w 135, 3) := dk_20 0 135 (dk_at dksX5_init_14 12 rfl rfl)
theorem dX5_init_344 : decode cX5_init 344 = .ok (.lastore, 1) := dk_80 (dk_at dksX5_init_14 15 rfl rfl)
theorem dX5_init_345 : decode cX5_init 345 = .ok (.aload_n 0, 1) := dk_42 (dk_at dksX5_init_14 16 rfl rfl)
theorem dX5_init_346 : decode cX5_init 346 = .ok (.getfield 47, 3) := dk_180 0 47 (dk_at dksX5_init_14 17 rfl rfl)
theorem dX5_init_349 : decode cX5_init 349 = .ok (.bipush 14, 2) := dk_16 14 (dk_at dksX5_init_14 20 rfl rfl)
theorem dX5_init_351 : decode cX5_init 351 = .ok (.ldc2_w 137, 3) := dk_20 0 137 (dk_at dksX5_init_15 0 rfl rfl)
theorem dX5_init_354 : decode cX5_init 354 = .ok (.lastore, 1) := dk_80 (dk_at dksX5_init_15 3 rfl rfl)
theorem dX5_init_355 : decode cX5_init 355 = .ok (.aload_n 0, 1) := dk_42 (dk_at dksX5_init_15 4 rfl rfl)
theorem dX5_init_356 : decode cX5_init 356 = .ok (.getfield 47, 3) := dk_180 0 47 (dk_at dksX5_init_15 5 rfl rfl)
theorem dX5_init_359 : decode cX5_init 359 = .ok (.bipush 15, 2) := dk_16 15 (dk_at dksX5_init_15 8 rfl rfl)
theorem dX5_init_361 : decode cX5_init 361 = .ok (.ldc2_w 139, 3) := dk_20 0 139 (dk_at dksX5_init_15 10 rfl rfl)
theorem dX5_init_364 : decode cX5_init 364 = .ok (.lastore, 1) := dk_80 (dk_at dksX5_init_15 13 rfl rfl)
theorem dX5_init_365 : decode cX5_init 365 = .ok (.aload_n 0, 1) := dk_42 (dk_at dksX5_init_15 14 rfl rfl)
theorem dX5_init_366 : decode cX5_init 366 = .ok (.getfield 47, 3) := dk_180 0 47 (dk_at dksX5_init_15 15 rfl rfl)
theorem dX5_init_369 : decode cX5_init 369 = .ok (.bipush 16, 2) := dk_16 16 (dk_at dksX5_init_15 18 rfl rfl)
theorem dX5_init_371 : decode cX5_init 371 = .ok (.ldc2_w 141, 3) := dk_20 0 141 (dk_at dksX5_init_15 20 rfl rfl)
theorem dX5_init_374 : decode cX5_init 374 = .ok (.lastore, 1) := dk_80 (dk_at dksX5_init_15 23 rfl rfl)
theorem dX5_init_375 : decode cX5_init 375 = .ok (.aload_n 0, 1) := dk_42 (dk_at dksX5_init_16 0 rfl rfl)
theorem dX5_init_376 : decode cX5_init 376 = .ok (.getfield 47, 3) := dk_180 0 47 (dk_at dksX5_init_16 1 rfl rfl)
theorem dX5_init_379 : decode cX5_init 379 = .ok (.bipush 17, 2) := dk_16 17 (dk_at dksX5_init_16 4 rfl rfl)
theorem dX5_init_381 : decode cX5_init 381 = .ok (.ldc2_w 143, 3) := dk_20 0 143 (dk_at dksX5_init_16 6 rfl rfl)
theorem dX5_init_384 : decode cX5_init 384 = .ok (.lastore, 1) := dk_80 (dk_at dksX5_init_16 9 rfl rfl)
theorem dX5_init_385 : decode cX5_init 385 = .ok (.aload_n 0, 1) := dk_42 (dk_at dksX5_init_16 10 rfl rfl)
theorem dX5_init_386 : decode cX5_init 386 = .ok (.getfield 47, 3) := dk_180 0 47 (dk_at dksX5_init_16 11 rfl rfl)
theorem dX5_init_389 : decode cX5_init 389 = .ok (.bipush 18, 2) := dk_16 18 (dk_at dksX5_init_16 14 rfl rfl)
theorem dX5_init_391 : decode cX5_init 391 = .ok (.ldc2_w 145, 3) := dk_20 0 145 (dk_at dksX5_init_16 16 rfl rfl)
theorem dX5_init_394 : decode cX5_init 394 = .ok (.lastore, 1) := dk_80 (dk_at dksX5_init_16 19 rfl rfl)
theorem dX5_init_395 : decode cX5_init 395 = .ok (.aload_n 0, 1) := dk_42 (dk_at dksX5_init_16 20 rfl rfl)
theorem dX5_init_396 : decode cX5_init 396 = .ok (.getfield 47, 3) := dk_180 0 47 (dk_at dksX5_init_16 21 rfl rfl)
theorem dX5_init_399 : decode cX5_init 399 = .ok (.bipush 19, 2) := dk_16 19 (dk_at dksX5_init_17 0 rfl rfl)
theorem dX5_init_401 : decode cX5_init 401 = .ok (.ldc2_w 147, 3) := dk_20 0 147 (dk_at dksX5_init_17 2 rfl rfl)
theorem dX5_init_404 : decode cX5_init 404 = .ok (.lastore, 1) := dk_80 (dk_at dksX5_init_17 5 rfl rfl)
theorem dX5_init_405 : decode cX5_init 405 = .ok (.aload_n 0, 1) := dk_42 (dk_at dksX5_init_17 6 rfl rfl)
theorem dX5_init_406 : decode cX5_init 406 = .ok (.getfield 33, 3) := dk_180 0 33 (dk_at dksX5_init_17 7 rfl rfl)
theorem dX5_init_409 : decode cX5_init 409 = .ok (.bipush 6, 2) := dk_16 6 (dk_at dksX5_init_17 10 rfl rfl)
theorem dX5_init_411 : decode cX5_init 411 = .ok (.bipush 9, 2) := dk_16 9 (dk_at dksX5_init_17 12 rfl rfl)
theorem dX5_init_413 : decode cX5_init 413 = .ok (.iastore, 1) := dk_79 (dk_at dksX5_init_17 14 rfl rfl)
theorem dX5_init_414 : decode cX5_init 414 = .ok (.return_, 1) := dk_177 (dk_at dksX5_init_17 15 rfl rfl)
abbrev cX5_house : ByteArray := prog_19_method_28_code
def yX5_house : MethodName := ⟨RX5, "house", "()I"⟩
def dkwX5_house_7 : List UInt8 := [16, 12, 27, 96, 47, 80, 132, 1, 1, 167, 255, 232, 42, 3, 181, 0, 249, 42, 180, 0, 240, 172]
abbrev dktX5_house_7 : List UInt8 := dkwX5_house_7 ++ []
def dkwX5_house_6 : List UInt8 := [132, 1, 1, 167, 255, 223, 3, 60, 27, 16, 12, 162, 0, 24, 42, 180, 0, 43, 27, 42, 180, 0, 43]
abbrev dktX5_house_6 : List UInt8 := dkwX5_house_6 ++ dktX5_house_7
def dkwX5_house_5 : List UInt8 := [42, 180, 0, 33, 27, 27, 17, 1, 173, 162, 0, 12, 42, 180, 0, 37, 27, 46, 167, 0, 4, 3, 79]
abbrev dktX5_house_5 : List UInt8 := dkwX5_house_5 ++ dktX5_house_6
def dkwX5_house_4 : List UInt8 := [100, 172, 42, 89, 180, 0, 240, 4, 96, 181, 0, 240, 167, 255, 216, 3, 60, 27, 17, 40, 25, 162, 0, 32]
abbrev dktX5_house_4 : List UInt8 := dkwX5_house_4 ++ dktX5_house_5
def dkwX5_house_3 : List UInt8 := [153, 0, 39, 42, 182, 0, 243, 153, 0, 12, 42, 16, 59, 182, 0, 246, 154, 0, 10, 2, 42, 180, 0, 179]
abbrev dktX5_house_3 : List UInt8 := dkwX5_house_3 ++ dktX5_house_4
def dkwX5_house_2 : List UInt8 := [132, 1, 1, 167, 255, 239, 42, 180, 0, 37, 16, 6, 16, 9, 79, 42, 182, 0, 188, 42, 180, 0, 159]
abbrev dktX5_house_2 : List UInt8 := dkwX5_house_2 ++ dktX5_house_3
def dkwX5_house_1 : List UInt8 := [181, 0, 210, 42, 3, 181, 0, 227, 3, 60, 27, 17, 1, 173, 162, 0, 16, 42, 180, 0, 37, 27, 3, 79]
abbrev dktX5_house_1 : List UInt8 := dkwX5_house_1 ++ dktX5_house_2
def dkwX5_house_0 : List UInt8 := [42, 3, 181, 0, 1, 42, 17, 3, 132, 182, 0, 237, 42, 3, 181, 0, 176, 42, 3, 181, 0, 240, 42, 3]
abbrev dktX5_house_0 : List UInt8 := dkwX5_house_0 ++ dktX5_house_1
theorem dksX5_house_0 : cX5_house.data.toList.drop 0 = dktX5_house_0 := by decide +kernel
theorem dksX5_house_1 : cX5_house.data.toList.drop 24 = dktX5_house_1 := dk_seg dksX5_house_0 24 rfl rfl
theorem dksX5_house_2 : cX5_house.data.toList.drop 48 = dktX5_house_2 := dk_seg dksX5_house_1 24 rfl rfl
theorem dksX5_house_3 : cX5_house.data.toList.drop 71 = dktX5_house_3 := dk_seg dksX5_house_2 23 rfl rfl
theorem dksX5_house_4 : cX5_house.data.toList.drop 95 = dktX5_house_4 := dk_seg dksX5_house_3 24 rfl rfl
theorem dksX5_house_5 : cX5_house.data.toList.drop 119 = dktX5_house_5 := dk_seg dksX5_house_4 24 rfl rfl
theorem dksX5_house_6 : cX5_house.data.toList.drop 142 = dktX5_house_6 := dk_seg dksX5_house_5 23 rfl rfl
theorem dksX5_house_7 : cX5_house.data.toList.drop 165 = dktX5_house_7 := dk_seg dksX5_house_6 23 rfl rfl
theorem dX5_house_0 : decode cX5_house 0 = .ok (.aload_n 0, 1) := dk_42 (dk_at dksX5_house_0 0 rfl rfl)
theorem dX5_house_1 : decode cX5_house 1 = .ok (.iconst 0, 1) := dk_3 (dk_at dksX5_house_0 1 rfl rfl)
theorem dX5_house_2 : decode cX5_house 2 = .ok (.putfield 1, 3) := dk_181 0 1 (dk_at dksX5_house_0 2 rfl rfl)
theorem dX5_house_5 : decode cX5_house 5 = .ok (.aload_n 0, 1) := dk_42 (dk_at dksX5_house_0 5 rfl rfl)
theorem dX5_house_6 : decode cX5_house 6 = .ok (.sipush 900, 3) := dk_17 3 132 (dk_at dksX5_house_0 6 rfl rfl)
theorem dX5_house_9 : decode cX5_house 9 = .ok (.invokevirtual 237, 3) := dk_182 0 237 (dk_at dksX5_house_0 9 rfl rfl)
theorem dX5_house_12 : decode cX5_house 12 = .ok (.aload_n 0, 1) := dk_42 (dk_at dksX5_house_0 12 rfl rfl)
theorem dX5_house_13 : decode cX5_house 13 = .ok (.iconst 0, 1) := dk_3 (dk_at dksX5_house_0 13 rfl rfl)
theorem dX5_house_14 : decode cX5_house 14 = .ok (.putfield 176, 3) := dk_181 0 176 (dk_at dksX5_house_0 14 rfl rfl)
theorem dX5_house_17 : decode cX5_house 17 = .ok (.aload_n 0, 1) := dk_42 (dk_at dksX5_house_0 17 rfl rfl)
theorem dX5_house_18 : decode cX5_house 18 = .ok (.iconst 0, 1) := dk_3 (dk_at dksX5_house_0 18 rfl rfl)
theorem dX5_house_19 : decode cX5_house 19 = .ok (.putfield 240, 3) := dk_181 0 240 (dk_at dksX5_house_0 19 rfl rfl)
theorem dX5_house_22 : decode cX5_house 22 = .ok (.aload_n 0, 1) := dk_42 (dk_at dksX5_house_0 22 rfl rfl)
theorem dX5_house_23 : decode cX5_house 23 = .ok (.iconst 0, 1) := dk_3 (dk_at dksX5_house_0 23 rfl rfl)
theorem dX5_house_24 : decode cX5_house 24 = .ok (.putfield 210, 3) := dk_181 0 210 (dk_at dksX5_house_1 0 rfl rfl)
theorem dX5_house_27 : decode cX5_house 27 = .ok (.aload_n 0, 1) := dk_42 (dk_at dksX5_house_1 3 rfl rfl)
theorem dX5_house_28 : decode cX5_house 28 = .ok (.iconst 0, 1) := dk_3 (dk_at dksX5_house_1 4 rfl rfl)
theorem dX5_house_29 : decode cX5_house 29 = .ok (.putfield 227, 3) := dk_181 0 227 (dk_at dksX5_house_1 5 rfl rfl)
theorem dX5_house_32 : decode cX5_house 32 = .ok (.iconst 0, 1) := dk_3 (dk_at dksX5_house_1 8 rfl rfl)
theorem dX5_house_33 : decode cX5_house 33 = .ok (.istore_n 1, 1) := dk_60 (dk_at dksX5_house_1 9 rfl rfl)
theorem dX5_house_34 : decode cX5_house 34 = .ok (.iload_n 1, 1) := dk_27 (dk_at dksX5_house_1 10 rfl rfl)
theorem dX5_house_35 : decode cX5_house 35 = .ok (.sipush 429, 3) := dk_17 1 173 (dk_at dksX5_house_1 11 rfl rfl)
theorem dX5_house_38 : decode cX5_house 38 = .ok (.if_icmp .ge 16, 3) := dk_162 0 16 (dk_at dksX5_house_1 14 rfl rfl)
theorem dX5_house_41 : decode cX5_house 41 = .ok (.aload_n 0, 1) := dk_42 (dk_at dksX5_house_1 17 rfl rfl)
theorem dX5_house_42 : decode cX5_house 42 = .ok (.getfield 37, 3) := dk_180 0 37 (dk_at dksX5_house_1 18 rfl rfl)
theorem dX5_house_45 : decode cX5_house 45 = .ok (.iload_n 1, 1) := dk_27 (dk_at dksX5_house_1 21 rfl rfl)
theorem dX5_house_46 : decode cX5_house 46 = .ok (.iconst 0, 1) := dk_3 (dk_at dksX5_house_1 22 rfl rfl)
theorem dX5_house_47 : decode cX5_house 47 = .ok (.iastore, 1) := dk_79 (dk_at dksX5_house_1 23 rfl rfl)
theorem dX5_house_48 : decode cX5_house 48 = .ok (.iinc 1 1, 3) := dk_132 1 1 (dk_at dksX5_house_2 0 rfl rfl)
theorem dX5_house_51 : decode cX5_house 51 = .ok (.goto (-17), 3) := dk_167 255 239 (dk_at dksX5_house_2 3 rfl rfl)
theorem dX5_house_54 : decode cX5_house 54 = .ok (.aload_n 0, 1) := dk_42 (dk_at dksX5_house_2 6 rfl rfl)
theorem dX5_house_55 : decode cX5_house 55 = .ok (.getfield 37, 3) := dk_180 0 37 (dk_at dksX5_house_2 7 rfl rfl)
theorem dX5_house_58 : decode cX5_house 58 = .ok (.bipush 6, 2) := dk_16 6 (dk_at dksX5_house_2 10 rfl rfl)
theorem dX5_house_60 : decode cX5_house 60 = .ok (.bipush 9, 2) := dk_16 9 (dk_at dksX5_house_2 12 rfl rfl)
theorem dX5_house_62 : decode cX5_house 62 = .ok (.iastore, 1) := dk_79 (dk_at dksX5_house_2 14 rfl rfl)
theorem dX5_house_63 : decode cX5_house 63 = .ok (.aload_n 0, 1) := dk_42 (dk_at dksX5_house_2 15 rfl rfl)
theorem dX5_house_64 : decode cX5_house 64 = .ok (.invokevirtual 188, 3) := dk_182 0 188 (dk_at dksX5_house_2 16 rfl rfl)
theorem dX5_house_67 : decode cX5_house 67 = .ok (.aload_n 0, 1) := dk_42 (dk_at dksX5_house_2 19 rfl rfl)
theorem dX5_house_68 : decode cX5_house 68 = .ok (.getfield 159, 3) := dk_180 0 159 (dk_at dksX5_house_2 20 rfl rfl)
theorem dX5_house_71 : decode cX5_house 71 = .ok (.ifCond .eq 39, 3) := dk_153 0 39 (dk_at dksX5_house_3 0 rfl rfl)
theorem dX5_house_74 : decode cX5_house 74 = .ok (.aload_n 0, 1) := dk_42 (dk_at dksX5_house_3 3 rfl rfl)
theorem dX5_house_75 : decode cX5_house 75 = .ok (.invokevirtual 243, 3) := dk_182 0 243 (dk_at dksX5_house_3 4 rfl rfl)
theorem dX5_house_78 : decode cX5_house 78 = .ok (.ifCond .eq 12, 3) := dk_153 0 12 (dk_at dksX5_house_3 7 rfl rfl)
theorem dX5_house_81 : decode cX5_house 81 = .ok (.aload_n 0, 1) := dk_42 (dk_at dksX5_house_3 10 rfl rfl)
theorem dX5_house_82 : decode cX5_house 82 = .ok (.bipush 59, 2) := dk_16 59 (dk_at dksX5_house_3 11 rfl rfl)
theorem dX5_house_84 : decode cX5_house 84 = .ok (.invokevirtual 246, 3) := dk_182 0 246 (dk_at dksX5_house_3 13 rfl rfl)
theorem dX5_house_87 : decode cX5_house 87 = .ok (.ifCond .ne 10, 3) := dk_154 0 10 (dk_at dksX5_house_3 16 rfl rfl)
theorem dX5_house_90 : decode cX5_house 90 = .ok (.iconst (-1), 1) := dk_2 (dk_at dksX5_house_3 19 rfl rfl)
theorem dX5_house_91 : decode cX5_house 91 = .ok (.aload_n 0, 1) := dk_42 (dk_at dksX5_house_3 20 rfl rfl)
theorem dX5_house_92 : decode cX5_house 92 = .ok (.getfield 179, 3) := dk_180 0 179 (dk_at dksX5_house_3 21 rfl rfl)
theorem dX5_house_95 : decode cX5_house 95 = .ok (.isub, 1) := dk_100 (dk_at dksX5_house_4 0 rfl rfl)
theorem dX5_house_96 : decode cX5_house 96 = .ok (.ireturn, 1) := dk_172 (dk_at dksX5_house_4 1 rfl rfl)
theorem dX5_house_97 : decode cX5_house 97 = .ok (.aload_n 0, 1) := dk_42 (dk_at dksX5_house_4 2 rfl rfl)
theorem dX5_house_98 : decode cX5_house 98 = .ok (.dup, 1) := dk_89 (dk_at dksX5_house_4 3 rfl rfl)
theorem dX5_house_99 : decode cX5_house 99 = .ok (.getfield 240, 3) := dk_180 0 240 (dk_at dksX5_house_4 4 rfl rfl)
theorem dX5_house_102 : decode cX5_house 102 = .ok (.iconst 1, 1) := dk_4 (dk_at dksX5_house_4 7 rfl rfl)
theorem dX5_house_103 : decode cX5_house 103 = .ok (.iadd, 1) := dk_96 (dk_at dksX5_house_4 8 rfl rfl)
theorem dX5_house_104 : decode cX5_house 104 = .ok (.putfield 240, 3) := dk_181 0 240 (dk_at dksX5_house_4 9 rfl rfl)
theorem dX5_house_107 : decode cX5_house 107 = .ok (.goto (-40), 3) := dk_167 255 216 (dk_at dksX5_house_4 12 rfl rfl)
theorem dX5_house_110 : decode cX5_house 110 = .ok (.iconst 0, 1) := dk_3 (dk_at dksX5_house_4 15 rfl rfl)
theorem dX5_house_111 : decode cX5_house 111 = .ok (.istore_n 1, 1) := dk_60 (dk_at dksX5_house_4 16 rfl rfl)
theorem dX5_house_112 : decode cX5_house 112 = .ok (.iload_n 1, 1) := dk_27 (dk_at dksX5_house_4 17 rfl rfl)
theorem dX5_house_113 : decode cX5_house 113 = .ok (.sipush 10265, 3) := dk_17 40 25 (dk_at dksX5_house_4 18 rfl rfl)
theorem dX5_house_116 : decode cX5_house 116 = .ok (.if_icmp .ge 32, 3) := dk_162 0 32 (dk_at dksX5_house_4 21 rfl rfl)
theorem dX5_house_119 : decode cX5_house 119 = .ok (.aload_n 0, 1) := dk_42 (dk_at dksX5_house_5 0 rfl rfl)
theorem dX5_house_120 : decode cX5_house 120 = .ok (.getfield 33, 3) := dk_180 0 33 (dk_at dksX5_house_5 1 rfl rfl)
theorem dX5_house_123 : decode cX5_house 123 = .ok (.iload_n 1, 1) := dk_27 (dk_at dksX5_house_5 4 rfl rfl)
theorem dX5_house_124 : decode cX5_house 124 = .ok (.iload_n 1, 1) := dk_27 (dk_at dksX5_house_5 5 rfl rfl)
theorem dX5_house_125 : decode cX5_house 125 = .ok (.sipush 429, 3) := dk_17 1 173 (dk_at dksX5_house_5 6 rfl rfl)
theorem dX5_house_128 : decode cX5_house 128 = .ok (.if_icmp .ge 12, 3) := dk_162 0 12 (dk_at dksX5_house_5 9 rfl rfl)
theorem dX5_house_131 : decode cX5_house 131 = .ok (.aload_n 0, 1) := dk_42 (dk_at dksX5_house_5 12 rfl rfl)
theorem dX5_house_132 : decode cX5_house 132 = .ok (.getfield 37, 3) := dk_180 0 37 (dk_at dksX5_house_5 13 rfl rfl)
theorem dX5_house_135 : decode cX5_house 135 = .ok (.iload_n 1, 1) := dk_27 (dk_at dksX5_house_5 16 rfl rfl)
theorem dX5_house_136 : decode cX5_house 136 = .ok (.iaload, 1) := dk_46 (dk_at dksX5_house_5 17 rfl rfl)
theorem dX5_house_137 : decode cX5_house 137 = .ok (.goto 4, 3) := dk_167 0 4 (dk_at dksX5_house_5 18 rfl rfl)
theorem dX5_house_140 : decode cX5_house 140 = .ok (.iconst 0, 1) := dk_3 (dk_at dksX5_house_5 21 rfl rfl)
theorem dX5_house_141 : decode cX5_house 141 = .ok (.iastore, 1) := dk_79 (dk_at dksX5_house_5 22 rfl rfl)
theorem dX5_house_142 : decode cX5_house 142 = .ok (.iinc 1 1, 3) := dk_132 1 1 (dk_at dksX5_house_6 0 rfl rfl)
theorem dX5_house_145 : decode cX5_house 145 = .ok (.goto (-33), 3) := dk_167 255 223 (dk_at dksX5_house_6 3 rfl rfl)
theorem dX5_house_148 : decode cX5_house 148 = .ok (.iconst 0, 1) := dk_3 (dk_at dksX5_house_6 6 rfl rfl)
theorem dX5_house_149 : decode cX5_house 149 = .ok (.istore_n 1, 1) := dk_60 (dk_at dksX5_house_6 7 rfl rfl)
theorem dX5_house_150 : decode cX5_house 150 = .ok (.iload_n 1, 1) := dk_27 (dk_at dksX5_house_6 8 rfl rfl)
theorem dX5_house_151 : decode cX5_house 151 = .ok (.bipush 12, 2) := dk_16 12 (dk_at dksX5_house_6 9 rfl rfl)
theorem dX5_house_153 : decode cX5_house 153 = .ok (.if_icmp .ge 24, 3) := dk_162 0 24 (dk_at dksX5_house_6 11 rfl rfl)
theorem dX5_house_156 : decode cX5_house 156 = .ok (.aload_n 0, 1) := dk_42 (dk_at dksX5_house_6 14 rfl rfl)
theorem dX5_house_157 : decode cX5_house 157 = .ok (.getfield 43, 3) := dk_180 0 43 (dk_at dksX5_house_6 15 rfl rfl)
theorem dX5_house_160 : decode cX5_house 160 = .ok (.iload_n 1, 1) := dk_27 (dk_at dksX5_house_6 18 rfl rfl)
theorem dX5_house_161 : decode cX5_house 161 = .ok (.aload_n 0, 1) := dk_42 (dk_at dksX5_house_6 19 rfl rfl)
theorem dX5_house_162 : decode cX5_house 162 = .ok (.getfield 43, 3) := dk_180 0 43 (dk_at dksX5_house_6 20 rfl rfl)
theorem dX5_house_165 : decode cX5_house 165 = .ok (.bipush 12, 2) := dk_16 12 (dk_at dksX5_house_7 0 rfl rfl)
theorem dX5_house_167 : decode cX5_house 167 = .ok (.iload_n 1, 1) := dk_27 (dk_at dksX5_house_7 2 rfl rfl)
theorem dX5_house_168 : decode cX5_house 168 = .ok (.iadd, 1) := dk_96 (dk_at dksX5_house_7 3 rfl rfl)
theorem dX5_house_169 : decode cX5_house 169 = .ok (.laload, 1) := dk_47 (dk_at dksX5_house_7 4 rfl rfl)
theorem dX5_house_170 : decode cX5_house 170 = .ok (.lastore, 1) := dk_80 (dk_at dksX5_house_7 5 rfl rfl)
theorem dX5_house_171 : decode cX5_house 171 = .ok (.iinc 1 1, 3) := dk_132 1 1 (dk_at dksX5_house_7 6 rfl rfl)
theorem dX5_house_174 : decode cX5_house 174 = .ok (.goto (-24), 3) := dk_167 255 232 (dk_at dksX5_house_7 9 rfl rfl)
theorem dX5_house_177 : decode cX5_house 177 = .ok (.aload_n 0, 1) := dk_42 (dk_at dksX5_house_7 12 rfl rfl)
theorem dX5_house_178 : decode cX5_house 178 = .ok (.iconst 0, 1) := dk_3 (dk_at dksX5_house_7 13 rfl rfl)
theorem dX5_house_179 : decode cX5_house 179 = .ok (.putfield 249, 3) := dk_181 0 249 (dk_at dksX5_house_7 14 rfl rfl)
theorem dX5_house_182 : decode cX5_house 182 = .ok (.aload_n 0, 1) := dk_42 (dk_at dksX5_house_7 17 rfl rfl)
theorem dX5_house_183 : decode cX5_house 183 = .ok (.getfield 240, 3) := dk_180 0 240 (dk_at dksX5_house_7 18 rfl rfl)
theorem dX5_house_186 : decode cX5_house 186 = .ok (.ireturn, 1) := dk_172 (dk_at dksX5_house_7 21 rfl rfl)
abbrev cX5_taken : ByteArray := prog_19_method_6_code
def yX5_taken : MethodName := ⟨RX5, "taken", "(I)V"⟩
def dkwX5_taken_0 : List UInt8 := [42, 42, 180, 0, 7, 181, 0, 18, 42, 3, 181, 0, 7, 42, 3, 181, 0, 21, 42, 27, 181, 0, 24, 177]
abbrev dktX5_taken_0 : List UInt8 := dkwX5_taken_0 ++ []
theorem dksX5_taken_0 : cX5_taken.data.toList.drop 0 = dktX5_taken_0 := by decide +kernel
theorem dX5_taken_0 : decode cX5_taken 0 = .ok (.aload_n 0, 1) := dk_42 (dk_at dksX5_taken_0 0 rfl rfl)
theorem dX5_taken_1 : decode cX5_taken 1 = .ok (.aload_n 0, 1) := dk_42 (dk_at dksX5_taken_0 1 rfl rfl)
theorem dX5_taken_2 : decode cX5_taken 2 = .ok (.getfield 7, 3) := dk_180 0 7 (dk_at dksX5_taken_0 2 rfl rfl)
theorem dX5_taken_5 : decode cX5_taken 5 = .ok (.putfield 18, 3) := dk_181 0 18 (dk_at dksX5_taken_0 5 rfl rfl)
theorem dX5_taken_8 : decode cX5_taken 8 = .ok (.aload_n 0, 1) := dk_42 (dk_at dksX5_taken_0 8 rfl rfl)
theorem dX5_taken_9 : decode cX5_taken 9 = .ok (.iconst 0, 1) := dk_3 (dk_at dksX5_taken_0 9 rfl rfl)
theorem dX5_taken_10 : decode cX5_taken 10 = .ok (.putfield 7, 3) := dk_181 0 7 (dk_at dksX5_taken_0 10 rfl rfl)
theorem dX5_taken_13 : decode cX5_taken 13 = .ok (.aload_n 0, 1) := dk_42 (dk_at dksX5_taken_0 13 rfl rfl)
theorem dX5_taken_14 : decode cX5_taken 14 = .ok (.iconst 0, 1) := dk_3 (dk_at dksX5_taken_0 14 rfl rfl)
theorem dX5_taken_15 : decode cX5_taken 15 = .ok (.putfield 21, 3) := dk_181 0 21 (dk_at dksX5_taken_0 15 rfl rfl)
theorem dX5_taken_18 : decode cX5_taken 18 = .ok (.aload_n 0, 1) := dk_42 (dk_at dksX5_taken_0 18 rfl rfl)
theorem dX5_taken_19 : decode cX5_taken 19 = .ok (.iload_n 1, 1) := dk_27 (dk_at dksX5_taken_0 19 rfl rfl)
theorem dX5_taken_20 : decode cX5_taken 20 = .ok (.putfield 24, 3) := dk_181 0 24 (dk_at dksX5_taken_0 20 rfl rfl)
theorem dX5_taken_23 : decode cX5_taken 23 = .ok (.return_, 1) := dk_177 (dk_at dksX5_taken_0 23 rfl rfl)
abbrev cX5_next : ByteArray := prog_19_method_14_code
def yX5_next : MethodName := ⟨RX5, "next", "()V"⟩
def dkwX5_next_14 : List UInt8 := [4, 167, 0, 4, 5, 181, 0, 159, 177]
abbrev dktX5_next_14 : List UInt8 := dkwX5_next_14 ++ []
def dkwX5_next_13 : List UInt8 := [180, 0, 156, 28, 153, 0, 8, 16, 7, 167, 0, 4, 6, 164, 0, 7, 7, 167, 0, 12, 28, 153, 0, 7]
abbrev dktX5_next_13 : List UInt8 := dkwX5_next_13 ++ dktX5_next_14
def dkwX5_next_12 : List UInt8 := [181, 0, 156, 42, 89, 180, 0, 21, 4, 96, 181, 0, 21, 167, 255, 142, 42, 29, 153, 0, 20, 42]
abbrev dktX5_next_12 : List UInt8 := dkwX5_next_12 ++ dktX5_next_13
def dkwX5_next_11 : List UInt8 := [180, 0, 169, 104, 42, 182, 0, 149, 96, 16, 48, 100, 181, 0, 169, 42, 89, 180, 0, 156, 4, 96]
abbrev dktX5_next_11 : List UInt8 := dkwX5_next_11 ++ dktX5_next_12
def dkwX5_next_10 : List UInt8 := [16, 8, 121, 42, 182, 0, 149, 133, 129, 181, 0, 172, 42, 180, 0, 156, 6, 162, 0, 22, 42, 16, 10, 42]
abbrev dktX5_next_10 : List UInt8 := dkwX5_next_10 ++ dktX5_next_11
def dkwX5_next_9 : List UInt8 := [28, 160, 0, 7, 4, 167, 0, 4, 3, 62, 42, 180, 0, 156, 16, 7, 162, 0, 20, 42, 42, 180, 0, 172]
abbrev dktX5_next_9 : List UInt8 := dkwX5_next_9 ++ dktX5_next_10
def dkwX5_next_8 : List UInt8 := [154, 0, 13, 42, 182, 0, 149, 184, 0, 166, 153, 0, 100, 29, 153, 0, 18, 42, 182, 0, 149, 184, 0, 162]
abbrev dktX5_next_8 : List UInt8 := dkwX5_next_8 ++ dktX5_next_9
def dkwX5_next_7 : List UInt8 := [184, 0, 162, 61, 4, 62, 42, 9, 181, 0, 172, 42, 3, 181, 0, 169, 42, 182, 0, 149, 184, 0, 162]
abbrev dktX5_next_7 : List UInt8 := dkwX5_next_7 ++ dktX5_next_8
def dkwX5_next_6 : List UInt8 := [167, 0, 4, 7, 181, 0, 159, 42, 27, 181, 0, 169, 42, 89, 180, 0, 21, 4, 96, 181, 0, 21, 177, 27]
abbrev dktX5_next_6 : List UInt8 := dkwX5_next_6 ++ dktX5_next_7
def dkwX5_next_5 : List UInt8 := [159, 0, 21, 27, 16, 41, 159, 0, 15, 27, 16, 60, 161, 0, 13, 27, 16, 62, 163, 0, 7, 6]
abbrev dktX5_next_5 : List UInt8 := dkwX5_next_5 ++ dktX5_next_6
def dkwX5_next_4 : List UInt8 := [27, 184, 0, 162, 154, 0, 65, 27, 184, 0, 166, 154, 0, 58, 42, 27, 16, 59, 159, 0, 27, 27, 16, 40]
abbrev dktX5_next_4 : List UInt8 := dkwX5_next_4 ++ dktX5_next_5
def dkwX5_next_3 : List UInt8 := [181, 0, 153, 42, 7, 181, 0, 159, 177, 42, 182, 0, 149, 60, 27, 156, 0, 9, 42, 3, 181, 0, 159, 177]
abbrev dktX5_next_3 : List UInt8 := dkwX5_next_3 ++ dktX5_next_4
def dkwX5_next_2 : List UInt8 := [42, 180, 0, 24, 164, 0, 28, 42, 180, 0, 21, 42, 180, 0, 24, 161, 0, 17, 42, 42, 180, 0, 24]
abbrev dktX5_next_2 : List UInt8 := dkwX5_next_2 ++ dktX5_next_3
def dkwX5_next_1 : List UInt8 := [96, 181, 0, 21, 167, 255, 228, 42, 42, 180, 0, 21, 181, 0, 153, 42, 3, 181, 0, 156, 42, 180, 0, 18]
abbrev dktX5_next_1 : List UInt8 := dkwX5_next_1 ++ dktX5_next_2
def dkwX5_next_0 : List UInt8 := [42, 182, 0, 149, 16, 32, 159, 0, 12, 42, 182, 0, 149, 16, 10, 160, 0, 16, 42, 89, 180, 0, 21, 4]
abbrev dktX5_next_0 : List UInt8 := dkwX5_next_0 ++ dktX5_next_1
theorem dksX5_next_0 : cX5_next.data.toList.drop 0 = dktX5_next_0 := by decide +kernel
theorem dksX5_next_1 : cX5_next.data.toList.drop 24 = dktX5_next_1 := dk_seg dksX5_next_0 24 rfl rfl
theorem dksX5_next_2 : cX5_next.data.toList.drop 48 = dktX5_next_2 := dk_seg dksX5_next_1 24 rfl rfl
theorem dksX5_next_3 : cX5_next.data.toList.drop 71 = dktX5_next_3 := dk_seg dksX5_next_2 23 rfl rfl
theorem dksX5_next_4 : cX5_next.data.toList.drop 95 = dktX5_next_4 := dk_seg dksX5_next_3 24 rfl rfl
theorem dksX5_next_5 : cX5_next.data.toList.drop 119 = dktX5_next_5 := dk_seg dksX5_next_4 24 rfl rfl
theorem dksX5_next_6 : cX5_next.data.toList.drop 141 = dktX5_next_6 := dk_seg dksX5_next_5 22 rfl rfl
theorem dksX5_next_7 : cX5_next.data.toList.drop 165 = dktX5_next_7 := dk_seg dksX5_next_6 24 rfl rfl
theorem dksX5_next_8 : cX5_next.data.toList.drop 188 = dktX5_next_8 := dk_seg dksX5_next_7 23 rfl rfl
theorem dksX5_next_9 : cX5_next.data.toList.drop 212 = dktX5_next_9 := dk_seg dksX5_next_8 24 rfl rfl
theorem dksX5_next_10 : cX5_next.data.toList.drop 236 = dktX5_next_10 := dk_seg dksX5_next_9 24 rfl rfl
theorem dksX5_next_11 : cX5_next.data.toList.drop 260 = dktX5_next_11 := dk_seg dksX5_next_10 24 rfl rfl
theorem dksX5_next_12 : cX5_next.data.toList.drop 282 = dktX5_next_12 := dk_seg dksX5_next_11 22 rfl rfl
theorem dksX5_next_13 : cX5_next.data.toList.drop 304 = dktX5_next_13 := dk_seg dksX5_next_12 22 rfl rfl
theorem dksX5_next_14 : cX5_next.data.toList.drop 328 = dktX5_next_14 := dk_seg dksX5_next_13 24 rfl rfl
theorem dX5_next_0 : decode cX5_next 0 = .ok (.aload_n 0, 1) := dk_42 (dk_at dksX5_next_0 0 rfl rfl)
theorem dX5_next_1 : decode cX5_next 1 = .ok (.invokevirtual 149, 3) := dk_182 0 149 (dk_at dksX5_next_0 1 rfl rfl)
theorem dX5_next_4 : decode cX5_next 4 = .ok (.bipush 32, 2) := dk_16 32 (dk_at dksX5_next_0 4 rfl rfl)
theorem dX5_next_6 : decode cX5_next 6 = .ok (.if_icmp .eq 12, 3) := dk_159 0 12 (dk_at dksX5_next_0 6 rfl rfl)
theorem dX5_next_9 : decode cX5_next 9 = .ok (.aload_n 0, 1) := dk_42 (dk_at dksX5_next_0 9 rfl rfl)
theorem dX5_next_10 : decode cX5_next 10 = .ok (.invokevirtual 149, 3) := dk_182 0 149 (dk_at dksX5_next_0 10 rfl rfl)
theorem dX5_next_13 : decode cX5_next 13 = .ok (.bipush 10, 2) := dk_16 10 (dk_at dksX5_next_0 13 rfl rfl)
theorem dX5_next_15 : decode cX5_next 15 = .ok (.if_icmp .ne 16, 3) := dk_160 0 16 (dk_at dksX5_next_0 15 rfl rfl)
theorem dX5_next_18 : decode cX5_next 18 = .ok (.aload_n 0, 1) := dk_42 (dk_at dksX5_next_0 18 rfl rfl)
theorem dX5_next_19 : decode cX5_next 19 = .ok (.dup, 1) := dk_89 (dk_at dksX5_next_0 19 rfl rfl)
theorem dX5_next_20 : decode cX5_next 20 = .ok (.getfield 21, 3) := dk_180 0 21 (dk_at dksX5_next_0 20 rfl rfl)
theorem dX5_next_23 : decode cX5_next 23 = .ok (.iconst 1, 1) := dk_4 (dk_at dksX5_next_0 23 rfl rfl)
theorem dX5_next_24 : decode cX5_next 24 = .ok (.iadd, 1) := dk_96 (dk_at dksX5_next_1 0 rfl rfl)
theorem dX5_next_25 : decode cX5_next 25 = .ok (.putfield 21, 3) := dk_181 0 21 (dk_at dksX5_next_1 1 rfl rfl)
theorem dX5_next_28 : decode cX5_next 28 = .ok (.goto (-28), 3) := dk_167 255 228 (dk_at dksX5_next_1 4 rfl rfl)
theorem dX5_next_31 : decode cX5_next 31 = .ok (.aload_n 0, 1) := dk_42 (dk_at dksX5_next_1 7 rfl rfl)
theorem dX5_next_32 : decode cX5_next 32 = .ok (.aload_n 0, 1) := dk_42 (dk_at dksX5_next_1 8 rfl rfl)
theorem dX5_next_33 : decode cX5_next 33 = .ok (.getfield 21, 3) := dk_180 0 21 (dk_at dksX5_next_1 9 rfl rfl)
theorem dX5_next_36 : decode cX5_next 36 = .ok (.putfield 153, 3) := dk_181 0 153 (dk_at dksX5_next_1 12 rfl rfl)
theorem dX5_next_39 : decode cX5_next 39 = .ok (.aload_n 0, 1) := dk_42 (dk_at dksX5_next_1 15 rfl rfl)
theorem dX5_next_40 : decode cX5_next 40 = .ok (.iconst 0, 1) := dk_3 (dk_at dksX5_next_1 16 rfl rfl)
theorem dX5_next_41 : decode cX5_next 41 = .ok (.putfield 156, 3) := dk_181 0 156 (dk_at dksX5_next_1 17 rfl rfl)
theorem dX5_next_44 : decode cX5_next 44 = .ok (.aload_n 0, 1) := dk_42 (dk_at dksX5_next_1 20 rfl rfl)
theorem dX5_next_45 : decode cX5_next 45 = .ok (.getfield 18, 3) := dk_180 0 18 (dk_at dksX5_next_1 21 rfl rfl)
theorem dX5_next_48 : decode cX5_next 48 = .ok (.aload_n 0, 1) := dk_42 (dk_at dksX5_next_2 0 rfl rfl)
theorem dX5_next_49 : decode cX5_next 49 = .ok (.getfield 24, 3) := dk_180 0 24 (dk_at dksX5_next_2 1 rfl rfl)
theorem dX5_next_52 : decode cX5_next 52 = .ok (.if_icmp .le 28, 3) := dk_164 0 28 (dk_at dksX5_next_2 4 rfl rfl)
theorem dX5_next_55 : decode cX5_next 55 = .ok (.aload_n 0, 1) := dk_42 (dk_at dksX5_next_2 7 rfl rfl)
theorem dX5_next_56 : decode cX5_next 56 = .ok (.getfield 21, 3) := dk_180 0 21 (dk_at dksX5_next_2 8 rfl rfl)
theorem dX5_next_59 : decode cX5_next 59 = .ok (.aload_n 0, 1) := dk_42 (dk_at dksX5_next_2 11 rfl rfl)
theorem dX5_next_60 : decode cX5_next 60 = .ok (.getfield 24, 3) := dk_180 0 24 (dk_at dksX5_next_2 12 rfl rfl)
theorem dX5_next_63 : decode cX5_next 63 = .ok (.if_icmp .lt 17, 3) := dk_161 0 17 (dk_at dksX5_next_2 15 rfl rfl)
theorem dX5_next_66 : decode cX5_next 66 = .ok (.aload_n 0, 1) := dk_42 (dk_at dksX5_next_2 18 rfl rfl)
theorem dX5_next_67 : decode cX5_next 67 = .ok (.aload_n 0, 1) := dk_42 (dk_at dksX5_next_2 19 rfl rfl)
theorem dX5_next_68 : decode cX5_next 68 = .ok (.getfield 24, 3) := dk_180 0 24 (dk_at dksX5_next_2 20 rfl rfl)
theorem dX5_next_71 : decode cX5_next 71 = .ok (.putfield 153, 3) := dk_181 0 153 (dk_at dksX5_next_3 0 rfl rfl)
theorem dX5_next_74 : decode cX5_next 74 = .ok (.aload_n 0, 1) := dk_42 (dk_at dksX5_next_3 3 rfl rfl)
theorem dX5_next_75 : decode cX5_next 75 = .ok (.iconst 4, 1) := dk_7 (dk_at dksX5_next_3 4 rfl rfl)
theorem dX5_next_76 : decode cX5_next 76 = .ok (.putfield 159, 3) := dk_181 0 159 (dk_at dksX5_next_3 5 rfl rfl)
theorem dX5_next_79 : decode cX5_next 79 = .ok (.return_, 1) := dk_177 (dk_at dksX5_next_3 8 rfl rfl)
theorem dX5_next_80 : decode cX5_next 80 = .ok (.aload_n 0, 1) := dk_42 (dk_at dksX5_next_3 9 rfl rfl)
theorem dX5_next_81 : decode cX5_next 81 = .ok (.invokevirtual 149, 3) := dk_182 0 149 (dk_at dksX5_next_3 10 rfl rfl)
theorem dX5_next_84 : decode cX5_next 84 = .ok (.istore_n 1, 1) := dk_60 (dk_at dksX5_next_3 13 rfl rfl)
theorem dX5_next_85 : decode cX5_next 85 = .ok (.iload_n 1, 1) := dk_27 (dk_at dksX5_next_3 14 rfl rfl)
theorem dX5_next_86 : decode cX5_next 86 = .ok (.ifCond .ge 9, 3) := dk_156 0 9 (dk_at dksX5_next_3 15 rfl rfl)
theorem dX5_next_89 : decode cX5_next 89 = .ok (.aload_n 0, 1) := dk_42 (dk_at dksX5_next_3 18 rfl rfl)
theorem dX5_next_90 : decode cX5_next 90 = .ok (.iconst 0, 1) := dk_3 (dk_at dksX5_next_3 19 rfl rfl)
theorem dX5_next_91 : decode cX5_next 91 = .ok (.putfield 159, 3) := dk_181 0 159 (dk_at dksX5_next_3 20 rfl rfl)
theorem dX5_next_94 : decode cX5_next 94 = .ok (.return_, 1) := dk_177 (dk_at dksX5_next_3 23 rfl rfl)
theorem dX5_next_95 : decode cX5_next 95 = .ok (.iload_n 1, 1) := dk_27 (dk_at dksX5_next_4 0 rfl rfl)
theorem dX5_next_96 : decode cX5_next 96 = .ok (.invokestatic 162, 3) := dk_184 0 162 (dk_at dksX5_next_4 1 rfl rfl)
theorem dX5_next_99 : decode cX5_next 99 = .ok (.ifCond .ne 65, 3) := dk_154 0 65 (dk_at dksX5_next_4 4 rfl rfl)
theorem dX5_next_102 : decode cX5_next 102 = .ok (.iload_n 1, 1) := dk_27 (dk_at dksX5_next_4 7 rfl rfl)
theorem dX5_next_103 : decode cX5_next 103 = .ok (.invokestatic 166, 3) := dk_184 0 166 (dk_at dksX5_next_4 8 rfl rfl)
theorem dX5_next_106 : decode cX5_next 106 = .ok (.ifCond .ne 58, 3) := dk_154 0 58 (dk_at dksX5_next_4 11 rfl rfl)
theorem dX5_next_109 : decode cX5_next 109 = .ok (.aload_n 0, 1) := dk_42 (dk_at dksX5_next_4 14 rfl rfl)
theorem dX5_next_110 : decode cX5_next 110 = .ok (.iload_n 1, 1) := dk_27 (dk_at dksX5_next_4 15 rfl rfl)
theorem dX5_next_111 : decode cX5_next 111 = .ok (.bipush 59, 2) := dk_16 59 (dk_at dksX5_next_4 16 rfl rfl)
theorem dX5_next_113 : decode cX5_next 113 = .ok (.if_icmp .eq 27, 3) := dk_159 0 27 (dk_at dksX5_next_4 18 rfl rfl)
theorem dX5_next_116 : decode cX5_next 116 = .ok (.iload_n 1, 1) := dk_27 (dk_at dksX5_next_4 21 rfl rfl)
theorem dX5_next_117 : decode cX5_next 117 = .ok (.bipush 40, 2) := dk_16 40 (dk_at dksX5_next_4 22 rfl rfl)
theorem dX5_next_119 : decode cX5_next 119 = .ok (.if_icmp .eq 21, 3) := dk_159 0 21 (dk_at dksX5_next_5 0 rfl rfl)
theorem dX5_next_122 : decode cX5_next 122 = .ok (.iload_n 1, 1) := dk_27 (dk_at dksX5_next_5 3 rfl rfl)
theorem dX5_next_123 : decode cX5_next 123 = .ok (.bipush 41, 2) := dk_16 41 (dk_at dksX5_next_5 4 rfl rfl)
theorem dX5_next_125 : decode cX5_next 125 = .ok (.if_icmp .eq 15, 3) := dk_159 0 15 (dk_at dksX5_next_5 6 rfl rfl)
theorem dX5_next_128 : decode cX5_next 128 = .ok (.iload_n 1, 1) := dk_27 (dk_at dksX5_next_5 9 rfl rfl)
theorem dX5_next_129 : decode cX5_next 129 = .ok (.bipush 60, 2) := dk_16 60 (dk_at dksX5_next_5 10 rfl rfl)
theorem dX5_next_131 : decode cX5_next 131 = .ok (.if_icmp .lt 13, 3) := dk_161 0 13 (dk_at dksX5_next_5 12 rfl rfl)
theorem dX5_next_134 : decode cX5_next 134 = .ok (.iload_n 1, 1) := dk_27 (dk_at dksX5_next_5 15 rfl rfl)
theorem dX5_next_135 : decode cX5_next 135 = .ok (.bipush 62, 2) := dk_16 62 (dk_at dksX5_next_5 16 rfl rfl)
theorem dX5_next_137 : decode cX5_next 137 = .ok (.if_icmp .gt 7, 3) := dk_163 0 7 (dk_at dksX5_next_5 18 rfl rfl)
theorem dX5_next_140 : decode cX5_next 140 = .ok (.iconst 3, 1) := dk_6 (dk_at dksX5_next_5 21 rfl rfl)
theorem dX5_next_141 : decode cX5_next 141 = .ok (.goto 4, 3) := dk_167 0 4 (dk_at dksX5_next_6 0 rfl rfl)
theorem dX5_next_144 : decode cX5_next 144 = .ok (.iconst 4, 1) := dk_7 (dk_at dksX5_next_6 3 rfl rfl)
theorem dX5_next_145 : decode cX5_next 145 = .ok (.putfield 159, 3) := dk_181 0 159 (dk_at dksX5_next_6 4 rfl rfl)
theorem dX5_next_148 : decode cX5_next 148 = .ok (.aload_n 0, 1) := dk_42 (dk_at dksX5_next_6 7 rfl rfl)
theorem dX5_next_149 : decode cX5_next 149 = .ok (.iload_n 1, 1) := dk_27 (dk_at dksX5_next_6 8 rfl rfl)
theorem dX5_next_150 : decode cX5_next 150 = .ok (.putfield 169, 3) := dk_181 0 169 (dk_at dksX5_next_6 9 rfl rfl)
theorem dX5_next_153 : decode cX5_next 153 = .ok (.aload_n 0, 1) := dk_42 (dk_at dksX5_next_6 12 rfl rfl)
theorem dX5_next_154 : decode cX5_next 154 = .ok (.dup, 1) := dk_89 (dk_at dksX5_next_6 13 rfl rfl)
theorem dX5_next_155 : decode cX5_next 155 = .ok (.getfield 21, 3) := dk_180 0 21 (dk_at dksX5_next_6 14 rfl rfl)
theorem dX5_next_158 : decode cX5_next 158 = .ok (.iconst 1, 1) := dk_4 (dk_at dksX5_next_6 17 rfl rfl)
theorem dX5_next_159 : decode cX5_next 159 = .ok (.iadd, 1) := dk_96 (dk_at dksX5_next_6 18 rfl rfl)
theorem dX5_next_160 : decode cX5_next 160 = .ok (.putfield 21, 3) := dk_181 0 21 (dk_at dksX5_next_6 19 rfl rfl)
theorem dX5_next_163 : decode cX5_next 163 = .ok (.return_, 1) := dk_177 (dk_at dksX5_next_6 22 rfl rfl)
theorem dX5_next_164 : decode cX5_next 164 = .ok (.iload_n 1, 1) := dk_27 (dk_at dksX5_next_6 23 rfl rfl)
theorem dX5_next_165 : decode cX5_next 165 = .ok (.invokestatic 162, 3) := dk_184 0 162 (dk_at dksX5_next_7 0 rfl rfl)
theorem dX5_next_168 : decode cX5_next 168 = .ok (.istore_n 2, 1) := dk_61 (dk_at dksX5_next_7 3 rfl rfl)
theorem dX5_next_169 : decode cX5_next 169 = .ok (.iconst 1, 1) := dk_4 (dk_at dksX5_next_7 4 rfl rfl)
theorem dX5_next_170 : decode cX5_next 170 = .ok (.istore_n 3, 1) := dk_62 (dk_at dksX5_next_7 5 rfl rfl)
theorem dX5_next_171 : decode cX5_next 171 = .ok (.aload_n 0, 1) := dk_42 (dk_at dksX5_next_7 6 rfl rfl)
theorem dX5_next_172 : decode cX5_next 172 = .ok (.lconst 0, 1) := dk_9 (dk_at dksX5_next_7 7 rfl rfl)
theorem dX5_next_173 : decode cX5_next 173 = .ok (.putfield 172, 3) := dk_181 0 172 (dk_at dksX5_next_7 8 rfl rfl)
theorem dX5_next_176 : decode cX5_next 176 = .ok (.aload_n 0, 1) := dk_42 (dk_at dksX5_next_7 11 rfl rfl)
theorem dX5_next_177 : decode cX5_next 177 = .ok (.iconst 0, 1) := dk_3 (dk_at dksX5_next_7 12 rfl rfl)
theorem dX5_next_178 : decode cX5_next 178 = .ok (.putfield 169, 3) := dk_181 0 169 (dk_at dksX5_next_7 13 rfl rfl)
theorem dX5_next_181 : decode cX5_next 181 = .ok (.aload_n 0, 1) := dk_42 (dk_at dksX5_next_7 16 rfl rfl)
theorem dX5_next_182 : decode cX5_next 182 = .ok (.invokevirtual 149, 3) := dk_182 0 149 (dk_at dksX5_next_7 17 rfl rfl)
theorem dX5_next_185 : decode cX5_next 185 = .ok (.invokestatic 162, 3) := dk_184 0 162 (dk_at dksX5_next_7 20 rfl rfl)
theorem dX5_next_188 : decode cX5_next 188 = .ok (.ifCond .ne 13, 3) := dk_154 0 13 (dk_at dksX5_next_8 0 rfl rfl)
theorem dX5_next_191 : decode cX5_next 191 = .ok (.aload_n 0, 1) := dk_42 (dk_at dksX5_next_8 3 rfl rfl)
theorem dX5_next_192 : decode cX5_next 192 = .ok (.invokevirtual 149, 3) := dk_182 0 149 (dk_at dksX5_next_8 4 rfl rfl)
theorem dX5_next_195 : decode cX5_next 195 = .ok (.invokestatic 166, 3) := dk_184 0 166 (dk_at dksX5_next_8 7 rfl rfl)
theorem dX5_next_198 : decode cX5_next 198 = .ok (.ifCond .eq 100, 3) := dk_153 0 100 (dk_at dksX5_next_8 10 rfl rfl)
theorem dX5_next_201 : decode cX5_next 201 = .ok (.iload_n 3, 1) := dk_29 (dk_at dksX5_next_8 13 rfl rfl)
theorem dX5_next_202 : decode cX5_next 202 = .ok (.ifCond .eq 18, 3) := dk_153 0 18 (dk_at dksX5_next_8 14 rfl rfl)
theorem dX5_next_205 : decode cX5_next 205 = .ok (.aload_n 0, 1) := dk_42 (dk_at dksX5_next_8 17 rfl rfl)
theorem dX5_next_206 : decode cX5_next 206 = .ok (.invokevirtual 149, 3) := dk_182 0 149 (dk_at dksX5_next_8 18 rfl rfl)
theorem dX5_next_209 : decode cX5_next 209 = .ok (.invokestatic 162, 3) := dk_184 0 162 (dk_at dksX5_next_8 21 rfl rfl)
theorem dX5_next_212 : decode cX5_next 212 = .ok (.iload_n 2, 1) := dk_28 (dk_at dksX5_next_9 0 rfl rfl)
theorem dX5_next_213 : decode cX5_next 213 = .ok (.if_icmp .ne 7, 3) := dk_160 0 7 (dk_at dksX5_next_9 1 rfl rfl)
theorem dX5_next_216 : decode cX5_next 216 = .ok (.iconst 1, 1) := dk_4 (dk_at dksX5_next_9 4 rfl rfl)
theorem dX5_next_217 : decode cX5_next 217 = .ok (.goto 4, 3) := dk_167 0 4 (dk_at dksX5_next_9 5 rfl rfl)
theorem dX5_next_220 : decode cX5_next 220 = .ok (.iconst 0, 1) := dk_3 (dk_at dksX5_next_9 8 rfl rfl)
theorem dX5_next_221 : decode cX5_next 221 = .ok (.istore_n 3, 1) := dk_62 (dk_at dksX5_next_9 9 rfl rfl)
theorem dX5_next_222 : decode cX5_next 222 = .ok (.aload_n 0, 1) := dk_42 (dk_at dksX5_next_9 10 rfl rfl)
theorem dX5_next_223 : decode cX5_next 223 = .ok (.getfield 156, 3) := dk_180 0 156 (dk_at dksX5_next_9 11 rfl rfl)
theorem dX5_next_226 : decode cX5_next 226 = .ok (.bipush 7, 2) := dk_16 7 (dk_at dksX5_next_9 14 rfl rfl)
theorem dX5_next_228 : decode cX5_next 228 = .ok (.if_icmp .ge 20, 3) := dk_162 0 20 (dk_at dksX5_next_9 16 rfl rfl)
theorem dX5_next_231 : decode cX5_next 231 = .ok (.aload_n 0, 1) := dk_42 (dk_at dksX5_next_9 19 rfl rfl)
theorem dX5_next_232 : decode cX5_next 232 = .ok (.aload_n 0, 1) := dk_42 (dk_at dksX5_next_9 20 rfl rfl)
theorem dX5_next_233 : decode cX5_next 233 = .ok (.getfield 172, 3) := dk_180 0 172 (dk_at dksX5_next_9 21 rfl rfl)
theorem dX5_next_236 : decode cX5_next 236 = .ok (.bipush 8, 2) := dk_16 8 (dk_at dksX5_next_10 0 rfl rfl)
theorem dX5_next_238 : decode cX5_next 238 = .ok (.lshl, 1) := dk_121 (dk_at dksX5_next_10 2 rfl rfl)
theorem dX5_next_239 : decode cX5_next 239 = .ok (.aload_n 0, 1) := dk_42 (dk_at dksX5_next_10 3 rfl rfl)
theorem dX5_next_240 : decode cX5_next 240 = .ok (.invokevirtual 149, 3) := dk_182 0 149 (dk_at dksX5_next_10 4 rfl rfl)
theorem dX5_next_243 : decode cX5_next 243 = .ok (.i2l, 1) := dk_133 (dk_at dksX5_next_10 7 rfl rfl)
theorem dX5_next_244 : decode cX5_next 244 = .ok (.lor, 1) := dk_129 (dk_at dksX5_next_10 8 rfl rfl)
theorem dX5_next_245 : decode cX5_next 245 = .ok (.putfield 172, 3) := dk_181 0 172 (dk_at dksX5_next_10 9 rfl rfl)
theorem dX5_next_248 : decode cX5_next 248 = .ok (.aload_n 0, 1) := dk_42 (dk_at dksX5_next_10 12 rfl rfl)
theorem dX5_next_249 : decode cX5_next 249 = .ok (.getfield 156, 3) := dk_180 0 156 (dk_at dksX5_next_10 13 rfl rfl)
theorem dX5_next_252 : decode cX5_next 252 = .ok (.iconst 3, 1) := dk_6 (dk_at dksX5_next_10 16 rfl rfl)
theorem dX5_next_253 : decode cX5_next 253 = .ok (.if_icmp .ge 22, 3) := dk_162 0 22 (dk_at dksX5_next_10 17 rfl rfl)
theorem dX5_next_256 : decode cX5_next 256 = .ok (.aload_n 0, 1) := dk_42 (dk_at dksX5_next_10 20 rfl rfl)
theorem dX5_next_257 : decode cX5_next 257 = .ok (.bipush 10, 2) := dk_16 10 (dk_at dksX5_next_10 21 rfl rfl)
theorem dX5_next_259 : decode cX5_next 259 = .ok (.aload_n 0, 1) := dk_42 (dk_at dksX5_next_10 23 rfl rfl)
theorem dX5_next_260 : decode cX5_next 260 = .ok (.getfield 169, 3) := dk_180 0 169 (dk_at dksX5_next_11 0 rfl rfl)
theorem dX5_next_263 : decode cX5_next 263 = .ok (.imul, 1) := dk_104 (dk_at dksX5_next_11 3 rfl rfl)
theorem dX5_next_264 : decode cX5_next 264 = .ok (.aload_n 0, 1) := dk_42 (dk_at dksX5_next_11 4 rfl rfl)
theorem dX5_next_265 : decode cX5_next 265 = .ok (.invokevirtual 149, 3) := dk_182 0 149 (dk_at dksX5_next_11 5 rfl rfl)
theorem dX5_next_268 : decode cX5_next 268 = .ok (.iadd, 1) := dk_96 (dk_at dksX5_next_11 8 rfl rfl)
theorem dX5_next_269 : decode cX5_next 269 = .ok (.bipush 48, 2) := dk_16 48 (dk_at dksX5_next_11 9 rfl rfl)
theorem dX5_next_271 : decode cX5_next 271 = .ok (.isub, 1) := dk_100 (dk_at dksX5_next_11 11 rfl rfl)
theorem dX5_next_272 : decode cX5_next 272 = .ok (.putfield 169, 3) := dk_181 0 169 (dk_at dksX5_next_11 12 rfl rfl)
theorem dX5_next_275 : decode cX5_next 275 = .ok (.aload_n 0, 1) := dk_42 (dk_at dksX5_next_11 15 rfl rfl)
theorem dX5_next_276 : decode cX5_next 276 = .ok (.dup, 1) := dk_89 (dk_at dksX5_next_11 16 rfl rfl)
theorem dX5_next_277 : decode cX5_next 277 = .ok (.getfield 156, 3) := dk_180 0 156 (dk_at dksX5_next_11 17 rfl rfl)
theorem dX5_next_280 : decode cX5_next 280 = .ok (.iconst 1, 1) := dk_4 (dk_at dksX5_next_11 20 rfl rfl)
theorem dX5_next_281 : decode cX5_next 281 = .ok (.iadd, 1) := dk_96 (dk_at dksX5_next_11 21 rfl rfl)
theorem dX5_next_282 : decode cX5_next 282 = .ok (.putfield 156, 3) := dk_181 0 156 (dk_at dksX5_next_12 0 rfl rfl)
theorem dX5_next_285 : decode cX5_next 285 = .ok (.aload_n 0, 1) := dk_42 (dk_at dksX5_next_12 3 rfl rfl)
theorem dX5_next_286 : decode cX5_next 286 = .ok (.dup, 1) := dk_89 (dk_at dksX5_next_12 4 rfl rfl)
theorem dX5_next_287 : decode cX5_next 287 = .ok (.getfield 21, 3) := dk_180 0 21 (dk_at dksX5_next_12 5 rfl rfl)
theorem dX5_next_290 : decode cX5_next 290 = .ok (.iconst 1, 1) := dk_4 (dk_at dksX5_next_12 8 rfl rfl)
theorem dX5_next_291 : decode cX5_next 291 = .ok (.iadd, 1) := dk_96 (dk_at dksX5_next_12 9 rfl rfl)
theorem dX5_next_292 : decode cX5_next 292 = .ok (.putfield 21, 3) := dk_181 0 21 (dk_at dksX5_next_12 10 rfl rfl)
theorem dX5_next_295 : decode cX5_next 295 = .ok (.goto (-114), 3) := dk_167 255 142 (dk_at dksX5_next_12 13 rfl rfl)
theorem dX5_next_298 : decode cX5_next 298 = .ok (.aload_n 0, 1) := dk_42 (dk_at dksX5_next_12 16 rfl rfl)
theorem dX5_next_299 : decode cX5_next 299 = .ok (.iload_n 3, 1) := dk_29 (dk_at dksX5_next_12 17 rfl rfl)
theorem dX5_next_300 : decode cX5_next 300 = .ok (.ifCond .eq 20, 3) := dk_153 0 20 (dk_at dksX5_next_12 18 rfl rfl)
theorem dX5_next_303 : decode cX5_next 303 = .ok (.aload_n 0, 1) := dk_42 (dk_at dksX5_next_12 21 rfl rfl)
theorem dX5_next_304 : decode cX5_next 304 = .ok (.getfield 156, 3) := dk_180 0 156 (dk_at dksX5_next_13 0 rfl rfl)
theorem dX5_next_307 : decode cX5_next 307 = .ok (.iload_n 2, 1) := dk_28 (dk_at dksX5_next_13 3 rfl rfl)
theorem dX5_next_308 : decode cX5_next 308 = .ok (.ifCond .eq 8, 3) := dk_153 0 8 (dk_at dksX5_next_13 4 rfl rfl)
theorem dX5_next_311 : decode cX5_next 311 = .ok (.bipush 7, 2) := dk_16 7 (dk_at dksX5_next_13 7 rfl rfl)
theorem dX5_next_313 : decode cX5_next 313 = .ok (.goto 4, 3) := dk_167 0 4 (dk_at dksX5_next_13 9 rfl rfl)
theorem dX5_next_316 : decode cX5_next 316 = .ok (.iconst 3, 1) := dk_6 (dk_at dksX5_next_13 12 rfl rfl)
theorem dX5_next_317 : decode cX5_next 317 = .ok (.if_icmp .le 7, 3) := dk_164 0 7 (dk_at dksX5_next_13 13 rfl rfl)
theorem dX5_next_320 : decode cX5_next 320 = .ok (.iconst 4, 1) := dk_7 (dk_at dksX5_next_13 16 rfl rfl)
theorem dX5_next_321 : decode cX5_next 321 = .ok (.goto 12, 3) := dk_167 0 12 (dk_at dksX5_next_13 17 rfl rfl)
theorem dX5_next_324 : decode cX5_next 324 = .ok (.iload_n 2, 1) := dk_28 (dk_at dksX5_next_13 20 rfl rfl)
theorem dX5_next_325 : decode cX5_next 325 = .ok (.ifCond .eq 7, 3) := dk_153 0 7 (dk_at dksX5_next_13 21 rfl rfl)
theorem dX5_next_328 : decode cX5_next 328 = .ok (.iconst 1, 1) := dk_4 (dk_at dksX5_next_14 0 rfl rfl)
theorem dX5_next_329 : decode cX5_next 329 = .ok (.goto 4, 3) := dk_167 0 4 (dk_at dksX5_next_14 1 rfl rfl)
theorem dX5_next_332 : decode cX5_next 332 = .ok (.iconst 2, 1) := dk_5 (dk_at dksX5_next_14 4 rfl rfl)
theorem dX5_next_333 : decode cX5_next 333 = .ok (.putfield 159, 3) := dk_181 0 159 (dk_at dksX5_next_14 5 rfl rfl)
theorem dX5_next_336 : decode cX5_next 336 = .ok (.return_, 1) := dk_177 (dk_at dksX5_next_14 8 rfl rfl)
abbrev cX5_peek : ByteArray := prog_19_method_11_code
def yX5_peek : MethodName := ⟨RX5, "peek", "()I"⟩
def dkwX5_peek_1 : List UInt8 := [167, 0, 4, 2, 172]
abbrev dktX5_peek_1 : List UInt8 := dkwX5_peek_1 ++ []
def dkwX5_peek_0 : List UInt8 := [42, 180, 0, 21, 42, 180, 0, 18, 162, 0, 19, 42, 180, 0, 14, 42, 180, 0, 21, 51, 17, 0, 255, 126]
abbrev dktX5_peek_0 : List UInt8 := dkwX5_peek_0 ++ dktX5_peek_1
theorem dksX5_peek_0 : cX5_peek.data.toList.drop 0 = dktX5_peek_0 := by decide +kernel
theorem dksX5_peek_1 : cX5_peek.data.toList.drop 24 = dktX5_peek_1 := dk_seg dksX5_peek_0 24 rfl rfl
theorem dX5_peek_0 : decode cX5_peek 0 = .ok (.aload_n 0, 1) := dk_42 (dk_at dksX5_peek_0 0 rfl rfl)
theorem dX5_peek_1 : decode cX5_peek 1 = .ok (.getfield 21, 3) := dk_180 0 21 (dk_at dksX5_peek_0 1 rfl rfl)
theorem dX5_peek_4 : decode cX5_peek 4 = .ok (.aload_n 0, 1) := dk_42 (dk_at dksX5_peek_0 4 rfl rfl)
theorem dX5_peek_5 : decode cX5_peek 5 = .ok (.getfield 18, 3) := dk_180 0 18 (dk_at dksX5_peek_0 5 rfl rfl)
theorem dX5_peek_8 : decode cX5_peek 8 = .ok (.if_icmp .ge 19, 3) := dk_162 0 19 (dk_at dksX5_peek_0 8 rfl rfl)
theorem dX5_peek_11 : decode cX5_peek 11 = .ok (.aload_n 0, 1) := dk_42 (dk_at dksX5_peek_0 11 rfl rfl)
theorem dX5_peek_12 : decode cX5_peek 12 = .ok (.getfield 14, 3) := dk_180 0 14 (dk_at dksX5_peek_0 12 rfl rfl)
theorem dX5_peek_15 : decode cX5_peek 15 = .ok (.aload_n 0, 1) := dk_42 (dk_at dksX5_peek_0 15 rfl rfl)
theorem dX5_peek_16 : decode cX5_peek 16 = .ok (.getfield 21, 3) := dk_180 0 21 (dk_at dksX5_peek_0 16 rfl rfl)
theorem dX5_peek_19 : decode cX5_peek 19 = .ok (.baload, 1) := dk_51 (dk_at dksX5_peek_0 19 rfl rfl)
theorem dX5_peek_20 : decode cX5_peek 20 = .ok (.sipush 255, 3) := dk_17 0 255 (dk_at dksX5_peek_0 20 rfl rfl)
theorem dX5_peek_23 : decode cX5_peek 23 = .ok (.iand, 1) := dk_126 (dk_at dksX5_peek_0 23 rfl rfl)
theorem dX5_peek_24 : decode cX5_peek 24 = .ok (.goto 4, 3) := dk_167 0 4 (dk_at dksX5_peek_1 0 rfl rfl)
theorem dX5_peek_27 : decode cX5_peek 27 = .ok (.iconst (-1), 1) := dk_2 (dk_at dksX5_peek_1 3 rfl rfl)
theorem dX5_peek_28 : decode cX5_peek 28 = .ok (.ireturn, 1) := dk_172 (dk_at dksX5_peek_1 4 rfl rfl)
abbrev cX5_isSmall : ByteArray := prog_19_method_12_code
def yX5_isSmall : MethodName := ⟨RX5, "isSmall", "(I)Z"⟩
def dkwX5_isSmall_0 : List UInt8 := [26, 16, 97, 161, 0, 13, 26, 16, 122, 163, 0, 7, 4, 167, 0, 4, 3, 172]
abbrev dktX5_isSmall_0 : List UInt8 := dkwX5_isSmall_0 ++ []
theorem dksX5_isSmall_0 : cX5_isSmall.data.toList.drop 0 = dktX5_isSmall_0 := by decide +kernel
theorem dX5_isSmall_0 : decode cX5_isSmall 0 = .ok (.iload_n 0, 1) := dk_26 (dk_at dksX5_isSmall_0 0 rfl rfl)
theorem dX5_isSmall_1 : decode cX5_isSmall 1 = .ok (.bipush 97, 2) := dk_16 97 (dk_at dksX5_isSmall_0 1 rfl rfl)
theorem dX5_isSmall_3 : decode cX5_isSmall 3 = .ok (.if_icmp .lt 13, 3) := dk_161 0 13 (dk_at dksX5_isSmall_0 3 rfl rfl)
theorem dX5_isSmall_6 : decode cX5_isSmall 6 = .ok (.iload_n 0, 1) := dk_26 (dk_at dksX5_isSmall_0 6 rfl rfl)
theorem dX5_isSmall_7 : decode cX5_isSmall 7 = .ok (.bipush 122, 2) := dk_16 122 (dk_at dksX5_isSmall_0 7 rfl rfl)
theorem dX5_isSmall_9 : decode cX5_isSmall 9 = .ok (.if_icmp .gt 7, 3) := dk_163 0 7 (dk_at dksX5_isSmall_0 9 rfl rfl)
theorem dX5_isSmall_12 : decode cX5_isSmall 12 = .ok (.iconst 1, 1) := dk_4 (dk_at dksX5_isSmall_0 12 rfl rfl)
theorem dX5_isSmall_13 : decode cX5_isSmall 13 = .ok (.goto 4, 3) := dk_167 0 4 (dk_at dksX5_isSmall_0 13 rfl rfl)
theorem dX5_isSmall_16 : decode cX5_isSmall 16 = .ok (.iconst 0, 1) := dk_3 (dk_at dksX5_isSmall_0 16 rfl rfl)
theorem dX5_isSmall_17 : decode cX5_isSmall 17 = .ok (.ireturn, 1) := dk_172 (dk_at dksX5_isSmall_0 17 rfl rfl)
abbrev cX5_isDigit : ByteArray := prog_19_method_13_code
def yX5_isDigit : MethodName := ⟨RX5, "isDigit", "(I)Z"⟩
def dkwX5_isDigit_0 : List UInt8 := [26, 16, 48, 161, 0, 13, 26, 16, 57, 163, 0, 7, 4, 167, 0, 4, 3, 172]
abbrev dktX5_isDigit_0 : List UInt8 := dkwX5_isDigit_0 ++ []
theorem dksX5_isDigit_0 : cX5_isDigit.data.toList.drop 0 = dktX5_isDigit_0 := by decide +kernel
theorem dX5_isDigit_0 : decode cX5_isDigit 0 = .ok (.iload_n 0, 1) := dk_26 (dk_at dksX5_isDigit_0 0 rfl rfl)
theorem dX5_isDigit_1 : decode cX5_isDigit 1 = .ok (.bipush 48, 2) := dk_16 48 (dk_at dksX5_isDigit_0 1 rfl rfl)
theorem dX5_isDigit_3 : decode cX5_isDigit 3 = .ok (.if_icmp .lt 13, 3) := dk_161 0 13 (dk_at dksX5_isDigit_0 3 rfl rfl)
theorem dX5_isDigit_6 : decode cX5_isDigit 6 = .ok (.iload_n 0, 1) := dk_26 (dk_at dksX5_isDigit_0 6 rfl rfl)
theorem dX5_isDigit_7 : decode cX5_isDigit 7 = .ok (.bipush 57, 2) := dk_16 57 (dk_at dksX5_isDigit_0 7 rfl rfl)
theorem dX5_isDigit_9 : decode cX5_isDigit 9 = .ok (.if_icmp .gt 7, 3) := dk_163 0 7 (dk_at dksX5_isDigit_0 9 rfl rfl)
theorem dX5_isDigit_12 : decode cX5_isDigit 12 = .ok (.iconst 1, 1) := dk_4 (dk_at dksX5_isDigit_0 12 rfl rfl)
theorem dX5_isDigit_13 : decode cX5_isDigit 13 = .ok (.goto 4, 3) := dk_167 0 4 (dk_at dksX5_isDigit_0 13 rfl rfl)
theorem dX5_isDigit_16 : decode cX5_isDigit 16 = .ok (.iconst 0, 1) := dk_3 (dk_at dksX5_isDigit_0 16 rfl rfl)
theorem dX5_isDigit_17 : decode cX5_isDigit 17 = .ok (.ireturn, 1) := dk_172 (dk_at dksX5_isDigit_0 17 rfl rfl)
abbrev cX5_line : ByteArray := prog_19_method_23_code
def yX5_line : MethodName := ⟨RX5, "line", "()Z"⟩
def dkwX5_line_20 : List UInt8 := [16, 9, 182, 0, 214, 154, 0, 5, 3, 172, 42, 180, 0, 37, 16, 6, 42, 180, 0, 195, 79, 4, 172]
abbrev dktX5_line_20 : List UInt8 := dkwX5_line_20 ++ []
def dkwX5_line_19 : List UInt8 := [42, 180, 0, 227, 153, 0, 9, 42, 6, 182, 0, 185, 172, 42, 4, 181, 0, 227, 42, 182, 0, 188, 42, 4]
abbrev dktX5_line_19 : List UInt8 := dkwX5_line_19 ++ dktX5_line_20
def dkwX5_line_18 : List UInt8 := [153, 0, 8, 42, 182, 0, 224, 172, 42, 20, 0, 119, 182, 0, 206, 154, 0, 9, 42, 4, 182, 0, 185, 172]
abbrev dktX5_line_18 : List UInt8 := dkwX5_line_18 ++ dktX5_line_19
def dkwX5_line_17 : List UInt8 := [79, 42, 180, 0, 37, 8, 92, 46, 4, 96, 79, 42, 182, 0, 188, 4, 172, 42, 20, 0, 117, 182, 0, 206]
abbrev dktX5_line_17 : List UInt8 := dkwX5_line_17 ++ dktX5_line_18
def dkwX5_line_16 : List UInt8 := [132, 1, 1, 167, 255, 220, 42, 180, 0, 37, 17, 0, 169, 42, 180, 0, 37, 8, 46, 96, 42, 180, 0, 195]
abbrev dktX5_line_16 : List UInt8 := dkwX5_line_16 ++ dktX5_line_17
def dkwX5_line_15 : List UInt8 := [180, 0, 37, 17, 0, 169, 27, 96, 46, 42, 180, 0, 195, 160, 0, 9, 42, 6, 182, 0, 185, 172]
abbrev dktX5_line_15 : List UInt8 := dkwX5_line_15 ++ dktX5_line_16
def dkwX5_line_14 : List UInt8 := [42, 182, 0, 221, 154, 0, 5, 3, 172, 3, 60, 27, 42, 180, 0, 37, 8, 46, 162, 0, 32, 42]
abbrev dktX5_line_14 : List UInt8 := dkwX5_line_14 ++ dktX5_line_15
def dkwX5_line_13 : List UInt8 := [153, 0, 109, 42, 180, 0, 37, 8, 46, 16, 8, 160, 0, 9, 42, 7, 182, 0, 185, 172, 42, 182, 0, 188]
abbrev dktX5_line_13 : List UInt8 := dkwX5_line_13 ++ dktX5_line_14
def dkwX5_line_12 : List UInt8 := [180, 0, 37, 7, 92, 46, 4, 96, 79, 42, 182, 0, 188, 4, 172, 42, 20, 0, 115, 182, 0, 206]
abbrev dktX5_line_12 : List UInt8 := dkwX5_line_12 ++ dktX5_line_13
def dkwX5_line_11 : List UInt8 := [160, 0, 9, 42, 6, 182, 0, 185, 172, 42, 180, 0, 37, 16, 25, 42, 180, 0, 195, 96, 4, 79, 42]
abbrev dktX5_line_11 : List UInt8 := dkwX5_line_11 ++ dktX5_line_12
def dkwX5_line_10 : List UInt8 := [42, 182, 0, 221, 154, 0, 5, 3, 172, 42, 180, 0, 37, 16, 25, 42, 180, 0, 195, 96, 46, 4]
abbrev dktX5_line_10 : List UInt8 := dkwX5_line_10 ++ dktX5_line_11
def dkwX5_line_9 : List UInt8 := [153, 0, 84, 42, 180, 0, 37, 7, 46, 16, 30, 160, 0, 9, 42, 7, 182, 0, 185, 172, 42, 182, 0, 188]
abbrev dktX5_line_9 : List UInt8 := dkwX5_line_9 ++ dktX5_line_10
def dkwX5_line_8 : List UInt8 := [180, 0, 195, 79, 42, 180, 0, 37, 5, 92, 46, 4, 96, 79, 4, 172, 42, 20, 0, 113, 182, 0, 206]
abbrev dktX5_line_8 : List UInt8 := dkwX5_line_8 ++ dktX5_line_9
def dkwX5_line_7 : List UInt8 := [79, 42, 4, 16, 9, 182, 0, 214, 154, 0, 5, 3, 172, 42, 180, 0, 37, 16, 19, 27, 96, 42]
abbrev dktX5_line_7 : List UInt8 := dkwX5_line_7 ++ dktX5_line_8
def dkwX5_line_6 : List UInt8 := [42, 3, 16, 9, 182, 0, 214, 154, 0, 5, 3, 172, 42, 180, 0, 37, 16, 13, 27, 96, 42, 180, 0, 195]
abbrev dktX5_line_6 : List UInt8 := dkwX5_line_6 ++ dktX5_line_7
def dkwX5_line_5 : List UInt8 := [4, 16, 9, 182, 0, 214, 154, 0, 5, 3, 172, 42, 180, 0, 37, 16, 7, 27, 96, 42, 180, 0, 195, 79]
abbrev dktX5_line_5 : List UInt8 := dkwX5_line_5 ++ dktX5_line_6
def dkwX5_line_4 : List UInt8 := [42, 7, 182, 0, 185, 172, 42, 182, 0, 188, 42, 16, 12, 27, 96, 182, 0, 218, 154, 0, 5, 3, 172, 42]
abbrev dktX5_line_4 : List UInt8 := dkwX5_line_4 ++ dktX5_line_5
def dkwX5_line_3 : List UInt8 := [172, 42, 20, 0, 111, 182, 0, 206, 153, 0, 126, 42, 180, 0, 37, 5, 46, 60, 27, 16, 6, 160, 0, 9]
abbrev dktX5_line_3 : List UInt8 := dkwX5_line_3 ++ dktX5_line_4
def dkwX5_line_2 : List UInt8 := [154, 0, 5, 3, 172, 42, 180, 0, 37, 3, 27, 96, 42, 180, 0, 195, 79, 132, 1, 1, 167, 255, 224, 4]
abbrev dktX5_line_2 : List UInt8 := dkwX5_line_2 ++ dktX5_line_3
def dkwX5_line_1 : List UInt8 := [4, 181, 0, 210, 42, 182, 0, 188, 3, 60, 27, 5, 162, 0, 33, 42, 5, 16, 12, 182, 0, 214]
abbrev dktX5_line_1 : List UInt8 := dkwX5_line_1 ++ dktX5_line_2
def dkwX5_line_0 : List UInt8 := [42, 20, 0, 109, 182, 0, 206, 153, 0, 64, 42, 180, 0, 210, 153, 0, 9, 42, 6, 182, 0, 185, 172, 42]
abbrev dktX5_line_0 : List UInt8 := dkwX5_line_0 ++ dktX5_line_1
theorem dksX5_line_0 : cX5_line.data.toList.drop 0 = dktX5_line_0 := by decide +kernel
theorem dksX5_line_1 : cX5_line.data.toList.drop 24 = dktX5_line_1 := dk_seg dksX5_line_0 24 rfl rfl
theorem dksX5_line_2 : cX5_line.data.toList.drop 46 = dktX5_line_2 := dk_seg dksX5_line_1 22 rfl rfl
theorem dksX5_line_3 : cX5_line.data.toList.drop 70 = dktX5_line_3 := dk_seg dksX5_line_2 24 rfl rfl
theorem dksX5_line_4 : cX5_line.data.toList.drop 94 = dktX5_line_4 := dk_seg dksX5_line_3 24 rfl rfl
theorem dksX5_line_5 : cX5_line.data.toList.drop 118 = dktX5_line_5 := dk_seg dksX5_line_4 24 rfl rfl
theorem dksX5_line_6 : cX5_line.data.toList.drop 142 = dktX5_line_6 := dk_seg dksX5_line_5 24 rfl rfl
theorem dksX5_line_7 : cX5_line.data.toList.drop 166 = dktX5_line_7 := dk_seg dksX5_line_6 24 rfl rfl
theorem dksX5_line_8 : cX5_line.data.toList.drop 188 = dktX5_line_8 := dk_seg dksX5_line_7 22 rfl rfl
theorem dksX5_line_9 : cX5_line.data.toList.drop 211 = dktX5_line_9 := dk_seg dksX5_line_8 23 rfl rfl
theorem dksX5_line_10 : cX5_line.data.toList.drop 235 = dktX5_line_10 := dk_seg dksX5_line_9 24 rfl rfl
theorem dksX5_line_11 : cX5_line.data.toList.drop 257 = dktX5_line_11 := dk_seg dksX5_line_10 22 rfl rfl
theorem dksX5_line_12 : cX5_line.data.toList.drop 280 = dktX5_line_12 := dk_seg dksX5_line_11 23 rfl rfl
theorem dksX5_line_13 : cX5_line.data.toList.drop 302 = dktX5_line_13 := dk_seg dksX5_line_12 22 rfl rfl
theorem dksX5_line_14 : cX5_line.data.toList.drop 326 = dktX5_line_14 := dk_seg dksX5_line_13 24 rfl rfl
theorem dksX5_line_15 : cX5_line.data.toList.drop 348 = dktX5_line_15 := dk_seg dksX5_line_14 22 rfl rfl
theorem dksX5_line_16 : cX5_line.data.toList.drop 370 = dktX5_line_16 := dk_seg dksX5_line_15 22 rfl rfl
theorem dksX5_line_17 : cX5_line.data.toList.drop 394 = dktX5_line_17 := dk_seg dksX5_line_16 24 rfl rfl
theorem dksX5_line_18 : cX5_line.data.toList.drop 418 = dktX5_line_18 := dk_seg dksX5_line_17 24 rfl rfl
theorem dksX5_line_19 : cX5_line.data.toList.drop 442 = dktX5_line_19 := dk_seg dksX5_line_18 24 rfl rfl
theorem dksX5_line_20 : cX5_line.data.toList.drop 466 = dktX5_line_20 := dk_seg dksX5_line_19 24 rfl rfl
theorem dX5_line_0 : decode cX5_line 0 = .ok (.aload_n 0, 1) := dk_42 (dk_at dksX5_line_0 0 rfl rfl)
theorem dX5_line_1 : decode cX5_line 1 = .ok (.ldc2_w 109, 3) := dk_20 0 109 (dk_at dksX5_line_0 1 rfl rfl)
theorem dX5_line_4 : decode cX5_line 4 = .ok (.invokevirtual 206, 3) := dk_182 0 206 (dk_at dksX5_line_0 4 rfl rfl)
theorem dX5_line_7 : decode cX5_line 7 = .ok (.ifCond .eq 64, 3) := dk_153 0 64 (dk_at dksX5_line_0 7 rfl rfl)
theorem dX5_line_10 : decode cX5_line 10 = .ok (.aload_n 0, 1) := dk_42 (dk_at dksX5_line_0 10 rfl rfl)
theorem dX5_line_11 : decode cX5_line 11 = .ok (.getfield 210, 3) := dk_180 0 210 (dk_at dksX5_line_0 11 rfl rfl)
theorem dX5_line_14 : decode cX5_line 14 = .ok (.ifCond .eq 9, 3) := dk_153 0 9 (dk_at dksX5_line_0 14 rfl rfl)
theorem dX5_line_17 : decode cX5_line 17 = .ok (.aload_n 0, 1) := dk_42 (dk_at dksX5_line_0 17 rfl rfl)
theorem dX5_line_18 : decode cX5_line 18 = .ok (.iconst 3, 1) := dk_6 (dk_at dksX5_line_0 18 rfl rfl)
theorem dX5_line_19 : decode cX5_line 19 = .ok (.invokevirtual 185, 3) := dk_182 0 185 (dk_at dksX5_line_0 19 rfl rfl)
theorem dX5_line_22 : decode cX5_line 22 = .ok (.ireturn, 1) := dk_172 (dk_at dksX5_line_0 22 rfl rfl)
theorem dX5_line_23 : decode cX5_line 23 = .ok (.aload_n 0, 1) := dk_42 (dk_at dksX5_line_0 23 rfl rfl)
theorem dX5_line_24 : decode cX5_line 24 = .ok (.iconst 1, 1) := dk_4 (dk_at dksX5_line_1 0 rfl rfl)
theorem dX5_line_25 : decode cX5_line 25 = .ok (.putfield 210, 3) := dk_181 0 210 (dk_at dksX5_line_1 1 rfl rfl)
theorem dX5_line_28 : decode cX5_line 28 = .ok (.aload_n 0, 1) := dk_42 (dk_at dksX5_line_1 4 rfl rfl)
theorem dX5_line_29 : decode cX5_line 29 = .ok (.invokevirtual 188, 3) := dk_182 0 188 (dk_at dksX5_line_1 5 rfl rfl)
theorem dX5_line_32 : decode cX5_line 32 = .ok (.iconst 0, 1) := dk_3 (dk_at dksX5_line_1 8 rfl rfl)
theorem dX5_line_33 : decode cX5_line 33 = .ok (.istore_n 1, 1) := dk_60 (dk_at dksX5_line_1 9 rfl rfl)
theorem dX5_line_34 : decode cX5_line 34 = .ok (.iload_n 1, 1) := dk_27 (dk_at dksX5_line_1 10 rfl rfl)
theorem dX5_line_35 : decode cX5_line 35 = .ok (.iconst 2, 1) := dk_5 (dk_at dksX5_line_1 11 rfl rfl)
theorem dX5_line_36 : decode cX5_line 36 = .ok (.if_icmp .ge 33, 3) := dk_162 0 33 (dk_at dksX5_line_1 12 rfl rfl)
theorem dX5_line_39 : decode cX5_line 39 = .ok (.aload_n 0, 1) := dk_42 (dk_at dksX5_line_1 15 rfl rfl)
theorem dX5_line_40 : decode cX5_line 40 = .ok (.iconst 2, 1) := dk_5 (dk_at dksX5_line_1 16 rfl rfl)
theorem dX5_line_41 : decode cX5_line 41 = .ok (.bipush 12, 2) := dk_16 12 (dk_at dksX5_line_1 17 rfl rfl)
theorem dX5_line_43 : decode cX5_line 43 = .ok (.invokevirtual 214, 3) := dk_182 0 214 (dk_at dksX5_line_1 19 rfl rfl)
theorem dX5_line_46 : decode cX5_line 46 = .ok (.ifCond .ne 5, 3) := dk_154 0 5 (dk_at dksX5_line_2 0 rfl rfl)
theorem dX5_line_49 : decode cX5_line 49 = .ok (.iconst 0, 1) := dk_3 (dk_at dksX5_line_2 3 rfl rfl)
theorem dX5_line_50 : decode cX5_line 50 = .ok (.ireturn, 1) := dk_172 (dk_at dksX5_line_2 4 rfl rfl)
theorem dX5_line_51 : decode cX5_line 51 = .ok (.aload_n 0, 1) := dk_42 (dk_at dksX5_line_2 5 rfl rfl)
theorem dX5_line_52 : decode cX5_line 52 = .ok (.getfield 37, 3) := dk_180 0 37 (dk_at dksX5_line_2 6 rfl rfl)
theorem dX5_line_55 : decode cX5_line 55 = .ok (.iconst 0, 1) := dk_3 (dk_at dksX5_line_2 9 rfl rfl)
theorem dX5_line_56 : decode cX5_line 56 = .ok (.iload_n 1, 1) := dk_27 (dk_at dksX5_line_2 10 rfl rfl)
theorem dX5_line_57 : decode cX5_line 57 = .ok (.iadd, 1) := dk_96 (dk_at dksX5_line_2 11 rfl rfl)
theorem dX5_line_58 : decode cX5_line 58 = .ok (.aload_n 0, 1) := dk_42 (dk_at dksX5_line_2 12 rfl rfl)
theorem dX5_line_59 : decode cX5_line 59 = .ok (.getfield 195, 3) := dk_180 0 195 (dk_at dksX5_line_2 13 rfl rfl)
theorem dX5_line_62 : decode cX5_line 62 = .ok (.iastore, 1) := dk_79 (dk_at dksX5_line_2 16 rfl rfl)
theorem dX5_line_63 : decode cX5_line 63 = .ok (.iinc 1 1, 3) := dk_132 1 1 (dk_at dksX5_line_2 17 rfl rfl)
theorem dX5_line_66 : decode cX5_line 66 = .ok (.goto (-32), 3) := dk_167 255 224 (dk_at dksX5_line_2 20 rfl rfl)
theorem dX5_line_69 : decode cX5_line 69 = .ok (.iconst 1, 1) := dk_4 (dk_at dksX5_line_2 23 rfl rfl)
theorem dX5_line_70 : decode cX5_line 70 = .ok (.ireturn, 1) := dk_172 (dk_at dksX5_line_3 0 rfl rfl)
theorem dX5_line_71 : decode cX5_line 71 = .ok (.aload_n 0, 1) := dk_42 (dk_at dksX5_line_3 1 rfl rfl)
theorem dX5_line_72 : decode cX5_line 72 = .ok (.ldc2_w 111, 3) := dk_20 0 111 (dk_at dksX5_line_3 2 rfl rfl)
theorem dX5_line_75 : decode cX5_line 75 = .ok (.invokevirtual 206, 3) := dk_182 0 206 (dk_at dksX5_line_3 5 rfl rfl)
theorem dX5_line_78 : decode cX5_line 78 = .ok (.ifCond .eq 126, 3) := dk_153 0 126 (dk_at dksX5_line_3 8 rfl rfl)
theorem dX5_line_81 : decode cX5_line 81 = .ok (.aload_n 0, 1) := dk_42 (dk_at dksX5_line_3 11 rfl rfl)
theorem dX5_line_82 : decode cX5_line 82 = .ok (.getfield 37, 3) := dk_180 0 37 (dk_at dksX5_line_3 12 rfl rfl)
theorem dX5_line_85 : decode cX5_line 85 = .ok (.iconst 2, 1) := dk_5 (dk_at dksX5_line_3 15 rfl rfl)
theorem dX5_line_86 : decode cX5_line 86 = .ok (.iaload, 1) := dk_46 (dk_at dksX5_line_3 16 rfl rfl)
theorem dX5_line_87 : decode cX5_line 87 = .ok (.istore_n 1, 1) := dk_60 (dk_at dksX5_line_3 17 rfl rfl)
theorem dX5_line_88 : decode cX5_line 88 = .ok (.iload_n 1, 1) := dk_27 (dk_at dksX5_line_3 18 rfl rfl)
theorem dX5_line_89 : decode cX5_line 89 = .ok (.bipush 6, 2) := dk_16 6 (dk_at dksX5_line_3 19 rfl rfl)
theorem dX5_line_91 : decode cX5_line 91 = .ok (.if_icmp .ne 9, 3) := dk_160 0 9 (dk_at dksX5_line_3 21 rfl rfl)
theorem dX5_line_94 : decode cX5_line 94 = .ok (.aload_n 0, 1) := dk_42 (dk_at dksX5_line_4 0 rfl rfl)
theorem dX5_line_95 : decode cX5_line 95 = .ok (.iconst 4, 1) := dk_7 (dk_at dksX5_line_4 1 rfl rfl)
theorem dX5_line_96 : decode cX5_line 96 = .ok (.invokevirtual 185, 3) := dk_182 0 185 (dk_at dksX5_line_4 2 rfl rfl)
theorem dX5_line_99 : decode cX5_line 99 = .ok (.ireturn, 1) := dk_172 (dk_at dksX5_line_4 5 rfl rfl)
theorem dX5_line_100 : decode cX5_line 100 = .ok (.aload_n 0, 1) := dk_42 (dk_at dksX5_line_4 6 rfl rfl)
theorem dX5_line_101 : decode cX5_line 101 = .ok (.invokevirtual 188, 3) := dk_182 0 188 (dk_at dksX5_line_4 7 rfl rfl)
theorem dX5_line_104 : decode cX5_line 104 = .ok (.aload_n 0, 1) := dk_42 (dk_at dksX5_line_4 10 rfl rfl)
theorem dX5_line_105 : decode cX5_line 105 = .ok (.bipush 12, 2) := dk_16 12 (dk_at dksX5_line_4 11 rfl rfl)
theorem dX5_line_107 : decode cX5_line 107 = .ok (.iload_n 1, 1) := dk_27 (dk_at dksX5_line_4 13 rfl rfl)
theorem dX5_line_108 : decode cX5_line 108 = .ok (.iadd, 1) := dk_96 (dk_at dksX5_line_4 14 rfl rfl)
theorem dX5_line_109 : decode cX5_line 109 = .ok (.invokevirtual 218, 3) := dk_182 0 218 (dk_at dksX5_line_4 15 rfl rfl)
theorem dX5_line_112 : decode cX5_line 112 = .ok (.ifCond .ne 5, 3) := dk_154 0 5 (dk_at dksX5_line_4 18 rfl rfl)
theorem dX5_line_115 : decode cX5_line 115 = .ok (.iconst 0, 1) := dk_3 (dk_at dksX5_line_4 21 rfl rfl)
theorem dX5_line_116 : decode cX5_line 116 = .ok (.ireturn, 1) := dk_172 (dk_at dksX5_line_4 22 rfl rfl)
theorem dX5_line_117 : decode cX5_line 117 = .ok (.aload_n 0, 1) := dk_42 (dk_at dksX5_line_4 23 rfl rfl)
theorem dX5_line_118 : decode cX5_line 118 = .ok (.iconst 1, 1) := dk_4 (dk_at dksX5_line_5 0 rfl rfl)
theorem dX5_line_119 : decode cX5_line 119 = .ok (.bipush 9, 2) := dk_16 9 (dk_at dksX5_line_5 1 rfl rfl)
theorem dX5_line_121 : decode cX5_line 121 = .ok (.invokevirtual 214, 3) := dk_182 0 214 (dk_at dksX5_line_5 3 rfl rfl)
theorem dX5_line_124 : decode cX5_line 124 = .ok (.ifCond .ne 5, 3) := dk_154 0 5 (dk_at dksX5_line_5 6 rfl rfl)
theorem dX5_line_127 : decode cX5_line 127 = .ok (.iconst 0, 1) := dk_3 (dk_at dksX5_line_5 9 rfl rfl)
theorem dX5_line_128 : decode cX5_line 128 = .ok (.ireturn, 1) := dk_172 (dk_at dksX5_line_5 10 rfl rfl)
theorem dX5_line_129 : decode cX5_line 129 = .ok (.aload_n 0, 1) := dk_42 (dk_at dksX5_line_5 11 rfl rfl)
theorem dX5_line_130 : decode cX5_line 130 = .ok (.getfield 37, 3) := dk_180 0 37 (dk_at dksX5_line_5 12 rfl rfl)
theorem dX5_line_133 : decode cX5_line 133 = .ok (.bipush 7, 2) := dk_16 7 (dk_at dksX5_line_5 15 rfl rfl)
theorem dX5_line_135 : decode cX5_line 135 = .ok (.iload_n 1, 1) := dk_27 (dk_at dksX5_line_5 17 rfl rfl)
theorem dX5_line_136 : decode cX5_line 136 = .ok (.iadd, 1) := dk_96 (dk_at dksX5_line_5 18 rfl rfl)
theorem dX5_line_137 : decode cX5_line 137 = .ok (.aload_n 0, 1) := dk_42 (dk_at dksX5_line_5 19 rfl rfl)
theorem dX5_line_138 : decode cX5_line 138 = .ok (.getfield 195, 3) := dk_180 0 195 (dk_at dksX5_line_5 20 rfl rfl)
theorem dX5_line_141 : decode cX5_line 141 = .ok (.iastore, 1) := dk_79 (dk_at dksX5_line_5 23 rfl rfl)
theorem dX5_line_142 : decode cX5_line 142 = .ok (.aload_n 0, 1) := dk_42 (dk_at dksX5_line_6 0 rfl rfl)
theorem dX5_line_143 : decode cX5_line 143 = .ok (.iconst 0, 1) := dk_3 (dk_at dksX5_line_6 1 rfl rfl)
theorem dX5_line_144 : decode cX5_line 144 = .ok (.bipush 9, 2) := dk_16 9 (dk_at dksX5_line_6 2 rfl rfl)
theorem dX5_line_146 : decode cX5_line 146 = .ok (.invokevirtual 214, 3) := dk_182 0 214 (dk_at dksX5_line_6 4 rfl rfl)
theorem dX5_line_149 : decode cX5_line 149 = .ok (.ifCond .ne 5, 3) := dk_154 0 5 (dk_at dksX5_line_6 7 rfl rfl)
theorem dX5_line_152 : decode cX5_line 152 = .ok (.iconst 0, 1) := dk_3 (dk_at dksX5_line_6 10 rfl rfl)
theorem dX5_line_153 : decode cX5_line 153 = .ok (.ireturn, 1) := dk_172 (dk_at dksX5_line_6 11 rfl rfl)
theorem dX5_line_154 : decode cX5_line 154 = .ok (.aload_n 0, 1) := dk_42 (dk_at dksX5_line_6 12 rfl rfl)
theorem dX5_line_155 : decode cX5_line 155 = .ok (.getfield 37, 3) := dk_180 0 37 (dk_at dksX5_line_6 13 rfl rfl)
theorem dX5_line_158 : decode cX5_line 158 = .ok (.bipush 13, 2) := dk_16 13 (dk_at dksX5_line_6 16 rfl rfl)
theorem dX5_line_160 : decode cX5_line 160 = .ok (.iload_n 1, 1) := dk_27 (dk_at dksX5_line_6 18 rfl rfl)
theorem dX5_line_161 : decode cX5_line 161 = .ok (.iadd, 1) := dk_96 (dk_at dksX5_line_6 19 rfl rfl)
theorem dX5_line_162 : decode cX5_line 162 = .ok (.aload_n 0, 1) := dk_42 (dk_at dksX5_line_6 20 rfl rfl)
theorem dX5_line_163 : decode cX5_line 163 = .ok (.getfield 195, 3) := dk_180 0 195 (dk_at dksX5_line_6 21 rfl rfl)
theorem dX5_line_166 : decode cX5_line 166 = .ok (.iastore, 1) := dk_79 (dk_at dksX5_line_7 0 rfl rfl)
theorem dX5_line_167 : decode cX5_line 167 = .ok (.aload_n 0, 1) := dk_42 (dk_at dksX5_line_7 1 rfl rfl)
theorem dX5_line_168 : decode cX5_line 168 = .ok (.iconst 1, 1) := dk_4 (dk_at dksX5_line_7 2 rfl rfl)
theorem dX5_line_169 : decode cX5_line 169 = .ok (.bipush 9, 2) := dk_16 9 (dk_at dksX5_line_7 3 rfl rfl)
theorem dX5_line_171 : decode cX5_line 171 = .ok (.invokevirtual 214, 3) := dk_182 0 214 (dk_at dksX5_line_7 5 rfl rfl)
theorem dX5_line_174 : decode cX5_line 174 = .ok (.ifCond .ne 5, 3) := dk_154 0 5 (dk_at dksX5_line_7 8 rfl rfl)
theorem dX5_line_177 : decode cX5_line 177 = .ok (.iconst 0, 1) := dk_3 (dk_at dksX5_line_7 11 rfl rfl)
theorem dX5_line_178 : decode cX5_line 178 = .ok (.ireturn, 1) := dk_172 (dk_at dksX5_line_7 12 rfl rfl)
theorem dX5_line_179 : decode cX5_line 179 = .ok (.aload_n 0, 1) := dk_42 (dk_at dksX5_line_7 13 rfl rfl)
theorem dX5_line_180 : decode cX5_line 180 = .ok (.getfield 37, 3) := dk_180 0 37 (dk_at dksX5_line_7 14 rfl rfl)
theorem dX5_line_183 : decode cX5_line 183 = .ok (.bipush 19, 2) := dk_16 19 (dk_at dksX5_line_7 17 rfl rfl)
theorem dX5_line_185 : decode cX5_line 185 = .ok (.iload_n 1, 1) := dk_27 (dk_at dksX5_line_7 19 rfl rfl)
theorem dX5_line_186 : decode cX5_line 186 = .ok (.iadd, 1) := dk_96 (dk_at dksX5_line_7 20 rfl rfl)
theorem dX5_line_187 : decode cX5_line 187 = .ok (.aload_n 0, 1) := dk_42 (dk_at dksX5_line_7 21 rfl rfl)
theorem dX5_line_188 : decode cX5_line 188 = .ok (.getfield 195, 3) := dk_180 0 195 (dk_at dksX5_line_8 0 rfl rfl)
theorem dX5_line_191 : decode cX5_line 191 = .ok (.iastore, 1) := dk_79 (dk_at dksX5_line_8 3 rfl rfl)
theorem dX5_line_192 : decode cX5_line 192 = .ok (.aload_n 0, 1) := dk_42 (dk_at dksX5_line_8 4 rfl rfl)
theorem dX5_line_193 : decode cX5_line 193 = .ok (.getfield 37, 3) := dk_180 0 37 (dk_at dksX5_line_8 5 rfl rfl)
theorem dX5_line_196 : decode cX5_line 196 = .ok (.iconst 2, 1) := dk_5 (dk_at dksX5_line_8 8 rfl rfl)
theorem dX5_line_197 : decode cX5_line 197 = .ok (.dup2, 1) := dk_92 (dk_at dksX5_line_8 9 rfl rfl)
theorem dX5_line_198 : decode cX5_line 198 = .ok (.iaload, 1) := dk_46 (dk_at dksX5_line_8 10 rfl rfl)
theorem dX5_line_199 : decode cX5_line 199 = .ok (.iconst 1, 1) := dk_4 (dk_at dksX5_line_8 11 rfl rfl)
theorem dX5_line_200 : decode cX5_line 200 = .ok (.iadd, 1) := dk_96 (dk_at dksX5_line_8 12 rfl rfl)
theorem dX5_line_201 : decode cX5_line 201 = .ok (.iastore, 1) := dk_79 (dk_at dksX5_line_8 13 rfl rfl)
theorem dX5_line_202 : decode cX5_line 202 = .ok (.iconst 1, 1) := dk_4 (dk_at dksX5_line_8 14 rfl rfl)
theorem dX5_line_203 : decode cX5_line 203 = .ok (.ireturn, 1) := dk_172 (dk_at dksX5_line_8 15 rfl rfl)
theorem dX5_line_204 : decode cX5_line 204 = .ok (.aload_n 0, 1) := dk_42 (dk_at dksX5_line_8 16 rfl rfl)
theorem dX5_line_205 : decode cX5_line 205 = .ok (.ldc2_w 113, 3) := dk_20 0 113 (dk_at dksX5_line_8 17 rfl rfl)
theorem dX5_line_208 : decode cX5_line 208 = .ok (.invokevirtual 206, 3) := dk_182 0 206 (dk_at dksX5_line_8 20 rfl rfl)
theorem dX5_line_211 : decode cX5_line 211 = .ok (.ifCond .eq 84, 3) := dk_153 0 84 (dk_at dksX5_line_9 0 rfl rfl)
theorem dX5_line_214 : decode cX5_line 214 = .ok (.aload_n 0, 1) := dk_42 (dk_at dksX5_line_9 3 rfl rfl)
theorem dX5_line_215 : decode cX5_line 215 = .ok (.getfield 37, 3) := dk_180 0 37 (dk_at dksX5_line_9 4 rfl rfl)
theorem dX5_line_218 : decode cX5_line 218 = .ok (.iconst 4, 1) := dk_7 (dk_at dksX5_line_9 7 rfl rfl)
theorem dX5_line_219 : decode cX5_line 219 = .ok (.iaload, 1) := dk_46 (dk_at dksX5_line_9 8 rfl rfl)
theorem dX5_line_220 : decode cX5_line 220 = .ok (.bipush 30, 2) := dk_16 30 (dk_at dksX5_line_9 9 rfl rfl)
theorem dX5_line_222 : decode cX5_line 222 = .ok (.if_icmp .ne 9, 3) := dk_160 0 9 (dk_at dksX5_line_9 11 rfl rfl)
theorem dX5_line_225 : decode cX5_line 225 = .ok (.aload_n 0, 1) := dk_42 (dk_at dksX5_line_9 14 rfl rfl)
theorem dX5_line_226 : decode cX5_line 226 = .ok (.iconst 4, 1) := dk_7 (dk_at dksX5_line_9 15 rfl rfl)
theorem dX5_line_227 : decode cX5_line 227 = .ok (.invokevirtual 185, 3) := dk_182 0 185 (dk_at dksX5_line_9 16 rfl rfl)
theorem dX5_line_230 : decode cX5_line 230 = .ok (.ireturn, 1) := dk_172 (dk_at dksX5_line_9 19 rfl rfl)
theorem dX5_line_231 : decode cX5_line 231 = .ok (.aload_n 0, 1) := dk_42 (dk_at dksX5_line_9 20 rfl rfl)
theorem dX5_line_232 : decode cX5_line 232 = .ok (.invokevirtual 188, 3) := dk_182 0 188 (dk_at dksX5_line_9 21 rfl rfl)
theorem dX5_line_235 : decode cX5_line 235 = .ok (.aload_n 0, 1) := dk_42 (dk_at dksX5_line_10 0 rfl rfl)
theorem dX5_line_236 : decode cX5_line 236 = .ok (.invokevirtual 221, 3) := dk_182 0 221 (dk_at dksX5_line_10 1 rfl rfl)
theorem dX5_line_239 : decode cX5_line 239 = .ok (.ifCond .ne 5, 3) := dk_154 0 5 (dk_at dksX5_line_10 4 rfl rfl)
theorem dX5_line_242 : decode cX5_line 242 = .ok (.iconst 0, 1) := dk_3 (dk_at dksX5_line_10 7 rfl rfl)
theorem dX5_line_243 : decode cX5_line 243 = .ok (.ireturn, 1) := dk_172 (dk_at dksX5_line_10 8 rfl rfl)
theorem dX5_line_244 : decode cX5_line 244 = .ok (.aload_n 0, 1) := dk_42 (dk_at dksX5_line_10 9 rfl rfl)
theorem dX5_line_245 : decode cX5_line 245 = .ok (.getfield 37, 3) := dk_180 0 37 (dk_at dksX5_line_10 10 rfl rfl)
theorem dX5_line_248 : decode cX5_line 248 = .ok (.bipush 25, 2) := dk_16 25 (dk_at dksX5_line_10 13 rfl rfl)
theorem dX5_line_250 : decode cX5_line 250 = .ok (.aload_n 0, 1) := dk_42 (dk_at dksX5_line_10 15 rfl rfl)
theorem dX5_line_251 : decode cX5_line 251 = .ok (.getfield 195, 3) := dk_180 0 195 (dk_at dksX5_line_10 16 rfl rfl)
theorem dX5_line_254 : decode cX5_line 254 = .ok (.iadd, 1) := dk_96 (dk_at dksX5_line_10 19 rfl rfl)
theorem dX5_line_255 : decode cX5_line 255 = .ok (.iaload, 1) := dk_46 (dk_at dksX5_line_10 20 rfl rfl)
theorem dX5_line_256 : decode cX5_line 256 = .ok (.iconst 1, 1) := dk_4 (dk_at dksX5_line_10 21 rfl rfl)
theorem dX5_line_257 : decode cX5_line 257 = .ok (.if_icmp .ne 9, 3) := dk_160 0 9 (dk_at dksX5_line_11 0 rfl rfl)
theorem dX5_line_260 : decode cX5_line 260 = .ok (.aload_n 0, 1) := dk_42 (dk_at dksX5_line_11 3 rfl rfl)
theorem dX5_line_261 : decode cX5_line 261 = .ok (.iconst 3, 1) := dk_6 (dk_at dksX5_line_11 4 rfl rfl)
theorem dX5_line_262 : decode cX5_line 262 = .ok (.invokevirtual 185, 3) := dk_182 0 185 (dk_at dksX5_line_11 5 rfl rfl)
theorem dX5_line_265 : decode cX5_line 265 = .ok (.ireturn, 1) := dk_172 (dk_at dksX5_line_11 8 rfl rfl)
theorem dX5_line_266 : decode cX5_line 266 = .ok (.aload_n 0, 1) := dk_42 (dk_at dksX5_line_11 9 rfl rfl)
theorem dX5_line_267 : decode cX5_line 267 = .ok (.getfield 37, 3) := dk_180 0 37 (dk_at dksX5_line_11 10 rfl rfl)
theorem dX5_line_270 : decode cX5_line 270 = .ok (.bipush 25, 2) := dk_16 25 (dk_at dksX5_line_11 13 rfl rfl)
theorem dX5_line_272 : decode cX5_line 272 = .ok (.aload_n 0, 1) := dk_42 (dk_at dksX5_line_11 15 rfl rfl)
theorem dX5_line_273 : decode cX5_line 273 = .ok (.getfield 195, 3) := dk_180 0 195 (dk_at dksX5_line_11 16 rfl rfl)
theorem dX5_line_276 : decode cX5_line 276 = .ok (.iadd, 1) := dk_96 (dk_at dksX5_line_11 19 rfl rfl)
theorem dX5_line_277 : decode cX5_line 277 = .ok (.iconst 1, 1) := dk_4 (dk_at dksX5_line_11 20 rfl rfl)
theorem dX5_line_278 : decode cX5_line 278 = .ok (.iastore, 1) := dk_79 (dk_at dksX5_line_11 21 rfl rfl)
theorem dX5_line_279 : decode cX5_line 279 = .ok (.aload_n 0, 1) := dk_42 (dk_at dksX5_line_11 22 rfl rfl)
theorem dX5_line_280 : decode cX5_line 280 = .ok (.getfield 37, 3) := dk_180 0 37 (dk_at dksX5_line_12 0 rfl rfl)
theorem dX5_line_283 : decode cX5_line 283 = .ok (.iconst 4, 1) := dk_7 (dk_at dksX5_line_12 3 rfl rfl)
theorem dX5_line_284 : decode cX5_line 284 = .ok (.dup2, 1) := dk_92 (dk_at dksX5_line_12 4 rfl rfl)
theorem dX5_line_285 : decode cX5_line 285 = .ok (.iaload, 1) := dk_46 (dk_at dksX5_line_12 5 rfl rfl)
theorem dX5_line_286 : decode cX5_line 286 = .ok (.iconst 1, 1) := dk_4 (dk_at dksX5_line_12 6 rfl rfl)
theorem dX5_line_287 : decode cX5_line 287 = .ok (.iadd, 1) := dk_96 (dk_at dksX5_line_12 7 rfl rfl)
theorem dX5_line_288 : decode cX5_line 288 = .ok (.iastore, 1) := dk_79 (dk_at dksX5_line_12 8 rfl rfl)
theorem dX5_line_289 : decode cX5_line 289 = .ok (.aload_n 0, 1) := dk_42 (dk_at dksX5_line_12 9 rfl rfl)
theorem dX5_line_290 : decode cX5_line 290 = .ok (.invokevirtual 188, 3) := dk_182 0 188 (dk_at dksX5_line_12 10 rfl rfl)
theorem dX5_line_293 : decode cX5_line 293 = .ok (.iconst 1, 1) := dk_4 (dk_at dksX5_line_12 13 rfl rfl)
theorem dX5_line_294 : decode cX5_line 294 = .ok (.ireturn, 1) := dk_172 (dk_at dksX5_line_12 14 rfl rfl)
theorem dX5_line_295 : decode cX5_line 295 = .ok (.aload_n 0, 1) := dk_42 (dk_at dksX5_line_12 15 rfl rfl)
theorem dX5_line_296 : decode cX5_line 296 = .ok (.ldc2_w 115, 3) := dk_20 0 115 (dk_at dksX5_line_12 16 rfl rfl)
theorem dX5_line_299 : decode cX5_line 299 = .ok (.invokevirtual 206, 3) := dk_182 0 206 (dk_at dksX5_line_12 19 rfl rfl)
theorem dX5_line_302 : decode cX5_line 302 = .ok (.ifCond .eq 109, 3) := dk_153 0 109 (dk_at dksX5_line_13 0 rfl rfl)
theorem dX5_line_305 : decode cX5_line 305 = .ok (.aload_n 0, 1) := dk_42 (dk_at dksX5_line_13 3 rfl rfl)
theorem dX5_line_306 : decode cX5_line 306 = .ok (.getfield 37, 3) := dk_180 0 37 (dk_at dksX5_line_13 4 rfl rfl)
theorem dX5_line_309 : decode cX5_line 309 = .ok (.iconst 5, 1) := dk_8 (dk_at dksX5_line_13 7 rfl rfl)
theorem dX5_line_310 : decode cX5_line 310 = .ok (.iaload, 1) := dk_46 (dk_at dksX5_line_13 8 rfl rfl)
theorem dX5_line_311 : decode cX5_line 311 = .ok (.bipush 8, 2) := dk_16 8 (dk_at dksX5_line_13 9 rfl rfl)
theorem dX5_line_313 : decode cX5_line 313 = .ok (.if_icmp .ne 9, 3) := dk_160 0 9 (dk_at dksX5_line_13 11 rfl rfl)
theorem dX5_line_316 : decode cX5_line 316 = .ok (.aload_n 0, 1) := dk_42 (dk_at dksX5_line_13 14 rfl rfl)
theorem dX5_line_317 : decode cX5_line 317 = .ok (.iconst 4, 1) := dk_7 (dk_at dksX5_line_13 15 rfl rfl)
theorem dX5_line_318 : decode cX5_line 318 = .ok (.invokevirtual 185, 3) := dk_182 0 185 (dk_at dksX5_line_13 16 rfl rfl)
theorem dX5_line_321 : decode cX5_line 321 = .ok (.ireturn, 1) := dk_172 (dk_at dksX5_line_13 19 rfl rfl)
theorem dX5_line_322 : decode cX5_line 322 = .ok (.aload_n 0, 1) := dk_42 (dk_at dksX5_line_13 20 rfl rfl)
theorem dX5_line_323 : decode cX5_line 323 = .ok (.invokevirtual 188, 3) := dk_182 0 188 (dk_at dksX5_line_13 21 rfl rfl)
theorem dX5_line_326 : decode cX5_line 326 = .ok (.aload_n 0, 1) := dk_42 (dk_at dksX5_line_14 0 rfl rfl)
theorem dX5_line_327 : decode cX5_line 327 = .ok (.invokevirtual 221, 3) := dk_182 0 221 (dk_at dksX5_line_14 1 rfl rfl)
theorem dX5_line_330 : decode cX5_line 330 = .ok (.ifCond .ne 5, 3) := dk_154 0 5 (dk_at dksX5_line_14 4 rfl rfl)
theorem dX5_line_333 : decode cX5_line 333 = .ok (.iconst 0, 1) := dk_3 (dk_at dksX5_line_14 7 rfl rfl)
theorem dX5_line_334 : decode cX5_line 334 = .ok (.ireturn, 1) := dk_172 (dk_at dksX5_line_14 8 rfl rfl)
theorem dX5_line_335 : decode cX5_line 335 = .ok (.iconst 0, 1) := dk_3 (dk_at dksX5_line_14 9 rfl rfl)
theorem dX5_line_336 : decode cX5_line 336 = .ok (.istore_n 1, 1) := dk_60 (dk_at dksX5_line_14 10 rfl rfl)
theorem dX5_line_337 : decode cX5_line 337 = .ok (.iload_n 1, 1) := dk_27 (dk_at dksX5_line_14 11 rfl rfl)
theorem dX5_line_338 : decode cX5_line 338 = .ok (.aload_n 0, 1) := dk_42 (dk_at dksX5_line_14 12 rfl rfl)
theorem dX5_line_339 : decode cX5_line 339 = .ok (.getfield 37, 3) := dk_180 0 37 (dk_at dksX5_line_14 13 rfl rfl)
theorem dX5_line_342 : decode cX5_line 342 = .ok (.iconst 5, 1) := dk_8 (dk_at dksX5_line_14 16 rfl rfl)
theorem dX5_line_343 : decode cX5_line 343 = .ok (.iaload, 1) := dk_46 (dk_at dksX5_line_14 17 rfl rfl)
theorem dX5_line_344 : decode cX5_line 344 = .ok (.if_icmp .ge 32, 3) := dk_162 0 32 (dk_at dksX5_line_14 18 rfl rfl)
theorem dX5_line_347 : decode cX5_line 347 = .ok (.aload_n 0, 1) := dk_42 (dk_at dksX5_line_14 21 rfl rfl)
theorem dX5_line_348 : decode cX5_line 348 = .ok (.getfield 37, 3) := dk_180 0 37 (dk_at dksX5_line_15 0 rfl rfl)
theorem dX5_line_351 : decode cX5_line 351 = .ok (.sipush 169, 3) := dk_17 0 169 (dk_at dksX5_line_15 3 rfl rfl)
theorem dX5_line_354 : decode cX5_line 354 = .ok (.iload_n 1, 1) := dk_27 (dk_at dksX5_line_15 6 rfl rfl)
theorem dX5_line_355 : decode cX5_line 355 = .ok (.iadd, 1) := dk_96 (dk_at dksX5_line_15 7 rfl rfl)
theorem dX5_line_356 : decode cX5_line 356 = .ok (.iaload, 1) := dk_46 (dk_at dksX5_line_15 8 rfl rfl)
theorem dX5_line_357 : decode cX5_line 357 = .ok (.aload_n 0, 1) := dk_42 (dk_at dksX5_line_15 9 rfl rfl)
theorem dX5_line_358 : decode cX5_line 358 = .ok (.getfield 195, 3) := dk_180 0 195 (dk_at dksX5_line_15 10 rfl rfl)
theorem dX5_line_361 : decode cX5_line 361 = .ok (.if_icmp .ne 9, 3) := dk_160 0 9 (dk_at dksX5_line_15 13 rfl rfl)
theorem dX5_line_364 : decode cX5_line 364 = .ok (.aload_n 0, 1) := dk_42 (dk_at dksX5_line_15 16 rfl rfl)
theorem dX5_line_365 : decode cX5_line 365 = .ok (.iconst 3, 1) := dk_6 (dk_at dksX5_line_15 17 rfl rfl)
theorem dX5_line_366 : decode cX5_line 366 = .ok (.invokevirtual 185, 3) := dk_182 0 185 (dk_at dksX5_line_15 18 rfl rfl)
theorem dX5_line_369 : decode cX5_line 369 = .ok (.ireturn, 1) := dk_172 (dk_at dksX5_line_15 21 rfl rfl)
theorem dX5_line_370 : decode cX5_line 370 = .ok (.iinc 1 1, 3) := dk_132 1 1 (dk_at dksX5_line_16 0 rfl rfl)
theorem dX5_line_373 : decode cX5_line 373 = .ok (.goto (-36), 3) := dk_167 255 220 (dk_at dksX5_line_16 3 rfl rfl)
theorem dX5_line_376 : decode cX5_line 376 = .ok (.aload_n 0, 1) := dk_42 (dk_at dksX5_line_16 6 rfl rfl)
theorem dX5_line_377 : decode cX5_line 377 = .ok (.getfield 37, 3) := dk_180 0 37 (dk_at dksX5_line_16 7 rfl rfl)
theorem dX5_line_380 : decode cX5_line 380 = .ok (.sipush 169, 3) := dk_17 0 169 (dk_at dksX5_line_16 10 rfl rfl)
theorem dX5_line_383 : decode cX5_line 383 = .ok (.aload_n 0, 1) := dk_42 (dk_at dksX5_line_16 13 rfl rfl)
theorem dX5_line_384 : decode cX5_line 384 = .ok (.getfield 37, 3) := dk_180 0 37 (dk_at dksX5_line_16 14 rfl rfl)
theorem dX5_line_387 : decode cX5_line 387 = .ok (.iconst 5, 1) := dk_8 (dk_at dksX5_line_16 17 rfl rfl)
theorem dX5_line_388 : decode cX5_line 388 = .ok (.iaload, 1) := dk_46 (dk_at dksX5_line_16 18 rfl rfl)
theorem dX5_line_389 : decode cX5_line 389 = .ok (.iadd, 1) := dk_96 (dk_at dksX5_line_16 19 rfl rfl)
theorem dX5_line_390 : decode cX5_line 390 = .ok (.aload_n 0, 1) := dk_42 (dk_at dksX5_line_16 20 rfl rfl)
theorem dX5_line_391 : decode cX5_line 391 = .ok (.getfield 195, 3) := dk_180 0 195 (dk_at dksX5_line_16 21 rfl rfl)
theorem dX5_line_394 : decode cX5_line 394 = .ok (.iastore, 1) := dk_79 (dk_at dksX5_line_17 0 rfl rfl)
theorem dX5_line_395 : decode cX5_line 395 = .ok (.aload_n 0, 1) := dk_42 (dk_at dksX5_line_17 1 rfl rfl)
theorem dX5_line_396 : decode cX5_line 396 = .ok (.getfield 37, 3) := dk_180 0 37 (dk_at dksX5_line_17 2 rfl rfl)
theorem dX5_line_399 : decode cX5_line 399 = .ok (.iconst 5, 1) := dk_8 (dk_at dksX5_line_17 5 rfl rfl)
theorem dX5_line_400 : decode cX5_line 400 = .ok (.dup2, 1) := dk_92 (dk_at dksX5_line_17 6 rfl rfl)
theorem dX5_line_401 : decode cX5_line 401 = .ok (.iaload, 1) := dk_46 (dk_at dksX5_line_17 7 rfl rfl)
theorem dX5_line_402 : decode cX5_line 402 = .ok (.iconst 1, 1) := dk_4 (dk_at dksX5_line_17 8 rfl rfl)
theorem dX5_line_403 : decode cX5_line 403 = .ok (.iadd, 1) := dk_96 (dk_at dksX5_line_17 9 rfl rfl)
theorem dX5_line_404 : decode cX5_line 404 = .ok (.iastore, 1) := dk_79 (dk_at dksX5_line_17 10 rfl rfl)
theorem dX5_line_405 : decode cX5_line 405 = .ok (.aload_n 0, 1) := dk_42 (dk_at dksX5_line_17 11 rfl rfl)
theorem dX5_line_406 : decode cX5_line 406 = .ok (.invokevirtual 188, 3) := dk_182 0 188 (dk_at dksX5_line_17 12 rfl rfl)
theorem dX5_line_409 : decode cX5_line 409 = .ok (.iconst 1, 1) := dk_4 (dk_at dksX5_line_17 15 rfl rfl)
theorem dX5_line_410 : decode cX5_line 410 = .ok (.ireturn, 1) := dk_172 (dk_at dksX5_line_17 16 rfl rfl)
theorem dX5_line_411 : decode cX5_line 411 = .ok (.aload_n 0, 1) := dk_42 (dk_at dksX5_line_17 17 rfl rfl)
theorem dX5_line_412 : decode cX5_line 412 = .ok (.ldc2_w 117, 3) := dk_20 0 117 (dk_at dksX5_line_17 18 rfl rfl)
theorem dX5_line_415 : decode cX5_line 415 = .ok (.invokevirtual 206, 3) := dk_182 0 206 (dk_at dksX5_line_17 21 rfl rfl)
theorem dX5_line_418 : decode cX5_line 418 = .ok (.ifCond .eq 8, 3) := dk_153 0 8 (dk_at dksX5_line_18 0 rfl rfl)
theorem dX5_line_421 : decode cX5_line 421 = .ok (.aload_n 0, 1) := dk_42 (dk_at dksX5_line_18 3 rfl rfl)
theorem dX5_line_422 : decode cX5_line 422 = .ok (.invokevirtual 224, 3) := dk_182 0 224 (dk_at dksX5_line_18 4 rfl rfl)
theorem dX5_line_425 : decode cX5_line 425 = .ok (.ireturn, 1) := dk_172 (dk_at dksX5_line_18 7 rfl rfl)
theorem dX5_line_426 : decode cX5_line 426 = .ok (.aload_n 0, 1) := dk_42 (dk_at dksX5_line_18 8 rfl rfl)
theorem dX5_line_427 : decode cX5_line 427 = .ok (.ldc2_w 119, 3) := dk_20 0 119 (dk_at dksX5_line_18 9 rfl rfl)
theorem dX5_line_430 : decode cX5_line 430 = .ok (.invokevirtual 206, 3) := dk_182 0 206 (dk_at dksX5_line_18 12 rfl rfl)
theorem dX5_line_433 : decode cX5_line 433 = .ok (.ifCond .ne 9, 3) := dk_154 0 9 (dk_at dksX5_line_18 15 rfl rfl)
theorem dX5_line_436 : decode cX5_line 436 = .ok (.aload_n 0, 1) := dk_42 (dk_at dksX5_line_18 18 rfl rfl)
theorem dX5_line_437 : decode cX5_line 437 = .ok (.iconst 1, 1) := dk_4 (dk_at dksX5_line_18 19 rfl rfl)
theorem dX5_line_438 : decode cX5_line 438 = .ok (.invokevirtual 185, 3) := dk_182 0 185 (dk_at dksX5_line_18 20 rfl rfl)
theorem dX5_line_441 : decode cX5_line 441 = .ok (.ireturn, 1) := dk_172 (dk_at dksX5_line_18 23 rfl rfl)
theorem dX5_line_442 : decode cX5_line 442 = .ok (.aload_n 0, 1) := dk_42 (dk_at dksX5_line_19 0 rfl rfl)
theorem dX5_line_443 : decode cX5_line 443 = .ok (.getfield 227, 3) := dk_180 0 227 (dk_at dksX5_line_19 1 rfl rfl)
theorem dX5_line_446 : decode cX5_line 446 = .ok (.ifCond .eq 9, 3) := dk_153 0 9 (dk_at dksX5_line_19 4 rfl rfl)
theorem dX5_line_449 : decode cX5_line 449 = .ok (.aload_n 0, 1) := dk_42 (dk_at dksX5_line_19 7 rfl rfl)
theorem dX5_line_450 : decode cX5_line 450 = .ok (.iconst 3, 1) := dk_6 (dk_at dksX5_line_19 8 rfl rfl)
theorem dX5_line_451 : decode cX5_line 451 = .ok (.invokevirtual 185, 3) := dk_182 0 185 (dk_at dksX5_line_19 9 rfl rfl)
theorem dX5_line_454 : decode cX5_line 454 = .ok (.ireturn, 1) := dk_172 (dk_at dksX5_line_19 12 rfl rfl)
theorem dX5_line_455 : decode cX5_line 455 = .ok (.aload_n 0, 1) := dk_42 (dk_at dksX5_line_19 13 rfl rfl)
theorem dX5_line_456 : decode cX5_line 456 = .ok (.iconst 1, 1) := dk_4 (dk_at dksX5_line_19 14 rfl rfl)
theorem dX5_line_457 : decode cX5_line 457 = .ok (.putfield 227, 3) := dk_181 0 227 (dk_at dksX5_line_19 15 rfl rfl)
theorem dX5_line_460 : decode cX5_line 460 = .ok (.aload_n 0, 1) := dk_42 (dk_at dksX5_line_19 18 rfl rfl)
theorem dX5_line_461 : decode cX5_line 461 = .ok (.invokevirtual 188, 3) := dk_182 0 188 (dk_at dksX5_line_19 19 rfl rfl)
theorem dX5_line_464 : decode cX5_line 464 = .ok (.aload_n 0, 1) := dk_42 (dk_at dksX5_line_19 22 rfl rfl)
theorem dX5_line_465 : decode cX5_line 465 = .ok (.iconst 1, 1) := dk_4 (dk_at dksX5_line_19 23 rfl rfl)
theorem dX5_line_466 : decode cX5_line 466 = .ok (.bipush 9, 2) := dk_16 9 (dk_at dksX5_line_20 0 rfl rfl)
theorem dX5_line_468 : decode cX5_line 468 = .ok (.invokevirtual 214, 3) := dk_182 0 214 (dk_at dksX5_line_20 2 rfl rfl)
theorem dX5_line_471 : decode cX5_line 471 = .ok (.ifCond .ne 5, 3) := dk_154 0 5 (dk_at dksX5_line_20 5 rfl rfl)
theorem dX5_line_474 : decode cX5_line 474 = .ok (.iconst 0, 1) := dk_3 (dk_at dksX5_line_20 8 rfl rfl)
theorem dX5_line_475 : decode cX5_line 475 = .ok (.ireturn, 1) := dk_172 (dk_at dksX5_line_20 9 rfl rfl)
theorem dX5_line_476 : decode cX5_line 476 = .ok (.aload_n 0, 1) := dk_42 (dk_at dksX5_line_20 10 rfl rfl)
theorem dX5_line_477 : decode cX5_line 477 = .ok (.getfield 37, 3) := dk_180 0 37 (dk_at dksX5_line_20 11 rfl rfl)
theorem dX5_line_480 : decode cX5_line 480 = .ok (.bipush 6, 2) := dk_16 6 (dk_at dksX5_line_20 14 rfl rfl)
theorem dX5_line_482 : decode cX5_line 482 = .ok (.aload_n 0, 1) := dk_42 (dk_at dksX5_line_20 16 rfl rfl)
theorem dX5_line_483 : decode cX5_line 483 = .ok (.getfield 195, 3) := dk_180 0 195 (dk_at dksX5_line_20 17 rfl rfl)
theorem dX5_line_486 : decode cX5_line 486 = .ok (.iastore, 1) := dk_79 (dk_at dksX5_line_20 20 rfl rfl)
theorem dX5_line_487 : decode cX5_line 487 = .ok (.iconst 1, 1) := dk_4 (dk_at dksX5_line_20 21 rfl rfl)
theorem dX5_line_488 : decode cX5_line 488 = .ok (.ireturn, 1) := dk_172 (dk_at dksX5_line_20 22 rfl rfl)
abbrev cX5_isWord : ByteArray := prog_19_method_16_code
def yX5_isWord : MethodName := ⟨RX5, "isWord", "(J)Z"⟩
def dkwX5_isWord_0 : List UInt8 := [42, 180, 0, 159, 4, 160, 0, 16, 42, 180, 0, 172, 31, 148, 154, 0, 7, 4, 167, 0, 4, 3, 172]
abbrev dktX5_isWord_0 : List UInt8 := dkwX5_isWord_0 ++ []
theorem dksX5_isWord_0 : cX5_isWord.data.toList.drop 0 = dktX5_isWord_0 := by decide +kernel
theorem dX5_isWord_0 : decode cX5_isWord 0 = .ok (.aload_n 0, 1) := dk_42 (dk_at dksX5_isWord_0 0 rfl rfl)
theorem dX5_isWord_1 : decode cX5_isWord 1 = .ok (.getfield 159, 3) := dk_180 0 159 (dk_at dksX5_isWord_0 1 rfl rfl)
theorem dX5_isWord_4 : decode cX5_isWord 4 = .ok (.iconst 1, 1) := dk_4 (dk_at dksX5_isWord_0 4 rfl rfl)
theorem dX5_isWord_5 : decode cX5_isWord 5 = .ok (.if_icmp .ne 16, 3) := dk_160 0 16 (dk_at dksX5_isWord_0 5 rfl rfl)
theorem dX5_isWord_8 : decode cX5_isWord 8 = .ok (.aload_n 0, 1) := dk_42 (dk_at dksX5_isWord_0 8 rfl rfl)
theorem dX5_isWord_9 : decode cX5_isWord 9 = .ok (.getfield 172, 3) := dk_180 0 172 (dk_at dksX5_isWord_0 9 rfl rfl)
theorem dX5_isWord_12 : decode cX5_isWord 12 = .ok (.lload_n 1, 1) := dk_31 (dk_at dksX5_isWord_0 12 rfl rfl)
theorem dX5_isWord_13 : decode cX5_isWord 13 = .ok (.lcmp, 1) := dk_148 (dk_at dksX5_isWord_0 13 rfl rfl)
theorem dX5_isWord_14 : decode cX5_isWord 14 = .ok (.ifCond .ne 7, 3) := dk_154 0 7 (dk_at dksX5_isWord_0 14 rfl rfl)
theorem dX5_isWord_17 : decode cX5_isWord 17 = .ok (.iconst 1, 1) := dk_4 (dk_at dksX5_isWord_0 17 rfl rfl)
theorem dX5_isWord_18 : decode cX5_isWord 18 = .ok (.goto 4, 3) := dk_167 0 4 (dk_at dksX5_isWord_0 18 rfl rfl)
theorem dX5_isWord_21 : decode cX5_isWord 21 = .ok (.iconst 0, 1) := dk_3 (dk_at dksX5_isWord_0 21 rfl rfl)
theorem dX5_isWord_22 : decode cX5_isWord 22 = .ok (.ireturn, 1) := dk_172 (dk_at dksX5_isWord_0 22 rfl rfl)
abbrev cX5_bad : ByteArray := prog_19_method_15_code
def yX5_bad : MethodName := ⟨RX5, "bad", "(I)Z"⟩
def dkwX5_bad_0 : List UInt8 := [42, 27, 181, 0, 176, 42, 42, 180, 0, 153, 181, 0, 179, 3, 172]
abbrev dktX5_bad_0 : List UInt8 := dkwX5_bad_0 ++ []
theorem dksX5_bad_0 : cX5_bad.data.toList.drop 0 = dktX5_bad_0 := by decide +kernel
theorem dX5_bad_0 : decode cX5_bad 0 = .ok (.aload_n 0, 1) := dk_42 (dk_at dksX5_bad_0 0 rfl rfl)
theorem dX5_bad_1 : decode cX5_bad 1 = .ok (.iload_n 1, 1) := dk_27 (dk_at dksX5_bad_0 1 rfl rfl)
theorem dX5_bad_2 : decode cX5_bad 2 = .ok (.putfield 176, 3) := dk_181 0 176 (dk_at dksX5_bad_0 2 rfl rfl)
theorem dX5_bad_5 : decode cX5_bad 5 = .ok (.aload_n 0, 1) := dk_42 (dk_at dksX5_bad_0 5 rfl rfl)
theorem dX5_bad_6 : decode cX5_bad 6 = .ok (.aload_n 0, 1) := dk_42 (dk_at dksX5_bad_0 6 rfl rfl)
theorem dX5_bad_7 : decode cX5_bad 7 = .ok (.getfield 153, 3) := dk_180 0 153 (dk_at dksX5_bad_0 7 rfl rfl)
theorem dX5_bad_10 : decode cX5_bad 10 = .ok (.putfield 179, 3) := dk_181 0 179 (dk_at dksX5_bad_0 10 rfl rfl)
theorem dX5_bad_13 : decode cX5_bad 13 = .ok (.iconst 0, 1) := dk_3 (dk_at dksX5_bad_0 13 rfl rfl)
theorem dX5_bad_14 : decode cX5_bad 14 = .ok (.ireturn, 1) := dk_172 (dk_at dksX5_bad_0 14 rfl rfl)
abbrev cX5_takes : ByteArray := prog_19_method_20_code
def yX5_takes : MethodName := ⟨RX5, "takes", "(II)Z"⟩
def dkwX5_takes_1 : List UInt8 := [154, 0, 9, 42, 5, 182, 0, 185, 172, 42, 42, 180, 0, 169, 181, 0, 195, 42, 182, 0, 188, 4, 172]
abbrev dktX5_takes_1 : List UInt8 := dkwX5_takes_1 ++ []
def dkwX5_takes_0 : List UInt8 := [42, 180, 0, 159, 5, 159, 0, 9, 42, 4, 182, 0, 185, 172, 42, 180, 0, 169, 27, 28, 184, 0, 191]
abbrev dktX5_takes_0 : List UInt8 := dkwX5_takes_0 ++ dktX5_takes_1
theorem dksX5_takes_0 : cX5_takes.data.toList.drop 0 = dktX5_takes_0 := by decide +kernel
theorem dksX5_takes_1 : cX5_takes.data.toList.drop 23 = dktX5_takes_1 := dk_seg dksX5_takes_0 23 rfl rfl
theorem dX5_takes_0 : decode cX5_takes 0 = .ok (.aload_n 0, 1) := dk_42 (dk_at dksX5_takes_0 0 rfl rfl)
theorem dX5_takes_1 : decode cX5_takes 1 = .ok (.getfield 159, 3) := dk_180 0 159 (dk_at dksX5_takes_0 1 rfl rfl)
theorem dX5_takes_4 : decode cX5_takes 4 = .ok (.iconst 2, 1) := dk_5 (dk_at dksX5_takes_0 4 rfl rfl)
theorem dX5_takes_5 : decode cX5_takes 5 = .ok (.if_icmp .eq 9, 3) := dk_159 0 9 (dk_at dksX5_takes_0 5 rfl rfl)
theorem dX5_takes_8 : decode cX5_takes 8 = .ok (.aload_n 0, 1) := dk_42 (dk_at dksX5_takes_0 8 rfl rfl)
theorem dX5_takes_9 : decode cX5_takes 9 = .ok (.iconst 1, 1) := dk_4 (dk_at dksX5_takes_0 9 rfl rfl)
theorem dX5_takes_10 : decode cX5_takes 10 = .ok (.invokevirtual 185, 3) := dk_182 0 185 (dk_at dksX5_takes_0 10 rfl rfl)
theorem dX5_takes_13 : decode cX5_takes 13 = .ok (.ireturn, 1) := dk_172 (dk_at dksX5_takes_0 13 rfl rfl)
theorem dX5_takes_14 : decode cX5_takes 14 = .ok (.aload_n 0, 1) := dk_42 (dk_at dksX5_takes_0 14 rfl rfl)
theorem dX5_takes_15 : decode cX5_takes 15 = .ok (.getfield 169, 3) := dk_180 0 169 (dk_at dksX5_takes_0 15 rfl rfl)
theorem dX5_takes_18 : decode cX5_takes 18 = .ok (.iload_n 1, 1) := dk_27 (dk_at dksX5_takes_0 18 rfl rfl)
theorem dX5_takes_19 : decode cX5_takes 19 = .ok (.iload_n 2, 1) := dk_28 (dk_at dksX5_takes_0 19 rfl rfl)
theorem dX5_takes_20 : decode cX5_takes 20 = .ok (.invokestatic 191, 3) := dk_184 0 191 (dk_at dksX5_takes_0 20 rfl rfl)
theorem dX5_takes_23 : decode cX5_takes 23 = .ok (.ifCond .ne 9, 3) := dk_154 0 9 (dk_at dksX5_takes_1 0 rfl rfl)
theorem dX5_takes_26 : decode cX5_takes 26 = .ok (.aload_n 0, 1) := dk_42 (dk_at dksX5_takes_1 3 rfl rfl)
theorem dX5_takes_27 : decode cX5_takes 27 = .ok (.iconst 2, 1) := dk_5 (dk_at dksX5_takes_1 4 rfl rfl)
theorem dX5_takes_28 : decode cX5_takes 28 = .ok (.invokevirtual 185, 3) := dk_182 0 185 (dk_at dksX5_takes_1 5 rfl rfl)
theorem dX5_takes_31 : decode cX5_takes 31 = .ok (.ireturn, 1) := dk_172 (dk_at dksX5_takes_1 8 rfl rfl)
theorem dX5_takes_32 : decode cX5_takes 32 = .ok (.aload_n 0, 1) := dk_42 (dk_at dksX5_takes_1 9 rfl rfl)
theorem dX5_takes_33 : decode cX5_takes 33 = .ok (.aload_n 0, 1) := dk_42 (dk_at dksX5_takes_1 10 rfl rfl)
theorem dX5_takes_34 : decode cX5_takes 34 = .ok (.getfield 169, 3) := dk_180 0 169 (dk_at dksX5_takes_1 11 rfl rfl)
theorem dX5_takes_37 : decode cX5_takes 37 = .ok (.putfield 195, 3) := dk_181 0 195 (dk_at dksX5_takes_1 14 rfl rfl)
theorem dX5_takes_40 : decode cX5_takes 40 = .ok (.aload_n 0, 1) := dk_42 (dk_at dksX5_takes_1 17 rfl rfl)
theorem dX5_takes_41 : decode cX5_takes 41 = .ok (.invokevirtual 188, 3) := dk_182 0 188 (dk_at dksX5_takes_1 18 rfl rfl)
theorem dX5_takes_44 : decode cX5_takes 44 = .ok (.iconst 1, 1) := dk_4 (dk_at dksX5_takes_1 21 rfl rfl)
theorem dX5_takes_45 : decode cX5_takes 45 = .ok (.ireturn, 1) := dk_172 (dk_at dksX5_takes_1 22 rfl rfl)
abbrev cX5_isIn : ByteArray := prog_19_method_7_code
def yX5_isIn : MethodName := ⟨RX5, "isIn", "(III)Z"⟩
def dkwX5_isIn_0 : List UInt8 := [26, 27, 161, 0, 12, 26, 28, 163, 0, 7, 4, 167, 0, 4, 3, 172]
abbrev dktX5_isIn_0 : List UInt8 := dkwX5_isIn_0 ++ []
theorem dksX5_isIn_0 : cX5_isIn.data.toList.drop 0 = dktX5_isIn_0 := by decide +kernel
theorem dX5_isIn_0 : decode cX5_isIn 0 = .ok (.iload_n 0, 1) := dk_26 (dk_at dksX5_isIn_0 0 rfl rfl)
theorem dX5_isIn_1 : decode cX5_isIn 1 = .ok (.iload_n 1, 1) := dk_27 (dk_at dksX5_isIn_0 1 rfl rfl)
theorem dX5_isIn_2 : decode cX5_isIn 2 = .ok (.if_icmp .lt 12, 3) := dk_161 0 12 (dk_at dksX5_isIn_0 2 rfl rfl)
theorem dX5_isIn_5 : decode cX5_isIn 5 = .ok (.iload_n 0, 1) := dk_26 (dk_at dksX5_isIn_0 5 rfl rfl)
theorem dX5_isIn_6 : decode cX5_isIn 6 = .ok (.iload_n 2, 1) := dk_28 (dk_at dksX5_isIn_0 6 rfl rfl)
theorem dX5_isIn_7 : decode cX5_isIn 7 = .ok (.if_icmp .gt 7, 3) := dk_163 0 7 (dk_at dksX5_isIn_0 7 rfl rfl)
theorem dX5_isIn_10 : decode cX5_isIn 10 = .ok (.iconst 1, 1) := dk_4 (dk_at dksX5_isIn_0 10 rfl rfl)
theorem dX5_isIn_11 : decode cX5_isIn 11 = .ok (.goto 4, 3) := dk_167 0 4 (dk_at dksX5_isIn_0 11 rfl rfl)
theorem dX5_isIn_14 : decode cX5_isIn 14 = .ok (.iconst 0, 1) := dk_3 (dk_at dksX5_isIn_0 14 rfl rfl)
theorem dX5_isIn_15 : decode cX5_isIn 15 = .ok (.ireturn, 1) := dk_172 (dk_at dksX5_isIn_0 15 rfl rfl)
abbrev cX5_fresh : ByteArray := prog_19_method_22_code
def yX5_fresh : MethodName := ⟨RX5, "fresh", "(I)Z"⟩
def dkwX5_fresh_2 : List UInt8 := [182, 0, 185, 172, 42, 180, 0, 43, 27, 42, 180, 0, 172, 80, 42, 182, 0, 188, 4, 172]
abbrev dktX5_fresh_2 : List UInt8 := dkwX5_fresh_2 ++ []
def dkwX5_fresh_1 : List UInt8 := [182, 0, 202, 156, 0, 18, 42, 16, 18, 42, 180, 0, 37, 6, 46, 182, 0, 202, 155, 0, 9, 42, 6]
abbrev dktX5_fresh_1 : List UInt8 := dkwX5_fresh_1 ++ dktX5_fresh_2
def dkwX5_fresh_0 : List UInt8 := [42, 182, 0, 198, 154, 0, 9, 42, 4, 182, 0, 185, 172, 42, 16, 12, 42, 180, 0, 37, 5, 46]
abbrev dktX5_fresh_0 : List UInt8 := dkwX5_fresh_0 ++ dktX5_fresh_1
theorem dksX5_fresh_0 : cX5_fresh.data.toList.drop 0 = dktX5_fresh_0 := by decide +kernel
theorem dksX5_fresh_1 : cX5_fresh.data.toList.drop 22 = dktX5_fresh_1 := dk_seg dksX5_fresh_0 22 rfl rfl
theorem dksX5_fresh_2 : cX5_fresh.data.toList.drop 45 = dktX5_fresh_2 := dk_seg dksX5_fresh_1 23 rfl rfl
theorem dX5_fresh_0 : decode cX5_fresh 0 = .ok (.aload_n 0, 1) := dk_42 (dk_at dksX5_fresh_0 0 rfl rfl)
theorem dX5_fresh_1 : decode cX5_fresh 1 = .ok (.invokevirtual 198, 3) := dk_182 0 198 (dk_at dksX5_fresh_0 1 rfl rfl)
theorem dX5_fresh_4 : decode cX5_fresh 4 = .ok (.ifCond .ne 9, 3) := dk_154 0 9 (dk_at dksX5_fresh_0 4 rfl rfl)
theorem dX5_fresh_7 : decode cX5_fresh 7 = .ok (.aload_n 0, 1) := dk_42 (dk_at dksX5_fresh_0 7 rfl rfl)
theorem dX5_fresh_8 : decode cX5_fresh 8 = .ok (.iconst 1, 1) := dk_4 (dk_at dksX5_fresh_0 8 rfl rfl)
theorem dX5_fresh_9 : decode cX5_fresh 9 = .ok (.invokevirtual 185, 3) := dk_182 0 185 (dk_at dksX5_fresh_0 9 rfl rfl)
theorem dX5_fresh_12 : decode cX5_fresh 12 = .ok (.ireturn, 1) := dk_172 (dk_at dksX5_fresh_0 12 rfl rfl)
theorem dX5_fresh_13 : decode cX5_fresh 13 = .ok (.aload_n 0, 1) := dk_42 (dk_at dksX5_fresh_0 13 rfl rfl)
theorem dX5_fresh_14 : decode cX5_fresh 14 = .ok (.bipush 12, 2) := dk_16 12 (dk_at dksX5_fresh_0 14 rfl rfl)
theorem dX5_fresh_16 : decode cX5_fresh 16 = .ok (.aload_n 0, 1) := dk_42 (dk_at dksX5_fresh_0 16 rfl rfl)
theorem dX5_fresh_17 : decode cX5_fresh 17 = .ok (.getfield 37, 3) := dk_180 0 37 (dk_at dksX5_fresh_0 17 rfl rfl)
theorem dX5_fresh_20 : decode cX5_fresh 20 = .ok (.iconst 2, 1) := dk_5 (dk_at dksX5_fresh_0 20 rfl rfl)
theorem dX5_fresh_21 : decode cX5_fresh 21 = .ok (.iaload, 1) := dk_46 (dk_at dksX5_fresh_0 21 rfl rfl)
theorem dX5_fresh_22 : decode cX5_fresh 22 = .ok (.invokevirtual 202, 3) := dk_182 0 202 (dk_at dksX5_fresh_1 0 rfl rfl)
theorem dX5_fresh_25 : decode cX5_fresh 25 = .ok (.ifCond .ge 18, 3) := dk_156 0 18 (dk_at dksX5_fresh_1 3 rfl rfl)
theorem dX5_fresh_28 : decode cX5_fresh 28 = .ok (.aload_n 0, 1) := dk_42 (dk_at dksX5_fresh_1 6 rfl rfl)
theorem dX5_fresh_29 : decode cX5_fresh 29 = .ok (.bipush 18, 2) := dk_16 18 (dk_at dksX5_fresh_1 7 rfl rfl)
theorem dX5_fresh_31 : decode cX5_fresh 31 = .ok (.aload_n 0, 1) := dk_42 (dk_at dksX5_fresh_1 9 rfl rfl)
theorem dX5_fresh_32 : decode cX5_fresh 32 = .ok (.getfield 37, 3) := dk_180 0 37 (dk_at dksX5_fresh_1 10 rfl rfl)
theorem dX5_fresh_35 : decode cX5_fresh 35 = .ok (.iconst 3, 1) := dk_6 (dk_at dksX5_fresh_1 13 rfl rfl)
theorem dX5_fresh_36 : decode cX5_fresh 36 = .ok (.iaload, 1) := dk_46 (dk_at dksX5_fresh_1 14 rfl rfl)
theorem dX5_fresh_37 : decode cX5_fresh 37 = .ok (.invokevirtual 202, 3) := dk_182 0 202 (dk_at dksX5_fresh_1 15 rfl rfl)
theorem dX5_fresh_40 : decode cX5_fresh 40 = .ok (.ifCond .lt 9, 3) := dk_155 0 9 (dk_at dksX5_fresh_1 18 rfl rfl)
theorem dX5_fresh_43 : decode cX5_fresh 43 = .ok (.aload_n 0, 1) := dk_42 (dk_at dksX5_fresh_1 21 rfl rfl)
theorem dX5_fresh_44 : decode cX5_fresh 44 = .ok (.iconst 3, 1) := dk_6 (dk_at dksX5_fresh_1 22 rfl rfl)
theorem dX5_fresh_45 : decode cX5_fresh 45 = .ok (.invokevirtual 185, 3) := dk_182 0 185 (dk_at dksX5_fresh_2 0 rfl rfl)
theorem dX5_fresh_48 : decode cX5_fresh 48 = .ok (.ireturn, 1) := dk_172 (dk_at dksX5_fresh_2 3 rfl rfl)
theorem dX5_fresh_49 : decode cX5_fresh 49 = .ok (.aload_n 0, 1) := dk_42 (dk_at dksX5_fresh_2 4 rfl rfl)
theorem dX5_fresh_50 : decode cX5_fresh 50 = .ok (.getfield 43, 3) := dk_180 0 43 (dk_at dksX5_fresh_2 5 rfl rfl)
theorem dX5_fresh_53 : decode cX5_fresh 53 = .ok (.iload_n 1, 1) := dk_27 (dk_at dksX5_fresh_2 8 rfl rfl)
theorem dX5_fresh_54 : decode cX5_fresh 54 = .ok (.aload_n 0, 1) := dk_42 (dk_at dksX5_fresh_2 9 rfl rfl)
theorem dX5_fresh_55 : decode cX5_fresh 55 = .ok (.getfield 172, 3) := dk_180 0 172 (dk_at dksX5_fresh_2 10 rfl rfl)
theorem dX5_fresh_58 : decode cX5_fresh 58 = .ok (.lastore, 1) := dk_80 (dk_at dksX5_fresh_2 13 rfl rfl)
theorem dX5_fresh_59 : decode cX5_fresh 59 = .ok (.aload_n 0, 1) := dk_42 (dk_at dksX5_fresh_2 14 rfl rfl)
theorem dX5_fresh_60 : decode cX5_fresh 60 = .ok (.invokevirtual 188, 3) := dk_182 0 188 (dk_at dksX5_fresh_2 15 rfl rfl)
theorem dX5_fresh_63 : decode cX5_fresh 63 = .ok (.iconst 1, 1) := dk_4 (dk_at dksX5_fresh_2 18 rfl rfl)
theorem dX5_fresh_64 : decode cX5_fresh 64 = .ok (.ireturn, 1) := dk_172 (dk_at dksX5_fresh_2 19 rfl rfl)
abbrev cX5_isName : ByteArray := prog_19_method_19_code
def yX5_isName : MethodName := ⟨RX5, "isName", "()Z"⟩
def dkwX5_isName_2 : List UInt8 := [132, 2, 1, 167, 255, 223, 27, 172]
abbrev dktX5_isName_2 : List UInt8 := dkwX5_isName_2 ++ []
def dkwX5_isName_1 : List UInt8 := [153, 0, 21, 42, 180, 0, 172, 42, 180, 0, 47, 28, 47, 148, 153, 0, 7, 4, 167, 0, 4, 3, 60]
abbrev dktX5_isName_1 : List UInt8 := dkwX5_isName_1 ++ dktX5_isName_2
def dkwX5_isName_0 : List UInt8 := [42, 180, 0, 159, 4, 160, 0, 7, 4, 167, 0, 4, 3, 60, 3, 61, 28, 16, 20, 162, 0, 33, 27]
abbrev dktX5_isName_0 : List UInt8 := dkwX5_isName_0 ++ dktX5_isName_1
theorem dksX5_isName_0 : cX5_isName.data.toList.drop 0 = dktX5_isName_0 := by decide +kernel
theorem dksX5_isName_1 : cX5_isName.data.toList.drop 23 = dktX5_isName_1 := dk_seg dksX5_isName_0 23 rfl rfl
theorem dksX5_isName_2 : cX5_isName.data.toList.drop 46 = dktX5_isName_2 := dk_seg dksX5_isName_1 23 rfl rfl
theorem dX5_isName_0 : decode cX5_isName 0 = .ok (.aload_n 0, 1) := dk_42 (dk_at dksX5_isName_0 0 rfl rfl)
theorem dX5_isName_1 : decode cX5_isName 1 = .ok (.getfield 159, 3) := dk_180 0 159 (dk_at dksX5_isName_0 1 rfl rfl)
theorem dX5_isName_4 : decode cX5_isName 4 = .ok (.iconst 1, 1) := dk_4 (dk_at dksX5_isName_0 4 rfl rfl)
theorem dX5_isName_5 : decode cX5_isName 5 = .ok (.if_icmp .ne 7, 3) := dk_160 0 7 (dk_at dksX5_isName_0 5 rfl rfl)
theorem dX5_isName_8 : decode cX5_isName 8 = .ok (.iconst 1, 1) := dk_4 (dk_at dksX5_isName_0 8 rfl rfl)
theorem dX5_isName_9 : decode cX5_isName 9 = .ok (.goto 4, 3) := dk_167 0 4 (dk_at dksX5_isName_0 9 rfl rfl)
theorem dX5_isName_12 : decode cX5_isName 12 = .ok (.iconst 0, 1) := dk_3 (dk_at dksX5_isName_0 12 rfl rfl)
theorem dX5_isName_13 : decode cX5_isName 13 = .ok (.istore_n 1, 1) := dk_60 (dk_at dksX5_isName_0 13 rfl rfl)
theorem dX5_isName_14 : decode cX5_isName 14 = .ok (.iconst 0, 1) := dk_3 (dk_at dksX5_isName_0 14 rfl rfl)
theorem dX5_isName_15 : decode cX5_isName 15 = .ok (.istore_n 2, 1) := dk_61 (dk_at dksX5_isName_0 15 rfl rfl)
theorem dX5_isName_16 : decode cX5_isName 16 = .ok (.iload_n 2, 1) := dk_28 (dk_at dksX5_isName_0 16 rfl rfl)
theorem dX5_isName_17 : decode cX5_isName 17 = .ok (.bipush 20, 2) := dk_16 20 (dk_at dksX5_isName_0 17 rfl rfl)
theorem dX5_isName_19 : decode cX5_isName 19 = .ok (.if_icmp .ge 33, 3) := dk_162 0 33 (dk_at dksX5_isName_0 19 rfl rfl)
theorem dX5_isName_22 : decode cX5_isName 22 = .ok (.iload_n 1, 1) := dk_27 (dk_at dksX5_isName_0 22 rfl rfl)
theorem dX5_isName_23 : decode cX5_isName 23 = .ok (.ifCond .eq 21, 3) := dk_153 0 21 (dk_at dksX5_isName_1 0 rfl rfl)
theorem dX5_isName_26 : decode cX5_isName 26 = .ok (.aload_n 0, 1) := dk_42 (dk_at dksX5_isName_1 3 rfl rfl)
theorem dX5_isName_27 : decode cX5_isName 27 = .ok (.getfield 172, 3) := dk_180 0 172 (dk_at dksX5_isName_1 4 rfl rfl)
theorem dX5_isName_30 : decode cX5_isName 30 = .ok (.aload_n 0, 1) := dk_42 (dk_at dksX5_isName_1 7 rfl rfl)
theorem dX5_isName_31 : decode cX5_isName 31 = .ok (.getfield 47, 3) := dk_180 0 47 (dk_at dksX5_isName_1 8 rfl rfl)
theorem dX5_isName_34 : decode cX5_isName 34 = .ok (.iload_n 2, 1) := dk_28 (dk_at dksX5_isName_1 11 rfl rfl)
theorem dX5_isName_35 : decode cX5_isName 35 = .ok (.laload, 1) := dk_47 (dk_at dksX5_isName_1 12 rfl rfl)
theorem dX5_isName_36 : decode cX5_isName 36 = .ok (.lcmp, 1) := dk_148 (dk_at dksX5_isName_1 13 rfl rfl)
theorem dX5_isName_37 : decode cX5_isName 37 = .ok (.ifCond .eq 7, 3) := dk_153 0 7 (dk_at dksX5_isName_1 14 rfl rfl)
theorem dX5_isName_40 : decode cX5_isName 40 = .ok (.iconst 1, 1) := dk_4 (dk_at dksX5_isName_1 17 rfl rfl)
theorem dX5_isName_41 : decode cX5_isName 41 = .ok (.goto 4, 3) := dk_167 0 4 (dk_at dksX5_isName_1 18 rfl rfl)
theorem dX5_isName_44 : decode cX5_isName 44 = .ok (.iconst 0, 1) := dk_3 (dk_at dksX5_isName_1 21 rfl rfl)
theorem dX5_isName_45 : decode cX5_isName 45 = .ok (.istore_n 1, 1) := dk_60 (dk_at dksX5_isName_1 22 rfl rfl)
theorem dX5_isName_46 : decode cX5_isName 46 = .ok (.iinc 2 1, 3) := dk_132 2 1 (dk_at dksX5_isName_2 0 rfl rfl)
theorem dX5_isName_49 : decode cX5_isName 49 = .ok (.goto (-33), 3) := dk_167 255 223 (dk_at dksX5_isName_2 3 rfl rfl)
theorem dX5_isName_52 : decode cX5_isName 52 = .ok (.iload_n 1, 1) := dk_27 (dk_at dksX5_isName_2 6 rfl rfl)
theorem dX5_isName_53 : decode cX5_isName 53 = .ok (.ireturn, 1) := dk_172 (dk_at dksX5_isName_2 7 rfl rfl)
abbrev cX5_find : ByteArray := prog_19_method_21_code
def yX5_find : MethodName := ⟨RX5, "find", "(II)I"⟩
def dkwX5_find_1 : List UInt8 := [172, 132, 3, 1, 167, 255, 230, 2, 172]
abbrev dktX5_find_1 : List UInt8 := dkwX5_find_1 ++ []
def dkwX5_find_0 : List UInt8 := [3, 62, 29, 28, 162, 0, 27, 42, 180, 0, 43, 27, 29, 96, 47, 42, 180, 0, 172, 148, 154, 0, 5, 29]
abbrev dktX5_find_0 : List UInt8 := dkwX5_find_0 ++ dktX5_find_1
theorem dksX5_find_0 : cX5_find.data.toList.drop 0 = dktX5_find_0 := by decide +kernel
theorem dksX5_find_1 : cX5_find.data.toList.drop 24 = dktX5_find_1 := dk_seg dksX5_find_0 24 rfl rfl
theorem dX5_find_0 : decode cX5_find 0 = .ok (.iconst 0, 1) := dk_3 (dk_at dksX5_find_0 0 rfl rfl)
theorem dX5_find_1 : decode cX5_find 1 = .ok (.istore_n 3, 1) := dk_62 (dk_at dksX5_find_0 1 rfl rfl)
theorem dX5_find_2 : decode cX5_find 2 = .ok (.iload_n 3, 1) := dk_29 (dk_at dksX5_find_0 2 rfl rfl)
theorem dX5_find_3 : decode cX5_find 3 = .ok (.iload_n 2, 1) := dk_28 (dk_at dksX5_find_0 3 rfl rfl)
theorem dX5_find_4 : decode cX5_find 4 = .ok (.if_icmp .ge 27, 3) := dk_162 0 27 (dk_at dksX5_find_0 4 rfl rfl)
theorem dX5_find_7 : decode cX5_find 7 = .ok (.aload_n 0, 1) := dk_42 (dk_at dksX5_find_0 7 rfl rfl)
theorem dX5_find_8 : decode cX5_find 8 = .ok (.getfield 43, 3) := dk_180 0 43 (dk_at dksX5_find_0 8 rfl rfl)
theorem dX5_find_11 : decode cX5_find 11 = .ok (.iload_n 1, 1) := dk_27 (dk_at dksX5_find_0 11 rfl rfl)
theorem dX5_find_12 : decode cX5_find 12 = .ok (.iload_n 3, 1) := dk_29 (dk_at dksX5_find_0 12 rfl rfl)
theorem dX5_find_13 : decode cX5_find 13 = .ok (.iadd, 1) := dk_96 (dk_at dksX5_find_0 13 rfl rfl)
theorem dX5_find_14 : decode cX5_find 14 = .ok (.laload, 1) := dk_47 (dk_at dksX5_find_0 14 rfl rfl)
theorem dX5_find_15 : decode cX5_find 15 = .ok (.aload_n 0, 1) := dk_42 (dk_at dksX5_find_0 15 rfl rfl)
theorem dX5_find_16 : decode cX5_find 16 = .ok (.getfield 172, 3) := dk_180 0 172 (dk_at dksX5_find_0 16 rfl rfl)
theorem dX5_find_19 : decode cX5_find 19 = .ok (.lcmp, 1) := dk_148 (dk_at dksX5_find_0 19 rfl rfl)
theorem dX5_find_20 : decode cX5_find 20 = .ok (.ifCond .ne 5, 3) := dk_154 0 5 (dk_at dksX5_find_0 20 rfl rfl)
theorem dX5_find_23 : decode cX5_find 23 = .ok (.iload_n 3, 1) := dk_29 (dk_at dksX5_find_0 23 rfl rfl)
theorem dX5_find_24 : decode cX5_find 24 = .ok (.ireturn, 1) := dk_172 (dk_at dksX5_find_1 0 rfl rfl)
theorem dX5_find_25 : decode cX5_find 25 = .ok (.iinc 3 1, 3) := dk_132 3 1 (dk_at dksX5_find_1 1 rfl rfl)
theorem dX5_find_28 : decode cX5_find 28 = .ok (.goto (-26), 3) := dk_167 255 230 (dk_at dksX5_find_1 4 rfl rfl)
theorem dX5_find_31 : decode cX5_find 31 = .ok (.iconst (-1), 1) := dk_2 (dk_at dksX5_find_1 7 rfl rfl)
theorem dX5_find_32 : decode cX5_find 32 = .ok (.ireturn, 1) := dk_172 (dk_at dksX5_find_1 8 rfl rfl)
abbrev cX5_looksAtTuft : ByteArray := prog_19_method_24_code
def yX5_looksAtTuft : MethodName := ⟨RX5, "looksAtTuft", "()Z"⟩
def dkwX5_looksAtTuft_2 : List UInt8 := [161, 0, 9, 42, 5, 182, 0, 185, 172, 42, 16, 12, 42, 180, 0, 169, 104, 27, 96, 181, 0, 195, 4, 172]
abbrev dktX5_looksAtTuft_2 : List UInt8 := dkwX5_looksAtTuft_2 ++ []
def dkwX5_looksAtTuft_1 : List UInt8 := [180, 0, 159, 5, 159, 0, 9, 42, 4, 182, 0, 185, 172, 42, 180, 0, 169, 42, 180, 0, 37, 4, 46]
abbrev dktX5_looksAtTuft_1 : List UInt8 := dkwX5_looksAtTuft_1 ++ dktX5_looksAtTuft_2
def dkwX5_looksAtTuft_0 : List UInt8 := [42, 3, 42, 180, 0, 37, 3, 46, 4, 100, 182, 0, 214, 154, 0, 5, 3, 172, 42, 180, 0, 195, 60, 42]
abbrev dktX5_looksAtTuft_0 : List UInt8 := dkwX5_looksAtTuft_0 ++ dktX5_looksAtTuft_1
theorem dksX5_looksAtTuft_0 : cX5_looksAtTuft.data.toList.drop 0 = dktX5_looksAtTuft_0 := by decide +kernel
theorem dksX5_looksAtTuft_1 : cX5_looksAtTuft.data.toList.drop 24 = dktX5_looksAtTuft_1 := dk_seg dksX5_looksAtTuft_0 24 rfl rfl
theorem dksX5_looksAtTuft_2 : cX5_looksAtTuft.data.toList.drop 47 = dktX5_looksAtTuft_2 := dk_seg dksX5_looksAtTuft_1 23 rfl rfl
theorem dX5_looksAtTuft_0 : decode cX5_looksAtTuft 0 = .ok (.aload_n 0, 1) := dk_42 (dk_at dksX5_looksAtTuft_0 0 rfl rfl)
theorem dX5_looksAtTuft_1 : decode cX5_looksAtTuft 1 = .ok (.iconst 0, 1) := dk_3 (dk_at dksX5_looksAtTuft_0 1 rfl rfl)
theorem dX5_looksAtTuft_2 : decode cX5_looksAtTuft 2 = .ok (.aload_n 0, 1) := dk_42 (dk_at dksX5_looksAtTuft_0 2 rfl rfl)
theorem dX5_looksAtTuft_3 : decode cX5_looksAtTuft 3 = .ok (.getfield 37, 3) := dk_180 0 37 (dk_at dksX5_looksAtTuft_0 3 rfl rfl)
theorem dX5_looksAtTuft_6 : decode cX5_looksAtTuft 6 = .ok (.iconst 0, 1) := dk_3 (dk_at dksX5_looksAtTuft_0 6 rfl rfl)
theorem dX5_looksAtTuft_7 : decode cX5_looksAtTuft 7 = .ok (.iaload, 1) := dk_46 (dk_at dksX5_looksAtTuft_0 7 rfl rfl)
theorem dX5_looksAtTuft_8 : decode cX5_looksAtTuft 8 = .ok (.iconst 1, 1) := dk_4 (dk_at dksX5_looksAtTuft_0 8 rfl rfl)
theorem dX5_looksAtTuft_9 : decode cX5_looksAtTuft 9 = .ok (.isub, 1) := dk_100 (dk_at dksX5_looksAtTuft_0 9 rfl rfl)
theorem dX5_looksAtTuft_10 : decode cX5_looksAtTuft 10 = .ok (.invokevirtual 214, 3) := dk_182 0 214 (dk_at dksX5_looksAtTuft_0 10 rfl rfl)
theorem dX5_looksAtTuft_13 : decode cX5_looksAtTuft 13 = .ok (.ifCond .ne 5, 3) := dk_154 0 5 (dk_at dksX5_looksAtTuft_0 13 rfl rfl)
theorem dX5_looksAtTuft_16 : decode cX5_looksAtTuft 16 = .ok (.iconst 0, 1) := dk_3 (dk_at dksX5_looksAtTuft_0 16 rfl rfl)
theorem dX5_looksAtTuft_17 : decode cX5_looksAtTuft 17 = .ok (.ireturn, 1) := dk_172 (dk_at dksX5_looksAtTuft_0 17 rfl rfl)
theorem dX5_looksAtTuft_18 : decode cX5_looksAtTuft 18 = .ok (.aload_n 0, 1) := dk_42 (dk_at dksX5_looksAtTuft_0 18 rfl rfl)
theorem dX5_looksAtTuft_19 : decode cX5_looksAtTuft 19 = .ok (.getfield 195, 3) := dk_180 0 195 (dk_at dksX5_looksAtTuft_0 19 rfl rfl)
theorem dX5_looksAtTuft_22 : decode cX5_looksAtTuft 22 = .ok (.istore_n 1, 1) := dk_60 (dk_at dksX5_looksAtTuft_0 22 rfl rfl)
theorem dX5_looksAtTuft_23 : decode cX5_looksAtTuft 23 = .ok (.aload_n 0, 1) := dk_42 (dk_at dksX5_looksAtTuft_0 23 rfl rfl)
theorem dX5_looksAtTuft_24 : decode cX5_looksAtTuft 24 = .ok (.getfield 159, 3) := dk_180 0 159 (dk_at dksX5_looksAtTuft_1 0 rfl rfl)
theorem dX5_looksAtTuft_27 : decode cX5_looksAtTuft 27 = .ok (.iconst 2, 1) := dk_5 (dk_at dksX5_looksAtTuft_1 3 rfl rfl)
theorem dX5_looksAtTuft_28 : decode cX5_looksAtTuft 28 = .ok (.if_icmp .eq 9, 3) := dk_159 0 9 (dk_at dksX5_looksAtTuft_1 4 rfl rfl)
theorem dX5_looksAtTuft_31 : decode cX5_looksAtTuft 31 = .ok (.aload_n 0, 1) := dk_42 (dk_at dksX5_looksAtTuft_1 7 rfl rfl)
theorem dX5_looksAtTuft_32 : decode cX5_looksAtTuft 32 = .ok (.iconst 1, 1) := dk_4 (dk_at dksX5_looksAtTuft_1 8 rfl rfl)
theorem dX5_looksAtTuft_33 : decode cX5_looksAtTuft 33 = .ok (.invokevirtual 185, 3) := dk_182 0 185 (dk_at dksX5_looksAtTuft_1 9 rfl rfl)
theorem dX5_looksAtTuft_36 : decode cX5_looksAtTuft 36 = .ok (.ireturn, 1) := dk_172 (dk_at dksX5_looksAtTuft_1 12 rfl rfl)
theorem dX5_looksAtTuft_37 : decode cX5_looksAtTuft 37 = .ok (.aload_n 0, 1) := dk_42 (dk_at dksX5_looksAtTuft_1 13 rfl rfl)
theorem dX5_looksAtTuft_38 : decode cX5_looksAtTuft 38 = .ok (.getfield 169, 3) := dk_180 0 169 (dk_at dksX5_looksAtTuft_1 14 rfl rfl)
theorem dX5_looksAtTuft_41 : decode cX5_looksAtTuft 41 = .ok (.aload_n 0, 1) := dk_42 (dk_at dksX5_looksAtTuft_1 17 rfl rfl)
theorem dX5_looksAtTuft_42 : decode cX5_looksAtTuft 42 = .ok (.getfield 37, 3) := dk_180 0 37 (dk_at dksX5_looksAtTuft_1 18 rfl rfl)
theorem dX5_looksAtTuft_45 : decode cX5_looksAtTuft 45 = .ok (.iconst 1, 1) := dk_4 (dk_at dksX5_looksAtTuft_1 21 rfl rfl)
theorem dX5_looksAtTuft_46 : decode cX5_looksAtTuft 46 = .ok (.iaload, 1) := dk_46 (dk_at dksX5_looksAtTuft_1 22 rfl rfl)
theorem dX5_looksAtTuft_47 : decode cX5_looksAtTuft 47 = .ok (.if_icmp .lt 9, 3) := dk_161 0 9 (dk_at dksX5_looksAtTuft_2 0 rfl rfl)
theorem dX5_looksAtTuft_50 : decode cX5_looksAtTuft 50 = .ok (.aload_n 0, 1) := dk_42 (dk_at dksX5_looksAtTuft_2 3 rfl rfl)
theorem dX5_looksAtTuft_51 : decode cX5_looksAtTuft 51 = .ok (.iconst 2, 1) := dk_5 (dk_at dksX5_looksAtTuft_2 4 rfl rfl)
theorem dX5_looksAtTuft_52 : decode cX5_looksAtTuft 52 = .ok (.invokevirtual 185, 3) := dk_182 0 185 (dk_at dksX5_looksAtTuft_2 5 rfl rfl)
theorem dX5_looksAtTuft_55 : decode cX5_looksAtTuft 55 = .ok (.ireturn, 1) := dk_172 (dk_at dksX5_looksAtTuft_2 8 rfl rfl)
theorem dX5_looksAtTuft_56 : decode cX5_looksAtTuft 56 = .ok (.aload_n 0, 1) := dk_42 (dk_at dksX5_looksAtTuft_2 9 rfl rfl)
theorem dX5_looksAtTuft_57 : decode cX5_looksAtTuft 57 = .ok (.bipush 12, 2) := dk_16 12 (dk_at dksX5_looksAtTuft_2 10 rfl rfl)
theorem dX5_looksAtTuft_59 : decode cX5_looksAtTuft 59 = .ok (.aload_n 0, 1) := dk_42 (dk_at dksX5_looksAtTuft_2 12 rfl rfl)
theorem dX5_looksAtTuft_60 : decode cX5_looksAtTuft 60 = .ok (.getfield 169, 3) := dk_180 0 169 (dk_at dksX5_looksAtTuft_2 13 rfl rfl)
theorem dX5_looksAtTuft_63 : decode cX5_looksAtTuft 63 = .ok (.imul, 1) := dk_104 (dk_at dksX5_looksAtTuft_2 16 rfl rfl)
theorem dX5_looksAtTuft_64 : decode cX5_looksAtTuft 64 = .ok (.iload_n 1, 1) := dk_27 (dk_at dksX5_looksAtTuft_2 17 rfl rfl)
theorem dX5_looksAtTuft_65 : decode cX5_looksAtTuft 65 = .ok (.iadd, 1) := dk_96 (dk_at dksX5_looksAtTuft_2 18 rfl rfl)
theorem dX5_looksAtTuft_66 : decode cX5_looksAtTuft 66 = .ok (.putfield 195, 3) := dk_181 0 195 (dk_at dksX5_looksAtTuft_2 19 rfl rfl)
theorem dX5_looksAtTuft_69 : decode cX5_looksAtTuft 69 = .ok (.iconst 1, 1) := dk_4 (dk_at dksX5_looksAtTuft_2 22 rfl rfl)
theorem dX5_looksAtTuft_70 : decode cX5_looksAtTuft 70 = .ok (.ireturn, 1) := dk_172 (dk_at dksX5_looksAtTuft_2 23 rfl rfl)
abbrev cX5_readWay : ByteArray := prog_19_method_27_code
def yX5_readWay : MethodName := ⟨RX5, "readWay", "()Z"⟩
def dkwX5_readWay_12 : List UInt8 := [180, 0, 37, 6, 92, 46, 4, 96, 79, 4, 172]
abbrev dktX5_readWay_12 : List UInt8 := dkwX5_readWay_12 ++ []
def dkwX5_readWay_11 : List UInt8 := [167, 255, 177, 42, 182, 0, 188, 167, 255, 87, 42, 180, 0, 37, 17, 0, 177, 27, 96, 29, 79, 42]
abbrev dktX5_readWay_11 : List UInt8 := dkwX5_readWay_11 ++ dktX5_readWay_12
def dkwX5_readWay_10 : List UInt8 := [42, 8, 182, 0, 185, 172, 42, 180, 0, 37, 28, 29, 96, 21, 6, 79, 132, 3, 1, 132, 5, 1]
abbrev dktX5_readWay_10 : List UInt8 := dkwX5_readWay_10 ++ dktX5_readWay_11
def dkwX5_readWay_9 : List UInt8 := [184, 0, 233, 54, 6, 21, 6, 155, 0, 17, 42, 180, 0, 37, 16, 25, 21, 6, 96, 46, 4, 160, 0, 9]
abbrev dktX5_readWay_9 : List UInt8 := dkwX5_readWay_9 ++ dktX5_readWay_10
def dkwX5_readWay_8 : List UInt8 := [180, 0, 37, 28, 29, 96, 4, 100, 46, 21, 4, 42, 180, 0, 37, 3, 46, 42, 180, 0, 37, 4, 46]
abbrev dktX5_readWay_8 : List UInt8 := dkwX5_readWay_8 ++ dktX5_readWay_9
def dkwX5_readWay_7 : List UInt8 := [164, 0, 9, 42, 7, 182, 0, 185, 172, 3, 54, 5, 21, 5, 42, 180, 0, 169, 162, 0, 76, 42]
abbrev dktX5_readWay_7 : List UInt8 := dkwX5_readWay_7 ++ dktX5_readWay_8
def dkwX5_readWay_6 : List UInt8 := [16, 11, 184, 0, 191, 154, 0, 9, 42, 5, 182, 0, 185, 172, 29, 42, 180, 0, 169, 96, 16, 41]
abbrev dktX5_readWay_6 : List UInt8 := dkwX5_readWay_6 ++ dktX5_readWay_7
def dkwX5_readWay_5 : List UInt8 := [172, 42, 182, 0, 188, 42, 180, 0, 159, 5, 159, 0, 9, 42, 4, 182, 0, 185, 172, 42, 180, 0, 169, 4]
abbrev dktX5_readWay_5 : List UInt8 := dkwX5_readWay_5 ++ dktX5_readWay_6
def dkwX5_readWay_4 : List UInt8 := [16, 59, 182, 0, 182, 154, 0, 166, 42, 182, 0, 230, 54, 4, 21, 4, 156, 0, 9, 42, 4, 182, 0, 185]
abbrev dktX5_readWay_4 : List UInt8 := dkwX5_readWay_4 ++ dktX5_readWay_5
def dkwX5_readWay_3 : List UInt8 := [16, 41, 27, 104, 96, 61, 42, 180, 0, 37, 28, 42, 180, 0, 195, 79, 4, 62, 42, 182, 0, 188, 42]
abbrev dktX5_readWay_3 : List UInt8 := dkwX5_readWay_3 ++ dktX5_readWay_4
def dkwX5_readWay_2 : List UInt8 := [180, 0, 37, 16, 25, 42, 180, 0, 195, 96, 46, 4, 160, 0, 9, 42, 8, 182, 0, 185, 172, 17, 0, 183]
abbrev dktX5_readWay_2 : List UInt8 := dkwX5_readWay_2 ++ dktX5_readWay_3
def dkwX5_readWay_1 : List UInt8 := [16, 18, 27, 96, 182, 0, 218, 154, 0, 5, 3, 172, 42, 182, 0, 221, 154, 0, 5, 3, 172, 42]
abbrev dktX5_readWay_1 : List UInt8 := dkwX5_readWay_1 ++ dktX5_readWay_2
def dkwX5_readWay_0 : List UInt8 := [42, 180, 0, 37, 6, 46, 60, 27, 16, 6, 160, 0, 9, 42, 7, 182, 0, 185, 172, 42, 182, 0, 188, 42]
abbrev dktX5_readWay_0 : List UInt8 := dkwX5_readWay_0 ++ dktX5_readWay_1
theorem dksX5_readWay_0 : cX5_readWay.data.toList.drop 0 = dktX5_readWay_0 := by decide +kernel
theorem dksX5_readWay_1 : cX5_readWay.data.toList.drop 24 = dktX5_readWay_1 := dk_seg dksX5_readWay_0 24 rfl rfl
theorem dksX5_readWay_2 : cX5_readWay.data.toList.drop 46 = dktX5_readWay_2 := dk_seg dksX5_readWay_1 22 rfl rfl
theorem dksX5_readWay_3 : cX5_readWay.data.toList.drop 70 = dktX5_readWay_3 := dk_seg dksX5_readWay_2 24 rfl rfl
theorem dksX5_readWay_4 : cX5_readWay.data.toList.drop 93 = dktX5_readWay_4 := dk_seg dksX5_readWay_3 23 rfl rfl
theorem dksX5_readWay_5 : cX5_readWay.data.toList.drop 117 = dktX5_readWay_5 := dk_seg dksX5_readWay_4 24 rfl rfl
theorem dksX5_readWay_6 : cX5_readWay.data.toList.drop 141 = dktX5_readWay_6 := dk_seg dksX5_readWay_5 24 rfl rfl
theorem dksX5_readWay_7 : cX5_readWay.data.toList.drop 163 = dktX5_readWay_7 := dk_seg dksX5_readWay_6 22 rfl rfl
theorem dksX5_readWay_8 : cX5_readWay.data.toList.drop 185 = dktX5_readWay_8 := dk_seg dksX5_readWay_7 22 rfl rfl
theorem dksX5_readWay_9 : cX5_readWay.data.toList.drop 208 = dktX5_readWay_9 := dk_seg dksX5_readWay_8 23 rfl rfl
theorem dksX5_readWay_10 : cX5_readWay.data.toList.drop 232 = dktX5_readWay_10 := dk_seg dksX5_readWay_9 24 rfl rfl
theorem dksX5_readWay_11 : cX5_readWay.data.toList.drop 254 = dktX5_readWay_11 := dk_seg dksX5_readWay_10 22 rfl rfl
theorem dksX5_readWay_12 : cX5_readWay.data.toList.drop 276 = dktX5_readWay_12 := dk_seg dksX5_readWay_11 22 rfl rfl
theorem dX5_readWay_0 : decode cX5_readWay 0 = .ok (.aload_n 0, 1) := dk_42 (dk_at dksX5_readWay_0 0 rfl rfl)
theorem dX5_readWay_1 : decode cX5_readWay 1 = .ok (.getfield 37, 3) := dk_180 0 37 (dk_at dksX5_readWay_0 1 rfl rfl)
theorem dX5_readWay_4 : decode cX5_readWay 4 = .ok (.iconst 3, 1) := dk_6 (dk_at dksX5_readWay_0 4 rfl rfl)
theorem dX5_readWay_5 : decode cX5_readWay 5 = .ok (.iaload, 1) := dk_46 (dk_at dksX5_readWay_0 5 rfl rfl)
theorem dX5_readWay_6 : decode cX5_readWay 6 = .ok (.istore_n 1, 1) := dk_60 (dk_at dksX5_readWay_0 6 rfl rfl)
theorem dX5_readWay_7 : decode cX5_readWay 7 = .ok (.iload_n 1, 1) := dk_27 (dk_at dksX5_readWay_0 7 rfl rfl)
theorem dX5_readWay_8 : decode cX5_readWay 8 = .ok (.bipush 6, 2) := dk_16 6 (dk_at dksX5_readWay_0 8 rfl rfl)
theorem dX5_readWay_10 : decode cX5_readWay 10 = .ok (.if_icmp .ne 9, 3) := dk_160 0 9 (dk_at dksX5_readWay_0 10 rfl rfl)
theorem dX5_readWay_13 : decode cX5_readWay 13 = .ok (.aload_n 0, 1) := dk_42 (dk_at dksX5_readWay_0 13 rfl rfl)
theorem dX5_readWay_14 : decode cX5_readWay 14 = .ok (.iconst 4, 1) := dk_7 (dk_at dksX5_readWay_0 14 rfl rfl)
theorem dX5_readWay_15 : decode cX5_readWay 15 = .ok (.invokevirtual 185, 3) := dk_182 0 185 (dk_at dksX5_readWay_0 15 rfl rfl)
theorem dX5_readWay_18 : decode cX5_readWay 18 = .ok (.ireturn, 1) := dk_172 (dk_at dksX5_readWay_0 18 rfl rfl)
theorem dX5_readWay_19 : decode cX5_readWay 19 = .ok (.aload_n 0, 1) := dk_42 (dk_at dksX5_readWay_0 19 rfl rfl)
theorem dX5_readWay_20 : decode cX5_readWay 20 = .ok (.invokevirtual 188, 3) := dk_182 0 188 (dk_at dksX5_readWay_0 20 rfl rfl)
theorem dX5_readWay_23 : decode cX5_readWay 23 = .ok (.aload_n 0, 1) := dk_42 (dk_at dksX5_readWay_0 23 rfl rfl)
theorem dX5_readWay_24 : decode cX5_readWay 24 = .ok (.bipush 18, 2) := dk_16 18 (dk_at dksX5_readWay_1 0 rfl rfl)
theorem dX5_readWay_26 : decode cX5_readWay 26 = .ok (.iload_n 1, 1) := dk_27 (dk_at dksX5_readWay_1 2 rfl rfl)
theorem dX5_readWay_27 : decode cX5_readWay 27 = .ok (.iadd, 1) := dk_96 (dk_at dksX5_readWay_1 3 rfl rfl)
theorem dX5_readWay_28 : decode cX5_readWay 28 = .ok (.invokevirtual 218, 3) := dk_182 0 218 (dk_at dksX5_readWay_1 4 rfl rfl)
theorem dX5_readWay_31 : decode cX5_readWay 31 = .ok (.ifCond .ne 5, 3) := dk_154 0 5 (dk_at dksX5_readWay_1 7 rfl rfl)
theorem dX5_readWay_34 : decode cX5_readWay 34 = .ok (.iconst 0, 1) := dk_3 (dk_at dksX5_readWay_1 10 rfl rfl)
theorem dX5_readWay_35 : decode cX5_readWay 35 = .ok (.ireturn, 1) := dk_172 (dk_at dksX5_readWay_1 11 rfl rfl)
theorem dX5_readWay_36 : decode cX5_readWay 36 = .ok (.aload_n 0, 1) := dk_42 (dk_at dksX5_readWay_1 12 rfl rfl)
theorem dX5_readWay_37 : decode cX5_readWay 37 = .ok (.invokevirtual 221, 3) := dk_182 0 221 (dk_at dksX5_readWay_1 13 rfl rfl)
theorem dX5_readWay_40 : decode cX5_readWay 40 = .ok (.ifCond .ne 5, 3) := dk_154 0 5 (dk_at dksX5_readWay_1 16 rfl rfl)
theorem dX5_readWay_43 : decode cX5_readWay 43 = .ok (.iconst 0, 1) := dk_3 (dk_at dksX5_readWay_1 19 rfl rfl)
theorem dX5_readWay_44 : decode cX5_readWay 44 = .ok (.ireturn, 1) := dk_172 (dk_at dksX5_readWay_1 20 rfl rfl)
theorem dX5_readWay_45 : decode cX5_readWay 45 = .ok (.aload_n 0, 1) := dk_42 (dk_at dksX5_readWay_1 21 rfl rfl)
theorem dX5_readWay_46 : decode cX5_readWay 46 = .ok (.getfield 37, 3) := dk_180 0 37 (dk_at dksX5_readWay_2 0 rfl rfl)
theorem dX5_readWay_49 : decode cX5_readWay 49 = .ok (.bipush 25, 2) := dk_16 25 (dk_at dksX5_readWay_2 3 rfl rfl)
theorem dX5_readWay_51 : decode cX5_readWay 51 = .ok (.aload_n 0, 1) := dk_42 (dk_at dksX5_readWay_2 5 rfl rfl)
theorem dX5_readWay_52 : decode cX5_readWay 52 = .ok (.getfield 195, 3) := dk_180 0 195 (dk_at dksX5_readWay_2 6 rfl rfl)
theorem dX5_readWay_55 : decode cX5_readWay 55 = .ok (.iadd, 1) := dk_96 (dk_at dksX5_readWay_2 9 rfl rfl)
theorem dX5_readWay_56 : decode cX5_readWay 56 = .ok (.iaload, 1) := dk_46 (dk_at dksX5_readWay_2 10 rfl rfl)
theorem dX5_readWay_57 : decode cX5_readWay 57 = .ok (.iconst 1, 1) := dk_4 (dk_at dksX5_readWay_2 11 rfl rfl)
theorem dX5_readWay_58 : decode cX5_readWay 58 = .ok (.if_icmp .ne 9, 3) := dk_160 0 9 (dk_at dksX5_readWay_2 12 rfl rfl)
theorem dX5_readWay_61 : decode cX5_readWay 61 = .ok (.aload_n 0, 1) := dk_42 (dk_at dksX5_readWay_2 15 rfl rfl)
theorem dX5_readWay_62 : decode cX5_readWay 62 = .ok (.iconst 5, 1) := dk_8 (dk_at dksX5_readWay_2 16 rfl rfl)
theorem dX5_readWay_63 : decode cX5_readWay 63 = .ok (.invokevirtual 185, 3) := dk_182 0 185 (dk_at dksX5_readWay_2 17 rfl rfl)
theorem dX5_readWay_66 : decode cX5_readWay 66 = .ok (.ireturn, 1) := dk_172 (dk_at dksX5_readWay_2 20 rfl rfl)
theorem dX5_readWay_67 : decode cX5_readWay 67 = .ok (.sipush 183, 3) := dk_17 0 183 (dk_at dksX5_readWay_2 21 rfl rfl)
theorem dX5_readWay_70 : decode cX5_readWay 70 = .ok (.bipush 41, 2) := dk_16 41 (dk_at dksX5_readWay_3 0 rfl rfl)
theorem dX5_readWay_72 : decode cX5_readWay 72 = .ok (.iload_n 1, 1) := dk_27 (dk_at dksX5_readWay_3 2 rfl rfl)
theorem dX5_readWay_73 : decode cX5_readWay 73 = .ok (.imul, 1) := dk_104 (dk_at dksX5_readWay_3 3 rfl rfl)
theorem dX5_readWay_74 : decode cX5_readWay 74 = .ok (.iadd, 1) := dk_96 (dk_at dksX5_readWay_3 4 rfl rfl)
theorem dX5_readWay_75 : decode cX5_readWay 75 = .ok (.istore_n 2, 1) := dk_61 (dk_at dksX5_readWay_3 5 rfl rfl)
theorem dX5_readWay_76 : decode cX5_readWay 76 = .ok (.aload_n 0, 1) := dk_42 (dk_at dksX5_readWay_3 6 rfl rfl)
theorem dX5_readWay_77 : decode cX5_readWay 77 = .ok (.getfield 37, 3) := dk_180 0 37 (dk_at dksX5_readWay_3 7 rfl rfl)
theorem dX5_readWay_80 : decode cX5_readWay 80 = .ok (.iload_n 2, 1) := dk_28 (dk_at dksX5_readWay_3 10 rfl rfl)
theorem dX5_readWay_81 : decode cX5_readWay 81 = .ok (.aload_n 0, 1) := dk_42 (dk_at dksX5_readWay_3 11 rfl rfl)
theorem dX5_readWay_82 : decode cX5_readWay 82 = .ok (.getfield 195, 3) := dk_180 0 195 (dk_at dksX5_readWay_3 12 rfl rfl)
theorem dX5_readWay_85 : decode cX5_readWay 85 = .ok (.iastore, 1) := dk_79 (dk_at dksX5_readWay_3 15 rfl rfl)
theorem dX5_readWay_86 : decode cX5_readWay 86 = .ok (.iconst 1, 1) := dk_4 (dk_at dksX5_readWay_3 16 rfl rfl)
theorem dX5_readWay_87 : decode cX5_readWay 87 = .ok (.istore_n 3, 1) := dk_62 (dk_at dksX5_readWay_3 17 rfl rfl)
theorem dX5_readWay_88 : decode cX5_readWay 88 = .ok (.aload_n 0, 1) := dk_42 (dk_at dksX5_readWay_3 18 rfl rfl)
theorem dX5_readWay_89 : decode cX5_readWay 89 = .ok (.invokevirtual 188, 3) := dk_182 0 188 (dk_at dksX5_readWay_3 19 rfl rfl)
theorem dX5_readWay_92 : decode cX5_readWay 92 = .ok (.aload_n 0, 1) := dk_42 (dk_at dksX5_readWay_3 22 rfl rfl)
theorem dX5_readWay_93 : decode cX5_readWay 93 = .ok (.bipush 59, 2) := dk_16 59 (dk_at dksX5_readWay_4 0 rfl rfl)
theorem dX5_readWay_95 : decode cX5_readWay 95 = .ok (.invokevirtual 182, 3) := dk_182 0 182 (dk_at dksX5_readWay_4 2 rfl rfl)
theorem dX5_readWay_98 : decode cX5_readWay 98 = .ok (.ifCond .ne 166, 3) := dk_154 0 166 (dk_at dksX5_readWay_4 5 rfl rfl)
theorem dX5_readWay_101 : decode cX5_readWay 101 = .ok (.aload_n 0, 1) := dk_42 (dk_at dksX5_readWay_4 8 rfl rfl)
theorem dX5_readWay_102 : decode cX5_readWay 102 = .ok (.invokevirtual 230, 3) := dk_182 0 230 (dk_at dksX5_readWay_4 9 rfl rfl)
theorem dX5_readWay_105 : decode cX5_readWay 105 = .ok (.istore 4, 2) := dk_54 4 (dk_at dksX5_readWay_4 12 rfl rfl)
theorem dX5_readWay_107 : decode cX5_readWay 107 = .ok (.iload 4, 2) := dk_21 4 (dk_at dksX5_readWay_4 14 rfl rfl)
theorem dX5_readWay_109 : decode cX5_readWay 109 = .ok (.ifCond .ge 9, 3) := dk_156 0 9 (dk_at dksX5_readWay_4 16 rfl rfl)
theorem dX5_readWay_112 : decode cX5_readWay 112 = .ok (.aload_n 0, 1) := dk_42 (dk_at dksX5_readWay_4 19 rfl rfl)
theorem dX5_readWay_113 : decode cX5_readWay 113 = .ok (.iconst 1, 1) := dk_4 (dk_at dksX5_readWay_4 20 rfl rfl)
theorem dX5_readWay_114 : decode cX5_readWay 114 = .ok (.invokevirtual 185, 3) := dk_182 0 185 (dk_at dksX5_readWay_4 21 rfl rfl)
theorem dX5_readWay_117 : decode cX5_readWay 117 = .ok (.ireturn, 1) := dk_172 (dk_at dksX5_readWay_5 0 rfl rfl)
theorem dX5_readWay_118 : decode cX5_readWay 118 = .ok (.aload_n 0, 1) := dk_42 (dk_at dksX5_readWay_5 1 rfl rfl)
theorem dX5_readWay_119 : decode cX5_readWay 119 = .ok (.invokevirtual 188, 3) := dk_182 0 188 (dk_at dksX5_readWay_5 2 rfl rfl)
theorem dX5_readWay_122 : decode cX5_readWay 122 = .ok (.aload_n 0, 1) := dk_42 (dk_at dksX5_readWay_5 5 rfl rfl)
theorem dX5_readWay_123 : decode cX5_readWay 123 = .ok (.getfield 159, 3) := dk_180 0 159 (dk_at dksX5_readWay_5 6 rfl rfl)
theorem dX5_readWay_126 : decode cX5_readWay 126 = .ok (.iconst 2, 1) := dk_5 (dk_at dksX5_readWay_5 9 rfl rfl)
theorem dX5_readWay_127 : decode cX5_readWay 127 = .ok (.if_icmp .eq 9, 3) := dk_159 0 9 (dk_at dksX5_readWay_5 10 rfl rfl)
theorem dX5_readWay_130 : decode cX5_readWay 130 = .ok (.aload_n 0, 1) := dk_42 (dk_at dksX5_readWay_5 13 rfl rfl)
theorem dX5_readWay_131 : decode cX5_readWay 131 = .ok (.iconst 1, 1) := dk_4 (dk_at dksX5_readWay_5 14 rfl rfl)
theorem dX5_readWay_132 : decode cX5_readWay 132 = .ok (.invokevirtual 185, 3) := dk_182 0 185 (dk_at dksX5_readWay_5 15 rfl rfl)
theorem dX5_readWay_135 : decode cX5_readWay 135 = .ok (.ireturn, 1) := dk_172 (dk_at dksX5_readWay_5 18 rfl rfl)
theorem dX5_readWay_136 : decode cX5_readWay 136 = .ok (.aload_n 0, 1) := dk_42 (dk_at dksX5_readWay_5 19 rfl rfl)
theorem dX5_readWay_137 : decode cX5_readWay 137 = .ok (.getfield 169, 3) := dk_180 0 169 (dk_at dksX5_readWay_5 20 rfl rfl)
theorem dX5_readWay_140 : decode cX5_readWay 140 = .ok (.iconst 1, 1) := dk_4 (dk_at dksX5_readWay_5 23 rfl rfl)
theorem dX5_readWay_141 : decode cX5_readWay 141 = .ok (.bipush 11, 2) := dk_16 11 (dk_at dksX5_readWay_6 0 rfl rfl)
theorem dX5_readWay_143 : decode cX5_readWay 143 = .ok (.invokestatic 191, 3) := dk_184 0 191 (dk_at dksX5_readWay_6 2 rfl rfl)
theorem dX5_readWay_146 : decode cX5_readWay 146 = .ok (.ifCond .ne 9, 3) := dk_154 0 9 (dk_at dksX5_readWay_6 5 rfl rfl)
theorem dX5_readWay_149 : decode cX5_readWay 149 = .ok (.aload_n 0, 1) := dk_42 (dk_at dksX5_readWay_6 8 rfl rfl)
theorem dX5_readWay_150 : decode cX5_readWay 150 = .ok (.iconst 2, 1) := dk_5 (dk_at dksX5_readWay_6 9 rfl rfl)
theorem dX5_readWay_151 : decode cX5_readWay 151 = .ok (.invokevirtual 185, 3) := dk_182 0 185 (dk_at dksX5_readWay_6 10 rfl rfl)
theorem dX5_readWay_154 : decode cX5_readWay 154 = .ok (.ireturn, 1) := dk_172 (dk_at dksX5_readWay_6 13 rfl rfl)
theorem dX5_readWay_155 : decode cX5_readWay 155 = .ok (.iload_n 3, 1) := dk_29 (dk_at dksX5_readWay_6 14 rfl rfl)
theorem dX5_readWay_156 : decode cX5_readWay 156 = .ok (.aload_n 0, 1) := dk_42 (dk_at dksX5_readWay_6 15 rfl rfl)
theorem dX5_readWay_157 : decode cX5_readWay 157 = .ok (.getfield 169, 3) := dk_180 0 169 (dk_at dksX5_readWay_6 16 rfl rfl)
theorem dX5_readWay_160 : decode cX5_readWay 160 = .ok (.iadd, 1) := dk_96 (dk_at dksX5_readWay_6 19 rfl rfl)
theorem dX5_readWay_161 : decode cX5_readWay 161 = .ok (.bipush 41, 2) := dk_16 41 (dk_at dksX5_readWay_6 20 rfl rfl)
theorem dX5_readWay_163 : decode cX5_readWay 163 = .ok (.if_icmp .le 9, 3) := dk_164 0 9 (dk_at dksX5_readWay_7 0 rfl rfl)
theorem dX5_readWay_166 : decode cX5_readWay 166 = .ok (.aload_n 0, 1) := dk_42 (dk_at dksX5_readWay_7 3 rfl rfl)
theorem dX5_readWay_167 : decode cX5_readWay 167 = .ok (.iconst 4, 1) := dk_7 (dk_at dksX5_readWay_7 4 rfl rfl)
theorem dX5_readWay_168 : decode cX5_readWay 168 = .ok (.invokevirtual 185, 3) := dk_182 0 185 (dk_at dksX5_readWay_7 5 rfl rfl)
theorem dX5_readWay_171 : decode cX5_readWay 171 = .ok (.ireturn, 1) := dk_172 (dk_at dksX5_readWay_7 8 rfl rfl)
theorem dX5_readWay_172 : decode cX5_readWay 172 = .ok (.iconst 0, 1) := dk_3 (dk_at dksX5_readWay_7 9 rfl rfl)
theorem dX5_readWay_173 : decode cX5_readWay 173 = .ok (.istore 5, 2) := dk_54 5 (dk_at dksX5_readWay_7 10 rfl rfl)
theorem dX5_readWay_175 : decode cX5_readWay 175 = .ok (.iload 5, 2) := dk_21 5 (dk_at dksX5_readWay_7 12 rfl rfl)
theorem dX5_readWay_177 : decode cX5_readWay 177 = .ok (.aload_n 0, 1) := dk_42 (dk_at dksX5_readWay_7 14 rfl rfl)
theorem dX5_readWay_178 : decode cX5_readWay 178 = .ok (.getfield 169, 3) := dk_180 0 169 (dk_at dksX5_readWay_7 15 rfl rfl)
theorem dX5_readWay_181 : decode cX5_readWay 181 = .ok (.if_icmp .ge 76, 3) := dk_162 0 76 (dk_at dksX5_readWay_7 18 rfl rfl)
theorem dX5_readWay_184 : decode cX5_readWay 184 = .ok (.aload_n 0, 1) := dk_42 (dk_at dksX5_readWay_7 21 rfl rfl)
theorem dX5_readWay_185 : decode cX5_readWay 185 = .ok (.getfield 37, 3) := dk_180 0 37 (dk_at dksX5_readWay_8 0 rfl rfl)
theorem dX5_readWay_188 : decode cX5_readWay 188 = .ok (.iload_n 2, 1) := dk_28 (dk_at dksX5_readWay_8 3 rfl rfl)
theorem dX5_readWay_189 : decode cX5_readWay 189 = .ok (.iload_n 3, 1) := dk_29 (dk_at dksX5_readWay_8 4 rfl rfl)
theorem dX5_readWay_190 : decode cX5_readWay 190 = .ok (.iadd, 1) := dk_96 (dk_at dksX5_readWay_8 5 rfl rfl)
theorem dX5_readWay_191 : decode cX5_readWay 191 = .ok (.iconst 1, 1) := dk_4 (dk_at dksX5_readWay_8 6 rfl rfl)
theorem dX5_readWay_192 : decode cX5_readWay 192 = .ok (.isub, 1) := dk_100 (dk_at dksX5_readWay_8 7 rfl rfl)
theorem dX5_readWay_193 : decode cX5_readWay 193 = .ok (.iaload, 1) := dk_46 (dk_at dksX5_readWay_8 8 rfl rfl)
theorem dX5_readWay_194 : decode cX5_readWay 194 = .ok (.iload 4, 2) := dk_21 4 (dk_at dksX5_readWay_8 9 rfl rfl)
theorem dX5_readWay_196 : decode cX5_readWay 196 = .ok (.aload_n 0, 1) := dk_42 (dk_at dksX5_readWay_8 11 rfl rfl)
theorem dX5_readWay_197 : decode cX5_readWay 197 = .ok (.getfield 37, 3) := dk_180 0 37 (dk_at dksX5_readWay_8 12 rfl rfl)
theorem dX5_readWay_200 : decode cX5_readWay 200 = .ok (.iconst 0, 1) := dk_3 (dk_at dksX5_readWay_8 15 rfl rfl)
theorem dX5_readWay_201 : decode cX5_readWay 201 = .ok (.iaload, 1) := dk_46 (dk_at dksX5_readWay_8 16 rfl rfl)
theorem dX5_readWay_202 : decode cX5_readWay 202 = .ok (.aload_n 0, 1) := dk_42 (dk_at dksX5_readWay_8 17 rfl rfl)
theorem dX5_readWay_203 : decode cX5_readWay 203 = .ok (.getfield 37, 3) := dk_180 0 37 (dk_at dksX5_readWay_8 18 rfl rfl)
theorem dX5_readWay_206 : decode cX5_readWay 206 = .ok (.iconst 1, 1) := dk_4 (dk_at dksX5_readWay_8 21 rfl rfl)
theorem dX5_readWay_207 : decode cX5_readWay 207 = .ok (.iaload, 1) := dk_46 (dk_at dksX5_readWay_8 22 rfl rfl)
theorem dX5_readWay_208 : decode cX5_readWay 208 = .ok (.invokestatic 233, 3) := dk_184 0 233 (dk_at dksX5_readWay_9 0 rfl rfl)
theorem dX5_readWay_211 : decode cX5_readWay 211 = .ok (.istore 6, 2) := dk_54 6 (dk_at dksX5_readWay_9 3 rfl rfl)
theorem dX5_readWay_213 : decode cX5_readWay 213 = .ok (.iload 6, 2) := dk_21 6 (dk_at dksX5_readWay_9 5 rfl rfl)
theorem dX5_readWay_215 : decode cX5_readWay 215 = .ok (.ifCond .lt 17, 3) := dk_155 0 17 (dk_at dksX5_readWay_9 7 rfl rfl)
theorem dX5_readWay_218 : decode cX5_readWay 218 = .ok (.aload_n 0, 1) := dk_42 (dk_at dksX5_readWay_9 10 rfl rfl)
theorem dX5_readWay_219 : decode cX5_readWay 219 = .ok (.getfield 37, 3) := dk_180 0 37 (dk_at dksX5_readWay_9 11 rfl rfl)
theorem dX5_readWay_222 : decode cX5_readWay 222 = .ok (.bipush 25, 2) := dk_16 25 (dk_at dksX5_readWay_9 14 rfl rfl)
theorem dX5_readWay_224 : decode cX5_readWay 224 = .ok (.iload 6, 2) := dk_21 6 (dk_at dksX5_readWay_9 16 rfl rfl)
theorem dX5_readWay_226 : decode cX5_readWay 226 = .ok (.iadd, 1) := dk_96 (dk_at dksX5_readWay_9 18 rfl rfl)
theorem dX5_readWay_227 : decode cX5_readWay 227 = .ok (.iaload, 1) := dk_46 (dk_at dksX5_readWay_9 19 rfl rfl)
theorem dX5_readWay_228 : decode cX5_readWay 228 = .ok (.iconst 1, 1) := dk_4 (dk_at dksX5_readWay_9 20 rfl rfl)
theorem dX5_readWay_229 : decode cX5_readWay 229 = .ok (.if_icmp .ne 9, 3) := dk_160 0 9 (dk_at dksX5_readWay_9 21 rfl rfl)
theorem dX5_readWay_232 : decode cX5_readWay 232 = .ok (.aload_n 0, 1) := dk_42 (dk_at dksX5_readWay_10 0 rfl rfl)
theorem dX5_readWay_233 : decode cX5_readWay 233 = .ok (.iconst 5, 1) := dk_8 (dk_at dksX5_readWay_10 1 rfl rfl)
theorem dX5_readWay_234 : decode cX5_readWay 234 = .ok (.invokevirtual 185, 3) := dk_182 0 185 (dk_at dksX5_readWay_10 2 rfl rfl)
theorem dX5_readWay_237 : decode cX5_readWay 237 = .ok (.ireturn, 1) := dk_172 (dk_at dksX5_readWay_10 5 rfl rfl)
theorem dX5_readWay_238 : decode cX5_readWay 238 = .ok (.aload_n 0, 1) := dk_42 (dk_at dksX5_readWay_10 6 rfl rfl)
theorem dX5_readWay_239 : decode cX5_readWay 239 = .ok (.getfield 37, 3) := dk_180 0 37 (dk_at dksX5_readWay_10 7 rfl rfl)
theorem dX5_readWay_242 : decode cX5_readWay 242 = .ok (.iload_n 2, 1) := dk_28 (dk_at dksX5_readWay_10 10 rfl rfl)
theorem dX5_readWay_243 : decode cX5_readWay 243 = .ok (.iload_n 3, 1) := dk_29 (dk_at dksX5_readWay_10 11 rfl rfl)
theorem dX5_readWay_244 : decode cX5_readWay 244 = .ok (.iadd, 1) := dk_96 (dk_at dksX5_readWay_10 12 rfl rfl)
theorem dX5_readWay_245 : decode cX5_readWay 245 = .ok (.iload 6, 2) := dk_21 6 (dk_at dksX5_readWay_10 13 rfl rfl)
theorem dX5_readWay_247 : decode cX5_readWay 247 = .ok (.iastore, 1) := dk_79 (dk_at dksX5_readWay_10 15 rfl rfl)
theorem dX5_readWay_248 : decode cX5_readWay 248 = .ok (.iinc 3 1, 3) := dk_132 3 1 (dk_at dksX5_readWay_10 16 rfl rfl)
theorem dX5_readWay_251 : decode cX5_readWay 251 = .ok (.iinc 5 1, 3) := dk_132 5 1 (dk_at dksX5_readWay_10 19 rfl rfl)
theorem dX5_readWay_254 : decode cX5_readWay 254 = .ok (.goto (-79), 3) := dk_167 255 177 (dk_at dksX5_readWay_11 0 rfl rfl)
theorem dX5_readWay_257 : decode cX5_readWay 257 = .ok (.aload_n 0, 1) := dk_42 (dk_at dksX5_readWay_11 3 rfl rfl)
theorem dX5_readWay_258 : decode cX5_readWay 258 = .ok (.invokevirtual 188, 3) := dk_182 0 188 (dk_at dksX5_readWay_11 4 rfl rfl)
theorem dX5_readWay_261 : decode cX5_readWay 261 = .ok (.goto (-169), 3) := dk_167 255 87 (dk_at dksX5_readWay_11 7 rfl rfl)
theorem dX5_readWay_264 : decode cX5_readWay 264 = .ok (.aload_n 0, 1) := dk_42 (dk_at dksX5_readWay_11 10 rfl rfl)
theorem dX5_readWay_265 : decode cX5_readWay 265 = .ok (.getfield 37, 3) := dk_180 0 37 (dk_at dksX5_readWay_11 11 rfl rfl)
theorem dX5_readWay_268 : decode cX5_readWay 268 = .ok (.sipush 177, 3) := dk_17 0 177 (dk_at dksX5_readWay_11 14 rfl rfl)
theorem dX5_readWay_271 : decode cX5_readWay 271 = .ok (.iload_n 1, 1) := dk_27 (dk_at dksX5_readWay_11 17 rfl rfl)
theorem dX5_readWay_272 : decode cX5_readWay 272 = .ok (.iadd, 1) := dk_96 (dk_at dksX5_readWay_11 18 rfl rfl)
theorem dX5_readWay_273 : decode cX5_readWay 273 = .ok (.iload_n 3, 1) := dk_29 (dk_at dksX5_readWay_11 19 rfl rfl)
theorem dX5_readWay_274 : decode cX5_readWay 274 = .ok (.iastore, 1) := dk_79 (dk_at dksX5_readWay_11 20 rfl rfl)
theorem dX5_readWay_275 : decode cX5_readWay 275 = .ok (.aload_n 0, 1) := dk_42 (dk_at dksX5_readWay_11 21 rfl rfl)
theorem dX5_readWay_276 : decode cX5_readWay 276 = .ok (.getfield 37, 3) := dk_180 0 37 (dk_at dksX5_readWay_12 0 rfl rfl)
theorem dX5_readWay_279 : decode cX5_readWay 279 = .ok (.iconst 3, 1) := dk_6 (dk_at dksX5_readWay_12 3 rfl rfl)
theorem dX5_readWay_280 : decode cX5_readWay 280 = .ok (.dup2, 1) := dk_92 (dk_at dksX5_readWay_12 4 rfl rfl)
theorem dX5_readWay_281 : decode cX5_readWay 281 = .ok (.iaload, 1) := dk_46 (dk_at dksX5_readWay_12 5 rfl rfl)
theorem dX5_readWay_282 : decode cX5_readWay 282 = .ok (.iconst 1, 1) := dk_4 (dk_at dksX5_readWay_12 6 rfl rfl)
theorem dX5_readWay_283 : decode cX5_readWay 283 = .ok (.iadd, 1) := dk_96 (dk_at dksX5_readWay_12 7 rfl rfl)
theorem dX5_readWay_284 : decode cX5_readWay 284 = .ok (.iastore, 1) := dk_79 (dk_at dksX5_readWay_12 8 rfl rfl)
theorem dX5_readWay_285 : decode cX5_readWay 285 = .ok (.iconst 1, 1) := dk_4 (dk_at dksX5_readWay_12 9 rfl rfl)
theorem dX5_readWay_286 : decode cX5_readWay 286 = .ok (.ireturn, 1) := dk_172 (dk_at dksX5_readWay_12 10 rfl rfl)
abbrev cX5_isSign : ByteArray := prog_19_method_17_code
def yX5_isSign : MethodName := ⟨RX5, "isSign", "(I)Z"⟩
def dkwX5_isSign_0 : List UInt8 := [42, 180, 0, 159, 6, 160, 0, 15, 42, 180, 0, 169, 27, 160, 0, 7, 4, 167, 0, 4, 3, 172]
abbrev dktX5_isSign_0 : List UInt8 := dkwX5_isSign_0 ++ []
theorem dksX5_isSign_0 : cX5_isSign.data.toList.drop 0 = dktX5_isSign_0 := by decide +kernel
theorem dX5_isSign_0 : decode cX5_isSign 0 = .ok (.aload_n 0, 1) := dk_42 (dk_at dksX5_isSign_0 0 rfl rfl)
theorem dX5_isSign_1 : decode cX5_isSign 1 = .ok (.getfield 159, 3) := dk_180 0 159 (dk_at dksX5_isSign_0 1 rfl rfl)
theorem dX5_isSign_4 : decode cX5_isSign 4 = .ok (.iconst 3, 1) := dk_6 (dk_at dksX5_isSign_0 4 rfl rfl)
theorem dX5_isSign_5 : decode cX5_isSign 5 = .ok (.if_icmp .ne 15, 3) := dk_160 0 15 (dk_at dksX5_isSign_0 5 rfl rfl)
theorem dX5_isSign_8 : decode cX5_isSign 8 = .ok (.aload_n 0, 1) := dk_42 (dk_at dksX5_isSign_0 8 rfl rfl)
theorem dX5_isSign_9 : decode cX5_isSign 9 = .ok (.getfield 169, 3) := dk_180 0 169 (dk_at dksX5_isSign_0 9 rfl rfl)
theorem dX5_isSign_12 : decode cX5_isSign 12 = .ok (.iload_n 1, 1) := dk_27 (dk_at dksX5_isSign_0 12 rfl rfl)
theorem dX5_isSign_13 : decode cX5_isSign 13 = .ok (.if_icmp .ne 7, 3) := dk_160 0 7 (dk_at dksX5_isSign_0 13 rfl rfl)
theorem dX5_isSign_16 : decode cX5_isSign 16 = .ok (.iconst 1, 1) := dk_4 (dk_at dksX5_isSign_0 16 rfl rfl)
theorem dX5_isSign_17 : decode cX5_isSign 17 = .ok (.goto 4, 3) := dk_167 0 4 (dk_at dksX5_isSign_0 17 rfl rfl)
theorem dX5_isSign_20 : decode cX5_isSign 20 = .ok (.iconst 0, 1) := dk_3 (dk_at dksX5_isSign_0 20 rfl rfl)
theorem dX5_isSign_21 : decode cX5_isSign 21 = .ok (.ireturn, 1) := dk_172 (dk_at dksX5_isSign_0 21 rfl rfl)
abbrev cX5_dirOfWord : ByteArray := prog_19_method_25_code
def yX5_dirOfWord : MethodName := ⟨RX5, "dirOfWord", "()I"⟩
def dkwX5_dirOfWord_2 : List UInt8 := [182, 0, 206, 153, 0, 7, 6, 167, 0, 4, 2, 172]
abbrev dktX5_dirOfWord_2 : List UInt8 := dkwX5_dirOfWord_2 ++ []
def dkwX5_dirOfWord_1 : List UInt8 := [4, 167, 0, 32, 42, 20, 0, 125, 182, 0, 206, 153, 0, 7, 5, 167, 0, 18, 42, 20, 0, 127]
abbrev dktX5_dirOfWord_1 : List UInt8 := dkwX5_dirOfWord_1 ++ dktX5_dirOfWord_2
def dkwX5_dirOfWord_0 : List UInt8 := [42, 20, 0, 121, 182, 0, 206, 153, 0, 7, 3, 167, 0, 46, 42, 20, 0, 123, 182, 0, 206, 153, 0, 7]
abbrev dktX5_dirOfWord_0 : List UInt8 := dkwX5_dirOfWord_0 ++ dktX5_dirOfWord_1
theorem dksX5_dirOfWord_0 : cX5_dirOfWord.data.toList.drop 0 = dktX5_dirOfWord_0 := by decide +kernel
theorem dksX5_dirOfWord_1 : cX5_dirOfWord.data.toList.drop 24 = dktX5_dirOfWord_1 := dk_seg dksX5_dirOfWord_0 24 rfl rfl
theorem dksX5_dirOfWord_2 : cX5_dirOfWord.data.toList.drop 46 = dktX5_dirOfWord_2 := dk_seg dksX5_dirOfWord_1 22 rfl rfl
theorem dX5_dirOfWord_0 : decode cX5_dirOfWord 0 = .ok (.aload_n 0, 1) := dk_42 (dk_at dksX5_dirOfWord_0 0 rfl rfl)
theorem dX5_dirOfWord_1 : decode cX5_dirOfWord 1 = .ok (.ldc2_w 121, 3) := dk_20 0 121 (dk_at dksX5_dirOfWord_0 1 rfl rfl)
theorem dX5_dirOfWord_4 : decode cX5_dirOfWord 4 = .ok (.invokevirtual 206, 3) := dk_182 0 206 (dk_at dksX5_dirOfWord_0 4 rfl rfl)
theorem dX5_dirOfWord_7 : decode cX5_dirOfWord 7 = .ok (.ifCond .eq 7, 3) := dk_153 0 7 (dk_at dksX5_dirOfWord_0 7 rfl rfl)
theorem dX5_dirOfWord_10 : decode cX5_dirOfWord 10 = .ok (.iconst 0, 1) := dk_3 (dk_at dksX5_dirOfWord_0 10 rfl rfl)
theorem dX5_dirOfWord_11 : decode cX5_dirOfWord 11 = .ok (.goto 46, 3) := dk_167 0 46 (dk_at dksX5_dirOfWord_0 11 rfl rfl)
theorem dX5_dirOfWord_14 : decode cX5_dirOfWord 14 = .ok (.aload_n 0, 1) := dk_42 (dk_at dksX5_dirOfWord_0 14 rfl rfl)
theorem dX5_dirOfWord_15 : decode cX5_dirOfWord 15 = .ok (.ldc2_w 123, 3) := dk_20 0 123 (dk_at dksX5_dirOfWord_0 15 rfl rfl)
theorem dX5_dirOfWord_18 : decode cX5_dirOfWord 18 = .ok (.invokevirtual 206, 3) := dk_182 0 206 (dk_at dksX5_dirOfWord_0 18 rfl rfl)
theorem dX5_dirOfWord_21 : decode cX5_dirOfWord 21 = .ok (.ifCond .eq 7, 3) := dk_153 0 7 (dk_at dksX5_dirOfWord_0 21 rfl rfl)
theorem dX5_dirOfWord_24 : decode cX5_dirOfWord 24 = .ok (.iconst 1, 1) := dk_4 (dk_at dksX5_dirOfWord_1 0 rfl rfl)
theorem dX5_dirOfWord_25 : decode cX5_dirOfWord 25 = .ok (.goto 32, 3) := dk_167 0 32 (dk_at dksX5_dirOfWord_1 1 rfl rfl)
theorem dX5_dirOfWord_28 : decode cX5_dirOfWord 28 = .ok (.aload_n 0, 1) := dk_42 (dk_at dksX5_dirOfWord_1 4 rfl rfl)
theorem dX5_dirOfWord_29 : decode cX5_dirOfWord 29 = .ok (.ldc2_w 125, 3) := dk_20 0 125 (dk_at dksX5_dirOfWord_1 5 rfl rfl)
theorem dX5_dirOfWord_32 : decode cX5_dirOfWord 32 = .ok (.invokevirtual 206, 3) := dk_182 0 206 (dk_at dksX5_dirOfWord_1 8 rfl rfl)
theorem dX5_dirOfWord_35 : decode cX5_dirOfWord 35 = .ok (.ifCond .eq 7, 3) := dk_153 0 7 (dk_at dksX5_dirOfWord_1 11 rfl rfl)
theorem dX5_dirOfWord_38 : decode cX5_dirOfWord 38 = .ok (.iconst 2, 1) := dk_5 (dk_at dksX5_dirOfWord_1 14 rfl rfl)
theorem dX5_dirOfWord_39 : decode cX5_dirOfWord 39 = .ok (.goto 18, 3) := dk_167 0 18 (dk_at dksX5_dirOfWord_1 15 rfl rfl)
theorem dX5_dirOfWord_42 : decode cX5_dirOfWord 42 = .ok (.aload_n 0, 1) := dk_42 (dk_at dksX5_dirOfWord_1 18 rfl rfl)
theorem dX5_dirOfWord_43 : decode cX5_dirOfWord 43 = .ok (.ldc2_w 127, 3) := dk_20 0 127 (dk_at dksX5_dirOfWord_1 19 rfl rfl)
theorem dX5_dirOfWord_46 : decode cX5_dirOfWord 46 = .ok (.invokevirtual 206, 3) := dk_182 0 206 (dk_at dksX5_dirOfWord_2 0 rfl rfl)
theorem dX5_dirOfWord_49 : decode cX5_dirOfWord 49 = .ok (.ifCond .eq 7, 3) := dk_153 0 7 (dk_at dksX5_dirOfWord_2 3 rfl rfl)
theorem dX5_dirOfWord_52 : decode cX5_dirOfWord 52 = .ok (.iconst 3, 1) := dk_6 (dk_at dksX5_dirOfWord_2 6 rfl rfl)
theorem dX5_dirOfWord_53 : decode cX5_dirOfWord 53 = .ok (.goto 4, 3) := dk_167 0 4 (dk_at dksX5_dirOfWord_2 7 rfl rfl)
theorem dX5_dirOfWord_56 : decode cX5_dirOfWord 56 = .ok (.iconst (-1), 1) := dk_2 (dk_at dksX5_dirOfWord_2 10 rfl rfl)
theorem dX5_dirOfWord_57 : decode cX5_dirOfWord 57 = .ok (.ireturn, 1) := dk_172 (dk_at dksX5_dirOfWord_2 11 rfl rfl)
abbrev cX5_besideOf : ByteArray := prog_19_method_26_code
def yX5_besideOf : MethodName := ⟨RX5, "besideOf", "(IIII)I"⟩
def dkwX5_besideOf_3 : List UInt8 := [153, 0, 14, 16, 12, 21, 5, 104, 21, 4, 96, 167, 0, 4, 2, 172]
abbrev dktX5_besideOf_3 : List UInt8 := dkwX5_besideOf_3 ++ []
def dkwX5_besideOf_2 : List UInt8 := [96, 54, 5, 21, 4, 3, 28, 4, 100, 184, 0, 191, 153, 0, 26, 21, 5, 3, 29, 4, 100, 184, 0, 191]
abbrev dktX5_besideOf_2 : List UInt8 := dkwX5_besideOf_2 ++ dktX5_besideOf_3
def dkwX5_besideOf_1 : List UInt8 := [54, 4, 26, 16, 12, 108, 27, 5, 160, 0, 7, 4, 167, 0, 12, 27, 154, 0, 7, 2, 167, 0, 4, 3]
abbrev dktX5_besideOf_1 : List UInt8 := dkwX5_besideOf_1 ++ dktX5_besideOf_2
def dkwX5_besideOf_0 : List UInt8 := [26, 16, 12, 112, 27, 4, 160, 0, 7, 4, 167, 0, 13, 27, 6, 160, 0, 7, 2, 167, 0, 4, 3, 96]
abbrev dktX5_besideOf_0 : List UInt8 := dkwX5_besideOf_0 ++ dktX5_besideOf_1
theorem dksX5_besideOf_0 : cX5_besideOf.data.toList.drop 0 = dktX5_besideOf_0 := by decide +kernel
theorem dksX5_besideOf_1 : cX5_besideOf.data.toList.drop 24 = dktX5_besideOf_1 := dk_seg dksX5_besideOf_0 24 rfl rfl
theorem dksX5_besideOf_2 : cX5_besideOf.data.toList.drop 48 = dktX5_besideOf_2 := dk_seg dksX5_besideOf_1 24 rfl rfl
theorem dksX5_besideOf_3 : cX5_besideOf.data.toList.drop 72 = dktX5_besideOf_3 := dk_seg dksX5_besideOf_2 24 rfl rfl
theorem dX5_besideOf_0 : decode cX5_besideOf 0 = .ok (.iload_n 0, 1) := dk_26 (dk_at dksX5_besideOf_0 0 rfl rfl)
theorem dX5_besideOf_1 : decode cX5_besideOf 1 = .ok (.bipush 12, 2) := dk_16 12 (dk_at dksX5_besideOf_0 1 rfl rfl)
theorem dX5_besideOf_3 : decode cX5_besideOf 3 = .ok (.irem, 1) := dk_112 (dk_at dksX5_besideOf_0 3 rfl rfl)
theorem dX5_besideOf_4 : decode cX5_besideOf 4 = .ok (.iload_n 1, 1) := dk_27 (dk_at dksX5_besideOf_0 4 rfl rfl)
theorem dX5_besideOf_5 : decode cX5_besideOf 5 = .ok (.iconst 1, 1) := dk_4 (dk_at dksX5_besideOf_0 5 rfl rfl)
theorem dX5_besideOf_6 : decode cX5_besideOf 6 = .ok (.if_icmp .ne 7, 3) := dk_160 0 7 (dk_at dksX5_besideOf_0 6 rfl rfl)
theorem dX5_besideOf_9 : decode cX5_besideOf 9 = .ok (.iconst 1, 1) := dk_4 (dk_at dksX5_besideOf_0 9 rfl rfl)
theorem dX5_besideOf_10 : decode cX5_besideOf 10 = .ok (.goto 13, 3) := dk_167 0 13 (dk_at dksX5_besideOf_0 10 rfl rfl)
theorem dX5_besideOf_13 : decode cX5_besideOf 13 = .ok (.iload_n 1, 1) := dk_27 (dk_at dksX5_besideOf_0 13 rfl rfl)
theorem dX5_besideOf_14 : decode cX5_besideOf 14 = .ok (.iconst 3, 1) := dk_6 (dk_at dksX5_besideOf_0 14 rfl rfl)
theorem dX5_besideOf_15 : decode cX5_besideOf 15 = .ok (.if_icmp .ne 7, 3) := dk_160 0 7 (dk_at dksX5_besideOf_0 15 rfl rfl)
theorem dX5_besideOf_18 : decode cX5_besideOf 18 = .ok (.iconst (-1), 1) := dk_2 (dk_at dksX5_besideOf_0 18 rfl rfl)
theorem dX5_besideOf_19 : decode cX5_besideOf 19 = .ok (.goto 4, 3) := dk_167 0 4 (dk_at dksX5_besideOf_0 19 rfl rfl)
theorem dX5_besideOf_22 : decode cX5_besideOf 22 = .ok (.iconst 0, 1) := dk_3 (dk_at dksX5_besideOf_0 22 rfl rfl)
theorem dX5_besideOf_23 : decode cX5_besideOf 23 = .ok (.iadd, 1) := dk_96 (dk_at dksX5_besideOf_0 23 rfl rfl)
theorem dX5_besideOf_24 : decode cX5_besideOf 24 = .ok (.istore 4, 2) := dk_54 4 (dk_at dksX5_besideOf_1 0 rfl rfl)
theorem dX5_besideOf_26 : decode cX5_besideOf 26 = .ok (.iload_n 0, 1) := dk_26 (dk_at dksX5_besideOf_1 2 rfl rfl)
theorem dX5_besideOf_27 : decode cX5_besideOf 27 = .ok (.bipush 12, 2) := dk_16 12 (dk_at dksX5_besideOf_1 3 rfl rfl)
theorem dX5_besideOf_29 : decode cX5_besideOf 29 = .ok (.idiv, 1) := dk_108 (dk_at dksX5_besideOf_1 5 rfl rfl)
theorem dX5_besideOf_30 : decode cX5_besideOf 30 = .ok (.iload_n 1, 1) := dk_27 (dk_at dksX5_besideOf_1 6 rfl rfl)
theorem dX5_besideOf_31 : decode cX5_besideOf 31 = .ok (.iconst 2, 1) := dk_5 (dk_at dksX5_besideOf_1 7 rfl rfl)
theorem dX5_besideOf_32 : decode cX5_besideOf 32 = .ok (.if_icmp .ne 7, 3) := dk_160 0 7 (dk_at dksX5_besideOf_1 8 rfl rfl)
theorem dX5_besideOf_35 : decode cX5_besideOf 35 = .ok (.iconst 1, 1) := dk_4 (dk_at dksX5_besideOf_1 11 rfl rfl)
theorem dX5_besideOf_36 : decode cX5_besideOf 36 = .ok (.goto 12, 3) := dk_167 0 12 (dk_at dksX5_besideOf_1 12 rfl rfl)
theorem dX5_besideOf_39 : decode cX5_besideOf 39 = .ok (.iload_n 1, 1) := dk_27 (dk_at dksX5_besideOf_1 15 rfl rfl)
theorem dX5_besideOf_40 : decode cX5_besideOf 40 = .ok (.ifCond .ne 7, 3) := dk_154 0 7 (dk_at dksX5_besideOf_1 16 rfl rfl)
theorem dX5_besideOf_43 : decode cX5_besideOf 43 = .ok (.iconst (-1), 1) := dk_2 (dk_at dksX5_besideOf_1 19 rfl rfl)
theorem dX5_besideOf_44 : decode cX5_besideOf 44 = .ok (.goto 4, 3) := dk_167 0 4 (dk_at dksX5_besideOf_1 20 rfl rfl)
theorem dX5_besideOf_47 : decode cX5_besideOf 47 = .ok (.iconst 0, 1) := dk_3 (dk_at dksX5_besideOf_1 23 rfl rfl)
theorem dX5_besideOf_48 : decode cX5_besideOf 48 = .ok (.iadd, 1) := dk_96 (dk_at dksX5_besideOf_2 0 rfl rfl)
theorem dX5_besideOf_49 : decode cX5_besideOf 49 = .ok (.istore 5, 2) := dk_54 5 (dk_at dksX5_besideOf_2 1 rfl rfl)
theorem dX5_besideOf_51 : decode cX5_besideOf 51 = .ok (.iload 4, 2) := dk_21 4 (dk_at dksX5_besideOf_2 3 rfl rfl)
theorem dX5_besideOf_53 : decode cX5_besideOf 53 = .ok (.iconst 0, 1) := dk_3 (dk_at dksX5_besideOf_2 5 rfl rfl)
theorem dX5_besideOf_54 : decode cX5_besideOf 54 = .ok (.iload_n 2, 1) := dk_28 (dk_at dksX5_besideOf_2 6 rfl rfl)
theorem dX5_besideOf_55 : decode cX5_besideOf 55 = .ok (.iconst 1, 1) := dk_4 (dk_at dksX5_besideOf_2 7 rfl rfl)
theorem dX5_besideOf_56 : decode cX5_besideOf 56 = .ok (.isub, 1) := dk_100 (dk_at dksX5_besideOf_2 8 rfl rfl)
theorem dX5_besideOf_57 : decode cX5_besideOf 57 = .ok (.invokestatic 191, 3) := dk_184 0 191 (dk_at dksX5_besideOf_2 9 rfl rfl)
theorem dX5_besideOf_60 : decode cX5_besideOf 60 = .ok (.ifCond .eq 26, 3) := dk_153 0 26 (dk_at dksX5_besideOf_2 12 rfl rfl)
theorem dX5_besideOf_63 : decode cX5_besideOf 63 = .ok (.iload 5, 2) := dk_21 5 (dk_at dksX5_besideOf_2 15 rfl rfl)
theorem dX5_besideOf_65 : decode cX5_besideOf 65 = .ok (.iconst 0, 1) := dk_3 (dk_at dksX5_besideOf_2 17 rfl rfl)
theorem dX5_besideOf_66 : decode cX5_besideOf 66 = .ok (.iload_n 3, 1) := dk_29 (dk_at dksX5_besideOf_2 18 rfl rfl)
theorem dX5_besideOf_67 : decode cX5_besideOf 67 = .ok (.iconst 1, 1) := dk_4 (dk_at dksX5_besideOf_2 19 rfl rfl)
theorem dX5_besideOf_68 : decode cX5_besideOf 68 = .ok (.isub, 1) := dk_100 (dk_at dksX5_besideOf_2 20 rfl rfl)
theorem dX5_besideOf_69 : decode cX5_besideOf 69 = .ok (.invokestatic 191, 3) := dk_184 0 191 (dk_at dksX5_besideOf_2 21 rfl rfl)
theorem dX5_besideOf_72 : decode cX5_besideOf 72 = .ok (.ifCond .eq 14, 3) := dk_153 0 14 (dk_at dksX5_besideOf_3 0 rfl rfl)
theorem dX5_besideOf_75 : decode cX5_besideOf 75 = .ok (.bipush 12, 2) := dk_16 12 (dk_at dksX5_besideOf_3 3 rfl rfl)
theorem dX5_besideOf_77 : decode cX5_besideOf 77 = .ok (.iload 5, 2) := dk_21 5 (dk_at dksX5_besideOf_3 5 rfl rfl)
theorem dX5_besideOf_79 : decode cX5_besideOf 79 = .ok (.imul, 1) := dk_104 (dk_at dksX5_besideOf_3 7 rfl rfl)
theorem dX5_besideOf_80 : decode cX5_besideOf 80 = .ok (.iload 4, 2) := dk_21 4 (dk_at dksX5_besideOf_3 8 rfl rfl)
theorem dX5_besideOf_82 : decode cX5_besideOf 82 = .ok (.iadd, 1) := dk_96 (dk_at dksX5_besideOf_3 10 rfl rfl)
theorem dX5_besideOf_83 : decode cX5_besideOf 83 = .ok (.goto 4, 3) := dk_167 0 4 (dk_at dksX5_besideOf_3 11 rfl rfl)
theorem dX5_besideOf_86 : decode cX5_besideOf 86 = .ok (.iconst (-1), 1) := dk_2 (dk_at dksX5_besideOf_3 14 rfl rfl)
theorem dX5_besideOf_87 : decode cX5_besideOf 87 = .ok (.ireturn, 1) := dk_172 (dk_at dksX5_besideOf_3 15 rfl rfl)
abbrev cX5_sign : ByteArray := prog_19_method_18_code
def yX5_sign : MethodName := ⟨RX5, "sign", "(I)Z"⟩
def dkwX5_sign_0 : List UInt8 := [42, 27, 182, 0, 182, 154, 0, 9, 42, 4, 182, 0, 185, 172, 42, 182, 0, 188, 4, 172]
abbrev dktX5_sign_0 : List UInt8 := dkwX5_sign_0 ++ []
theorem dksX5_sign_0 : cX5_sign.data.toList.drop 0 = dktX5_sign_0 := by decide +kernel
theorem dX5_sign_0 : decode cX5_sign 0 = .ok (.aload_n 0, 1) := dk_42 (dk_at dksX5_sign_0 0 rfl rfl)
theorem dX5_sign_1 : decode cX5_sign 1 = .ok (.iload_n 1, 1) := dk_27 (dk_at dksX5_sign_0 1 rfl rfl)
theorem dX5_sign_2 : decode cX5_sign 2 = .ok (.invokevirtual 182, 3) := dk_182 0 182 (dk_at dksX5_sign_0 2 rfl rfl)
theorem dX5_sign_5 : decode cX5_sign 5 = .ok (.ifCond .ne 9, 3) := dk_154 0 9 (dk_at dksX5_sign_0 5 rfl rfl)
theorem dX5_sign_8 : decode cX5_sign 8 = .ok (.aload_n 0, 1) := dk_42 (dk_at dksX5_sign_0 8 rfl rfl)
theorem dX5_sign_9 : decode cX5_sign 9 = .ok (.iconst 1, 1) := dk_4 (dk_at dksX5_sign_0 9 rfl rfl)
theorem dX5_sign_10 : decode cX5_sign 10 = .ok (.invokevirtual 185, 3) := dk_182 0 185 (dk_at dksX5_sign_0 10 rfl rfl)
theorem dX5_sign_13 : decode cX5_sign 13 = .ok (.ireturn, 1) := dk_172 (dk_at dksX5_sign_0 13 rfl rfl)
theorem dX5_sign_14 : decode cX5_sign 14 = .ok (.aload_n 0, 1) := dk_42 (dk_at dksX5_sign_0 14 rfl rfl)
theorem dX5_sign_15 : decode cX5_sign 15 = .ok (.invokevirtual 188, 3) := dk_182 0 188 (dk_at dksX5_sign_0 15 rfl rfl)
theorem dX5_sign_18 : decode cX5_sign 18 = .ok (.iconst 1, 1) := dk_4 (dk_at dksX5_sign_0 18 rfl rfl)
theorem dX5_sign_19 : decode cX5_sign 19 = .ok (.ireturn, 1) := dk_172 (dk_at dksX5_sign_0 19 rfl rfl)
abbrev cX5_fault : ByteArray := prog_19_method_29_code
def yX5_fault : MethodName := ⟨RX5, "fault", "()I"⟩
def dkwX5_fault_0 : List UInt8 := [42, 3, 181, 0, 1, 42, 180, 0, 176, 172]
abbrev dktX5_fault_0 : List UInt8 := dkwX5_fault_0 ++ []
theorem dksX5_fault_0 : cX5_fault.data.toList.drop 0 = dktX5_fault_0 := by decide +kernel
theorem dX5_fault_0 : decode cX5_fault 0 = .ok (.aload_n 0, 1) := dk_42 (dk_at dksX5_fault_0 0 rfl rfl)
theorem dX5_fault_1 : decode cX5_fault 1 = .ok (.iconst 0, 1) := dk_3 (dk_at dksX5_fault_0 1 rfl rfl)
theorem dX5_fault_2 : decode cX5_fault 2 = .ok (.putfield 1, 3) := dk_181 0 1 (dk_at dksX5_fault_0 2 rfl rfl)
theorem dX5_fault_5 : decode cX5_fault 5 = .ok (.aload_n 0, 1) := dk_42 (dk_at dksX5_fault_0 5 rfl rfl)
theorem dX5_fault_6 : decode cX5_fault 6 = .ok (.getfield 176, 3) := dk_180 0 176 (dk_at dksX5_fault_0 6 rfl rfl)
theorem dX5_fault_9 : decode cX5_fault 9 = .ok (.ireturn, 1) := dk_172 (dk_at dksX5_fault_0 9 rfl rfl)
abbrev cX5_person : ByteArray := prog_19_method_38_code
def yX5_person : MethodName := ⟨RX5, "person", "(II)I"⟩
def dkwX5_person_6 : List UInt8 := [16, 19, 27, 96, 46, 172, 29, 172, 21, 4, 172, 42, 180, 0, 33, 17, 1, 174, 27, 96, 46, 172]
abbrev dktX5_person_6 : List UInt8 := dkwX5_person_6 ++ []
def dkwX5_person_5 : List UInt8 := [42, 180, 0, 33, 16, 7, 27, 96, 46, 172, 42, 180, 0, 33, 16, 13, 27, 96, 46, 172, 42, 180, 0, 33]
abbrev dktX5_person_5 : List UInt8 := dkwX5_person_5 ++ dktX5_person_6
def dkwX5_person_4 : List UInt8 := [170, 0, 0, 0, 68, 0, 0, 0, 0, 0, 0, 0, 4, 0, 0, 0, 33, 0, 0, 0, 43, 0, 0, 0, 53, 0, 0, 0, 63, 0, 0, 0, 65]
abbrev dktX5_person_4 : List UInt8 := dkwX5_person_4 ++ dktX5_person_5
def dkwX5_person_3 : List UInt8 := [167, 0, 4, 3, 96, 54, 4, 132, 5, 1, 167, 255, 216, 28]
abbrev dktX5_person_3 : List UInt8 := dkwX5_person_3 ++ dktX5_person_4
def dkwX5_person_2 : List UInt8 := [42, 21, 5, 27, 182, 1, 0, 54, 6, 29, 21, 6, 96, 62, 21, 4, 21, 6, 158, 0, 7, 4]
abbrev dktX5_person_2 : List UInt8 := dkwX5_person_2 ++ dktX5_person_3
def dkwX5_person_1 : List UInt8 := [182, 1, 6, 153, 0, 5, 3, 172, 3, 62, 3, 54, 4, 3, 54, 5, 21, 5, 17, 0, 144, 162, 0, 38]
abbrev dktX5_person_1 : List UInt8 := dkwX5_person_1 ++ dktX5_person_2
def dkwX5_person_0 : List UInt8 := [42, 42, 27, 182, 1, 3, 153, 0, 12, 28, 3, 8, 184, 0, 191, 154, 0, 7, 4, 167, 0, 4, 3]
abbrev dktX5_person_0 : List UInt8 := dkwX5_person_0 ++ dktX5_person_1
theorem dksX5_person_0 : cX5_person.data.toList.drop 0 = dktX5_person_0 := by decide +kernel
theorem dksX5_person_1 : cX5_person.data.toList.drop 23 = dktX5_person_1 := dk_seg dksX5_person_0 23 rfl rfl
theorem dksX5_person_2 : cX5_person.data.toList.drop 47 = dktX5_person_2 := dk_seg dksX5_person_1 24 rfl rfl
theorem dksX5_person_3 : cX5_person.data.toList.drop 69 = dktX5_person_3 := dk_seg dksX5_person_2 22 rfl rfl
theorem dksX5_person_4 : cX5_person.data.toList.drop 83 = dktX5_person_4 := dk_seg dksX5_person_3 14 rfl rfl
theorem dksX5_person_5 : cX5_person.data.toList.drop 116 = dktX5_person_5 := dk_seg dksX5_person_4 33 rfl rfl
theorem dksX5_person_6 : cX5_person.data.toList.drop 140 = dktX5_person_6 := dk_seg dksX5_person_5 24 rfl rfl
theorem dX5_person_0 : decode cX5_person 0 = .ok (.aload_n 0, 1) := dk_42 (dk_at dksX5_person_0 0 rfl rfl)
theorem dX5_person_1 : decode cX5_person 1 = .ok (.aload_n 0, 1) := dk_42 (dk_at dksX5_person_0 1 rfl rfl)
theorem dX5_person_2 : decode cX5_person 2 = .ok (.iload_n 1, 1) := dk_27 (dk_at dksX5_person_0 2 rfl rfl)
theorem dX5_person_3 : decode cX5_person 3 = .ok (.invokevirtual 259, 3) := dk_182 1 3 (dk_at dksX5_person_0 3 rfl rfl)
theorem dX5_person_6 : decode cX5_person 6 = .ok (.ifCond .eq 12, 3) := dk_153 0 12 (dk_at dksX5_person_0 6 rfl rfl)
theorem dX5_person_9 : decode cX5_person 9 = .ok (.iload_n 2, 1) := dk_28 (dk_at dksX5_person_0 9 rfl rfl)
theorem dX5_person_10 : decode cX5_person 10 = .ok (.iconst 0, 1) := dk_3 (dk_at dksX5_person_0 10 rfl rfl)
theorem dX5_person_11 : decode cX5_person 11 = .ok (.iconst 5, 1) := dk_8 (dk_at dksX5_person_0 11 rfl rfl)
theorem dX5_person_12 : decode cX5_person 12 = .ok (.invokestatic 191, 3) := dk_184 0 191 (dk_at dksX5_person_0 12 rfl rfl)
theorem dX5_person_15 : decode cX5_person 15 = .ok (.ifCond .ne 7, 3) := dk_154 0 7 (dk_at dksX5_person_0 15 rfl rfl)
theorem dX5_person_18 : decode cX5_person 18 = .ok (.iconst 1, 1) := dk_4 (dk_at dksX5_person_0 18 rfl rfl)
theorem dX5_person_19 : decode cX5_person 19 = .ok (.goto 4, 3) := dk_167 0 4 (dk_at dksX5_person_0 19 rfl rfl)
theorem dX5_person_22 : decode cX5_person 22 = .ok (.iconst 0, 1) := dk_3 (dk_at dksX5_person_0 22 rfl rfl)
theorem dX5_person_23 : decode cX5_person 23 = .ok (.invokevirtual 262, 3) := dk_182 1 6 (dk_at dksX5_person_1 0 rfl rfl)
theorem dX5_person_26 : decode cX5_person 26 = .ok (.ifCond .eq 5, 3) := dk_153 0 5 (dk_at dksX5_person_1 3 rfl rfl)
theorem dX5_person_29 : decode cX5_person 29 = .ok (.iconst 0, 1) := dk_3 (dk_at dksX5_person_1 6 rfl rfl)
theorem dX5_person_30 : decode cX5_person 30 = .ok (.ireturn, 1) := dk_172 (dk_at dksX5_person_1 7 rfl rfl)
theorem dX5_person_31 : decode cX5_person 31 = .ok (.iconst 0, 1) := dk_3 (dk_at dksX5_person_1 8 rfl rfl)
theorem dX5_person_32 : decode cX5_person 32 = .ok (.istore_n 3, 1) := dk_62 (dk_at dksX5_person_1 9 rfl rfl)
theorem dX5_person_33 : decode cX5_person 33 = .ok (.iconst 0, 1) := dk_3 (dk_at dksX5_person_1 10 rfl rfl)
theorem dX5_person_34 : decode cX5_person 34 = .ok (.istore 4, 2) := dk_54 4 (dk_at dksX5_person_1 11 rfl rfl)
theorem dX5_person_36 : decode cX5_person 36 = .ok (.iconst 0, 1) := dk_3 (dk_at dksX5_person_1 13 rfl rfl)
theorem dX5_person_37 : decode cX5_person 37 = .ok (.istore 5, 2) := dk_54 5 (dk_at dksX5_person_1 14 rfl rfl)
theorem dX5_person_39 : decode cX5_person 39 = .ok (.iload 5, 2) := dk_21 5 (dk_at dksX5_person_1 16 rfl rfl)
theorem dX5_person_41 : decode cX5_person 41 = .ok (.sipush 144, 3) := dk_17 0 144 (dk_at dksX5_person_1 18 rfl rfl)
theorem dX5_person_44 : decode cX5_person 44 = .ok (.if_icmp .ge 38, 3) := dk_162 0 38 (dk_at dksX5_person_1 21 rfl rfl)
theorem dX5_person_47 : decode cX5_person 47 = .ok (.aload_n 0, 1) := dk_42 (dk_at dksX5_person_2 0 rfl rfl)
theorem dX5_person_48 : decode cX5_person 48 = .ok (.iload 5, 2) := dk_21 5 (dk_at dksX5_person_2 1 rfl rfl)
theorem dX5_person_50 : decode cX5_person 50 = .ok (.iload_n 1, 1) := dk_27 (dk_at dksX5_person_2 3 rfl rfl)
theorem dX5_person_51 : decode cX5_person 51 = .ok (.invokevirtual 256, 3) := dk_182 1 0 (dk_at dksX5_person_2 4 rfl rfl)
theorem dX5_person_54 : decode cX5_person 54 = .ok (.istore 6, 2) := dk_54 6 (dk_at dksX5_person_2 7 rfl rfl)
theorem dX5_person_56 : decode cX5_person 56 = .ok (.iload_n 3, 1) := dk_29 (dk_at dksX5_person_2 9 rfl rfl)
theorem dX5_person_57 : decode cX5_person 57 = .ok (.iload 6, 2) := dk_21 6 (dk_at dksX5_person_2 10 rfl rfl)
theorem dX5_person_59 : decode cX5_person 59 = .ok (.iadd, 1) := dk_96 (dk_at dksX5_person_2 12 rfl rfl)
theorem dX5_person_60 : decode cX5_person 60 = .ok (.istore_n 3, 1) := dk_62 (dk_at dksX5_person_2 13 rfl rfl)
theorem dX5_person_61 : decode cX5_person 61 = .ok (.iload 4, 2) := dk_21 4 (dk_at dksX5_person_2 14 rfl rfl)
theorem dX5_person_63 : decode cX5_person 63 = .ok (.iload 6, 2) := dk_21 6 (dk_at dksX5_person_2 16 rfl rfl)
theorem dX5_person_65 : decode cX5_person 65 = .ok (.ifCond .le 7, 3) := dk_158 0 7 (dk_at dksX5_person_2 18 rfl rfl)
theorem dX5_person_68 : decode cX5_person 68 = .ok (.iconst 1, 1) := dk_4 (dk_at dksX5_person_2 21 rfl rfl)
theorem dX5_person_69 : decode cX5_person 69 = .ok (.goto 4, 3) := dk_167 0 4 (dk_at dksX5_person_3 0 rfl rfl)
theorem dX5_person_72 : decode cX5_person 72 = .ok (.iconst 0, 1) := dk_3 (dk_at dksX5_person_3 3 rfl rfl)
theorem dX5_person_73 : decode cX5_person 73 = .ok (.iadd, 1) := dk_96 (dk_at dksX5_person_3 4 rfl rfl)
theorem dX5_person_74 : decode cX5_person 74 = .ok (.istore 4, 2) := dk_54 4 (dk_at dksX5_person_3 5 rfl rfl)
theorem dX5_person_76 : decode cX5_person 76 = .ok (.iinc 5 1, 3) := dk_132 5 1 (dk_at dksX5_person_3 7 rfl rfl)
theorem dX5_person_79 : decode cX5_person 79 = .ok (.goto (-40), 3) := dk_167 255 216 (dk_at dksX5_person_3 10 rfl rfl)
theorem dX5_person_82 : decode cX5_person 82 = .ok (.iload_n 2, 1) := dk_28 (dk_at dksX5_person_3 13 rfl rfl)
theorem dX5_person_83 : decode cX5_person 83 = .ok (.tableswitch 68 0 4 #[33, 43, 53, 63, 65], 33) := by decide +kernel
theorem dX5_person_116 : decode cX5_person 116 = .ok (.aload_n 0, 1) := dk_42 (dk_at dksX5_person_5 0 rfl rfl)
theorem dX5_person_117 : decode cX5_person 117 = .ok (.getfield 33, 3) := dk_180 0 33 (dk_at dksX5_person_5 1 rfl rfl)
theorem dX5_person_120 : decode cX5_person 120 = .ok (.bipush 7, 2) := dk_16 7 (dk_at dksX5_person_5 4 rfl rfl)
theorem dX5_person_122 : decode cX5_person 122 = .ok (.iload_n 1, 1) := dk_27 (dk_at dksX5_person_5 6 rfl rfl)
theorem dX5_person_123 : decode cX5_person 123 = .ok (.iadd, 1) := dk_96 (dk_at dksX5_person_5 7 rfl rfl)
theorem dX5_person_124 : decode cX5_person 124 = .ok (.iaload, 1) := dk_46 (dk_at dksX5_person_5 8 rfl rfl)
theorem dX5_person_125 : decode cX5_person 125 = .ok (.ireturn, 1) := dk_172 (dk_at dksX5_person_5 9 rfl rfl)
theorem dX5_person_126 : decode cX5_person 126 = .ok (.aload_n 0, 1) := dk_42 (dk_at dksX5_person_5 10 rfl rfl)
theorem dX5_person_127 : decode cX5_person 127 = .ok (.getfield 33, 3) := dk_180 0 33 (dk_at dksX5_person_5 11 rfl rfl)
theorem dX5_person_130 : decode cX5_person 130 = .ok (.bipush 13, 2) := dk_16 13 (dk_at dksX5_person_5 14 rfl rfl)
theorem dX5_person_132 : decode cX5_person 132 = .ok (.iload_n 1, 1) := dk_27 (dk_at dksX5_person_5 16 rfl rfl)
theorem dX5_person_133 : decode cX5_person 133 = .ok (.iadd, 1) := dk_96 (dk_at dksX5_person_5 17 rfl rfl)
theorem dX5_person_134 : decode cX5_person 134 = .ok (.iaload, 1) := dk_46 (dk_at dksX5_person_5 18 rfl rfl)
theorem dX5_person_135 : decode cX5_person 135 = .ok (.ireturn, 1) := dk_172 (dk_at dksX5_person_5 19 rfl rfl)
theorem dX5_person_136 : decode cX5_person 136 = .ok (.aload_n 0, 1) := dk_42 (dk_at dksX5_person_5 20 rfl rfl)
theorem dX5_person_137 : decode cX5_person 137 = .ok (.getfield 33, 3) := dk_180 0 33 (dk_at dksX5_person_5 21 rfl rfl)
theorem dX5_person_140 : decode cX5_person 140 = .ok (.bipush 19, 2) := dk_16 19 (dk_at dksX5_person_6 0 rfl rfl)
theorem dX5_person_142 : decode cX5_person 142 = .ok (.iload_n 1, 1) := dk_27 (dk_at dksX5_person_6 2 rfl rfl)
theorem dX5_person_143 : decode cX5_person 143 = .ok (.iadd, 1) := dk_96 (dk_at dksX5_person_6 3 rfl rfl)
theorem dX5_person_144 : decode cX5_person 144 = .ok (.iaload, 1) := dk_46 (dk_at dksX5_person_6 4 rfl rfl)
theorem dX5_person_145 : decode cX5_person 145 = .ok (.ireturn, 1) := dk_172 (dk_at dksX5_person_6 5 rfl rfl)
theorem dX5_person_146 : decode cX5_person 146 = .ok (.iload_n 3, 1) := dk_29 (dk_at dksX5_person_6 6 rfl rfl)
theorem dX5_person_147 : decode cX5_person 147 = .ok (.ireturn, 1) := dk_172 (dk_at dksX5_person_6 7 rfl rfl)
theorem dX5_person_148 : decode cX5_person 148 = .ok (.iload 4, 2) := dk_21 4 (dk_at dksX5_person_6 8 rfl rfl)
theorem dX5_person_150 : decode cX5_person 150 = .ok (.ireturn, 1) := dk_172 (dk_at dksX5_person_6 10 rfl rfl)
theorem dX5_person_151 : decode cX5_person 151 = .ok (.aload_n 0, 1) := dk_42 (dk_at dksX5_person_6 11 rfl rfl)
theorem dX5_person_152 : decode cX5_person 152 = .ok (.getfield 33, 3) := dk_180 0 33 (dk_at dksX5_person_6 12 rfl rfl)
theorem dX5_person_155 : decode cX5_person 155 = .ok (.sipush 430, 3) := dk_17 1 174 (dk_at dksX5_person_6 15 rfl rfl)
theorem dX5_person_158 : decode cX5_person 158 = .ok (.iload_n 1, 1) := dk_27 (dk_at dksX5_person_6 18 rfl rfl)
theorem dX5_person_159 : decode cX5_person 159 = .ok (.iadd, 1) := dk_96 (dk_at dksX5_person_6 19 rfl rfl)
theorem dX5_person_160 : decode cX5_person 160 = .ok (.iaload, 1) := dk_46 (dk_at dksX5_person_6 20 rfl rfl)
theorem dX5_person_161 : decode cX5_person 161 = .ok (.ireturn, 1) := dk_172 (dk_at dksX5_person_6 21 rfl rfl)
abbrev cX5_isPerson : ByteArray := prog_19_method_30_code
def yX5_isPerson : MethodName := ⟨RX5, "isPerson", "(I)Z"⟩
def dkwX5_isPerson_0 : List UInt8 := [27, 3, 42, 180, 0, 33, 5, 46, 4, 100, 184, 0, 191, 172]
abbrev dktX5_isPerson_0 : List UInt8 := dkwX5_isPerson_0 ++ []
theorem dksX5_isPerson_0 : cX5_isPerson.data.toList.drop 0 = dktX5_isPerson_0 := by decide +kernel
theorem dX5_isPerson_0 : decode cX5_isPerson 0 = .ok (.iload_n 1, 1) := dk_27 (dk_at dksX5_isPerson_0 0 rfl rfl)
theorem dX5_isPerson_1 : decode cX5_isPerson 1 = .ok (.iconst 0, 1) := dk_3 (dk_at dksX5_isPerson_0 1 rfl rfl)
theorem dX5_isPerson_2 : decode cX5_isPerson 2 = .ok (.aload_n 0, 1) := dk_42 (dk_at dksX5_isPerson_0 2 rfl rfl)
theorem dX5_isPerson_3 : decode cX5_isPerson 3 = .ok (.getfield 33, 3) := dk_180 0 33 (dk_at dksX5_isPerson_0 3 rfl rfl)
theorem dX5_isPerson_6 : decode cX5_isPerson 6 = .ok (.iconst 2, 1) := dk_5 (dk_at dksX5_isPerson_0 6 rfl rfl)
theorem dX5_isPerson_7 : decode cX5_isPerson 7 = .ok (.iaload, 1) := dk_46 (dk_at dksX5_isPerson_0 7 rfl rfl)
theorem dX5_isPerson_8 : decode cX5_isPerson 8 = .ok (.iconst 1, 1) := dk_4 (dk_at dksX5_isPerson_0 8 rfl rfl)
theorem dX5_isPerson_9 : decode cX5_isPerson 9 = .ok (.isub, 1) := dk_100 (dk_at dksX5_isPerson_0 9 rfl rfl)
theorem dX5_isPerson_10 : decode cX5_isPerson 10 = .ok (.invokestatic 191, 3) := dk_184 0 191 (dk_at dksX5_isPerson_0 10 rfl rfl)
theorem dX5_isPerson_13 : decode cX5_isPerson 13 = .ok (.ireturn, 1) := dk_172 (dk_at dksX5_isPerson_0 13 rfl rfl)
abbrev cX5_throwsIf : ByteArray := prog_19_method_2_code
def yX5_throwsIf : MethodName := ⟨RX5, "throwsIf", "(Z)Z"⟩
def dkwX5_throwsIf_0 : List UInt8 := [42, 27, 153, 0, 7, 4, 167, 0, 4, 3, 181, 0, 1, 27, 172]
abbrev dktX5_throwsIf_0 : List UInt8 := dkwX5_throwsIf_0 ++ []
theorem dksX5_throwsIf_0 : cX5_throwsIf.data.toList.drop 0 = dktX5_throwsIf_0 := by decide +kernel
theorem dX5_throwsIf_0 : decode cX5_throwsIf 0 = .ok (.aload_n 0, 1) := dk_42 (dk_at dksX5_throwsIf_0 0 rfl rfl)
theorem dX5_throwsIf_1 : decode cX5_throwsIf 1 = .ok (.iload_n 1, 1) := dk_27 (dk_at dksX5_throwsIf_0 1 rfl rfl)
theorem dX5_throwsIf_2 : decode cX5_throwsIf 2 = .ok (.ifCond .eq 7, 3) := dk_153 0 7 (dk_at dksX5_throwsIf_0 2 rfl rfl)
theorem dX5_throwsIf_5 : decode cX5_throwsIf 5 = .ok (.iconst 1, 1) := dk_4 (dk_at dksX5_throwsIf_0 5 rfl rfl)
theorem dX5_throwsIf_6 : decode cX5_throwsIf 6 = .ok (.goto 4, 3) := dk_167 0 4 (dk_at dksX5_throwsIf_0 6 rfl rfl)
theorem dX5_throwsIf_9 : decode cX5_throwsIf 9 = .ok (.iconst 0, 1) := dk_3 (dk_at dksX5_throwsIf_0 9 rfl rfl)
theorem dX5_throwsIf_10 : decode cX5_throwsIf 10 = .ok (.putfield 1, 3) := dk_181 0 1 (dk_at dksX5_throwsIf_0 10 rfl rfl)
theorem dX5_throwsIf_13 : decode cX5_throwsIf 13 = .ok (.iload_n 1, 1) := dk_27 (dk_at dksX5_throwsIf_0 13 rfl rfl)
theorem dX5_throwsIf_14 : decode cX5_throwsIf 14 = .ok (.ireturn, 1) := dk_172 (dk_at dksX5_throwsIf_0 14 rfl rfl)
abbrev cX5_liesOf : ByteArray := prog_19_method_34_code
def yX5_liesOf : MethodName := ⟨RX5, "liesOf", "(II)I"⟩
def dkwX5_liesOf_1 : List UInt8 := [132, 4, 1, 167, 255, 235, 29, 172]
abbrev dktX5_liesOf_1 : List UInt8 := dkwX5_liesOf_1 ++ []
def dkwX5_liesOf_0 : List UInt8 := [3, 62, 3, 54, 4, 21, 4, 16, 9, 162, 0, 20, 29, 42, 27, 28, 21, 4, 182, 0, 252, 96, 62]
abbrev dktX5_liesOf_0 : List UInt8 := dkwX5_liesOf_0 ++ dktX5_liesOf_1
theorem dksX5_liesOf_0 : cX5_liesOf.data.toList.drop 0 = dktX5_liesOf_0 := by decide +kernel
theorem dksX5_liesOf_1 : cX5_liesOf.data.toList.drop 23 = dktX5_liesOf_1 := dk_seg dksX5_liesOf_0 23 rfl rfl
theorem dX5_liesOf_0 : decode cX5_liesOf 0 = .ok (.iconst 0, 1) := dk_3 (dk_at dksX5_liesOf_0 0 rfl rfl)
theorem dX5_liesOf_1 : decode cX5_liesOf 1 = .ok (.istore_n 3, 1) := dk_62 (dk_at dksX5_liesOf_0 1 rfl rfl)
theorem dX5_liesOf_2 : decode cX5_liesOf 2 = .ok (.iconst 0, 1) := dk_3 (dk_at dksX5_liesOf_0 2 rfl rfl)
theorem dX5_liesOf_3 : decode cX5_liesOf 3 = .ok (.istore 4, 2) := dk_54 4 (dk_at dksX5_liesOf_0 3 rfl rfl)
theorem dX5_liesOf_5 : decode cX5_liesOf 5 = .ok (.iload 4, 2) := dk_21 4 (dk_at dksX5_liesOf_0 5 rfl rfl)
theorem dX5_liesOf_7 : decode cX5_liesOf 7 = .ok (.bipush 9, 2) := dk_16 9 (dk_at dksX5_liesOf_0 7 rfl rfl)
theorem dX5_liesOf_9 : decode cX5_liesOf 9 = .ok (.if_icmp .ge 20, 3) := dk_162 0 20 (dk_at dksX5_liesOf_0 9 rfl rfl)
theorem dX5_liesOf_12 : decode cX5_liesOf 12 = .ok (.iload_n 3, 1) := dk_29 (dk_at dksX5_liesOf_0 12 rfl rfl)
theorem dX5_liesOf_13 : decode cX5_liesOf 13 = .ok (.aload_n 0, 1) := dk_42 (dk_at dksX5_liesOf_0 13 rfl rfl)
theorem dX5_liesOf_14 : decode cX5_liesOf 14 = .ok (.iload_n 1, 1) := dk_27 (dk_at dksX5_liesOf_0 14 rfl rfl)
theorem dX5_liesOf_15 : decode cX5_liesOf 15 = .ok (.iload_n 2, 1) := dk_28 (dk_at dksX5_liesOf_0 15 rfl rfl)
theorem dX5_liesOf_16 : decode cX5_liesOf 16 = .ok (.iload 4, 2) := dk_21 4 (dk_at dksX5_liesOf_0 16 rfl rfl)
theorem dX5_liesOf_18 : decode cX5_liesOf 18 = .ok (.invokevirtual 252, 3) := dk_182 0 252 (dk_at dksX5_liesOf_0 18 rfl rfl)
theorem dX5_liesOf_21 : decode cX5_liesOf 21 = .ok (.iadd, 1) := dk_96 (dk_at dksX5_liesOf_0 21 rfl rfl)
theorem dX5_liesOf_22 : decode cX5_liesOf 22 = .ok (.istore_n 3, 1) := dk_62 (dk_at dksX5_liesOf_0 22 rfl rfl)
theorem dX5_liesOf_23 : decode cX5_liesOf 23 = .ok (.iinc 4 1, 3) := dk_132 4 1 (dk_at dksX5_liesOf_1 0 rfl rfl)
theorem dX5_liesOf_26 : decode cX5_liesOf 26 = .ok (.goto (-21), 3) := dk_167 255 235 (dk_at dksX5_liesOf_1 3 rfl rfl)
theorem dX5_liesOf_29 : decode cX5_liesOf 29 = .ok (.iload_n 3, 1) := dk_29 (dk_at dksX5_liesOf_1 6 rfl rfl)
theorem dX5_liesOf_30 : decode cX5_liesOf 30 = .ok (.ireturn, 1) := dk_172 (dk_at dksX5_liesOf_1 7 rfl rfl)
abbrev cX5_lies : ByteArray := prog_19_method_33_code
def yX5_lies : MethodName := ⟨RX5, "lies", "(III)I"⟩
def dkwX5_lies_0 : List UInt8 := [42, 180, 0, 33, 17, 9, 4, 16, 6, 27, 104, 28, 96, 16, 9, 104, 96, 29, 96, 46, 172]
abbrev dktX5_lies_0 : List UInt8 := dkwX5_lies_0 ++ []
theorem dksX5_lies_0 : cX5_lies.data.toList.drop 0 = dktX5_lies_0 := by decide +kernel
theorem dX5_lies_0 : decode cX5_lies 0 = .ok (.aload_n 0, 1) := dk_42 (dk_at dksX5_lies_0 0 rfl rfl)
theorem dX5_lies_1 : decode cX5_lies 1 = .ok (.getfield 33, 3) := dk_180 0 33 (dk_at dksX5_lies_0 1 rfl rfl)
theorem dX5_lies_4 : decode cX5_lies 4 = .ok (.sipush 2308, 3) := dk_17 9 4 (dk_at dksX5_lies_0 4 rfl rfl)
theorem dX5_lies_7 : decode cX5_lies 7 = .ok (.bipush 6, 2) := dk_16 6 (dk_at dksX5_lies_0 7 rfl rfl)
theorem dX5_lies_9 : decode cX5_lies 9 = .ok (.iload_n 1, 1) := dk_27 (dk_at dksX5_lies_0 9 rfl rfl)
theorem dX5_lies_10 : decode cX5_lies 10 = .ok (.imul, 1) := dk_104 (dk_at dksX5_lies_0 10 rfl rfl)
theorem dX5_lies_11 : decode cX5_lies 11 = .ok (.iload_n 2, 1) := dk_28 (dk_at dksX5_lies_0 11 rfl rfl)
theorem dX5_lies_12 : decode cX5_lies 12 = .ok (.iadd, 1) := dk_96 (dk_at dksX5_lies_0 12 rfl rfl)
theorem dX5_lies_13 : decode cX5_lies 13 = .ok (.bipush 9, 2) := dk_16 9 (dk_at dksX5_lies_0 13 rfl rfl)
theorem dX5_lies_15 : decode cX5_lies 15 = .ok (.imul, 1) := dk_104 (dk_at dksX5_lies_0 15 rfl rfl)
theorem dX5_lies_16 : decode cX5_lies 16 = .ok (.iadd, 1) := dk_96 (dk_at dksX5_lies_0 16 rfl rfl)
theorem dX5_lies_17 : decode cX5_lies 17 = .ok (.iload_n 3, 1) := dk_29 (dk_at dksX5_lies_0 17 rfl rfl)
theorem dX5_lies_18 : decode cX5_lies 18 = .ok (.iadd, 1) := dk_96 (dk_at dksX5_lies_0 18 rfl rfl)
theorem dX5_lies_19 : decode cX5_lies 19 = .ok (.iaload, 1) := dk_46 (dk_at dksX5_lies_0 19 rfl rfl)
theorem dX5_lies_20 : decode cX5_lies 20 = .ok (.ireturn, 1) := dk_172 (dk_at dksX5_lies_0 20 rfl rfl)
abbrev cX5_tuft : ByteArray := prog_19_method_40_code
def yX5_tuft : MethodName := ⟨RX5, "tuft", "(II)I"⟩
def dkwX5_tuft_8 : List UInt8 := [172, 42, 27, 182, 1, 20, 153, 0, 7, 4, 167, 0, 4, 3, 172]
abbrev dktX5_tuft_8 : List UInt8 := dkwX5_tuft_8 ++ []
def dkwX5_tuft_7 : List UInt8 := [46, 42, 180, 0, 33, 29, 6, 96, 46, 100, 167, 0, 4, 2, 172, 42, 180, 0, 33, 16, 25, 27, 96, 46]
abbrev dktX5_tuft_7 : List UInt8 := dkwX5_tuft_7 ++ dktX5_tuft_8
def dkwX5_tuft_6 : List UInt8 := [180, 0, 33, 29, 5, 96, 46, 167, 0, 4, 2, 172, 21, 4, 153, 0, 23, 42, 180, 0, 33, 17, 1, 173]
abbrev dktX5_tuft_6 : List UInt8 := dkwX5_tuft_6 ++ dktX5_tuft_7
def dkwX5_tuft_5 : List UInt8 := [153, 0, 14, 42, 180, 0, 33, 29, 4, 96, 46, 167, 0, 4, 2, 172, 21, 4, 153, 0, 14, 42]
abbrev dktX5_tuft_5 : List UInt8 := dkwX5_tuft_5 ++ dktX5_tuft_6
def dkwX5_tuft_4 : List UInt8 := [42, 27, 182, 1, 13, 172, 42, 27, 182, 1, 17, 172, 42, 180, 0, 33, 29, 46, 4, 100, 172, 21, 4]
abbrev dktX5_tuft_4 : List UInt8 := dkwX5_tuft_4 ++ dktX5_tuft_5
def dkwX5_tuft_3 : List UInt8 := [170, 0, 0, 0, 0, 0, 137, 0, 0, 0, 0, 0, 0, 0, 6, 0, 0, 0, 43, 0, 0, 0, 49, 0, 0, 0, 55, 0, 0, 0, 64, 0, 0, 0, 82, 0, 0, 0, 100, 0, 0, 0, 127]
abbrev dktX5_tuft_3 : List UInt8 := dkwX5_tuft_3 ++ dktX5_tuft_4
def dkwX5_tuft_2 : List UInt8 := [158, 0, 7, 4, 167, 0, 4, 3, 54, 4, 28]
abbrev dktX5_tuft_2 : List UInt8 := dkwX5_tuft_2 ++ dktX5_tuft_3
def dkwX5_tuft_1 : List UInt8 := [182, 1, 6, 153, 0, 5, 3, 172, 17, 1, 180, 7, 27, 104, 96, 62, 42, 180, 0, 33, 29, 46]
abbrev dktX5_tuft_1 : List UInt8 := dkwX5_tuft_1 ++ dktX5_tuft_2
def dkwX5_tuft_0 : List UInt8 := [42, 42, 27, 182, 1, 10, 153, 0, 13, 28, 3, 16, 7, 184, 0, 191, 154, 0, 7, 4, 167, 0, 4, 3]
abbrev dktX5_tuft_0 : List UInt8 := dkwX5_tuft_0 ++ dktX5_tuft_1
theorem dksX5_tuft_0 : cX5_tuft.data.toList.drop 0 = dktX5_tuft_0 := by decide +kernel
theorem dksX5_tuft_1 : cX5_tuft.data.toList.drop 24 = dktX5_tuft_1 := dk_seg dksX5_tuft_0 24 rfl rfl
theorem dksX5_tuft_2 : cX5_tuft.data.toList.drop 46 = dktX5_tuft_2 := dk_seg dksX5_tuft_1 22 rfl rfl
theorem dksX5_tuft_3 : cX5_tuft.data.toList.drop 57 = dktX5_tuft_3 := dk_seg dksX5_tuft_2 11 rfl rfl
theorem dksX5_tuft_4 : cX5_tuft.data.toList.drop 100 = dktX5_tuft_4 := dk_seg dksX5_tuft_3 43 rfl rfl
theorem dksX5_tuft_5 : cX5_tuft.data.toList.drop 123 = dktX5_tuft_5 := dk_seg dksX5_tuft_4 23 rfl rfl
theorem dksX5_tuft_6 : cX5_tuft.data.toList.drop 145 = dktX5_tuft_6 := dk_seg dksX5_tuft_5 22 rfl rfl
theorem dksX5_tuft_7 : cX5_tuft.data.toList.drop 169 = dktX5_tuft_7 := dk_seg dksX5_tuft_6 24 rfl rfl
theorem dksX5_tuft_8 : cX5_tuft.data.toList.drop 193 = dktX5_tuft_8 := dk_seg dksX5_tuft_7 24 rfl rfl
theorem dX5_tuft_0 : decode cX5_tuft 0 = .ok (.aload_n 0, 1) := dk_42 (dk_at dksX5_tuft_0 0 rfl rfl)
theorem dX5_tuft_1 : decode cX5_tuft 1 = .ok (.aload_n 0, 1) := dk_42 (dk_at dksX5_tuft_0 1 rfl rfl)
theorem dX5_tuft_2 : decode cX5_tuft 2 = .ok (.iload_n 1, 1) := dk_27 (dk_at dksX5_tuft_0 2 rfl rfl)
theorem dX5_tuft_3 : decode cX5_tuft 3 = .ok (.invokevirtual 266, 3) := dk_182 1 10 (dk_at dksX5_tuft_0 3 rfl rfl)
theorem dX5_tuft_6 : decode cX5_tuft 6 = .ok (.ifCond .eq 13, 3) := dk_153 0 13 (dk_at dksX5_tuft_0 6 rfl rfl)
theorem dX5_tuft_9 : decode cX5_tuft 9 = .ok (.iload_n 2, 1) := dk_28 (dk_at dksX5_tuft_0 9 rfl rfl)
theorem dX5_tuft_10 : decode cX5_tuft 10 = .ok (.iconst 0, 1) := dk_3 (dk_at dksX5_tuft_0 10 rfl rfl)
theorem dX5_tuft_11 : decode cX5_tuft 11 = .ok (.bipush 7, 2) := dk_16 7 (dk_at dksX5_tuft_0 11 rfl rfl)
theorem dX5_tuft_13 : decode cX5_tuft 13 = .ok (.invokestatic 191, 3) := dk_184 0 191 (dk_at dksX5_tuft_0 13 rfl rfl)
theorem dX5_tuft_16 : decode cX5_tuft 16 = .ok (.ifCond .ne 7, 3) := dk_154 0 7 (dk_at dksX5_tuft_0 16 rfl rfl)
theorem dX5_tuft_19 : decode cX5_tuft 19 = .ok (.iconst 1, 1) := dk_4 (dk_at dksX5_tuft_0 19 rfl rfl)
theorem dX5_tuft_20 : decode cX5_tuft 20 = .ok (.goto 4, 3) := dk_167 0 4 (dk_at dksX5_tuft_0 20 rfl rfl)
theorem dX5_tuft_23 : decode cX5_tuft 23 = .ok (.iconst 0, 1) := dk_3 (dk_at dksX5_tuft_0 23 rfl rfl)
theorem dX5_tuft_24 : decode cX5_tuft 24 = .ok (.invokevirtual 262, 3) := dk_182 1 6 (dk_at dksX5_tuft_1 0 rfl rfl)
theorem dX5_tuft_27 : decode cX5_tuft 27 = .ok (.ifCond .eq 5, 3) := dk_153 0 5 (dk_at dksX5_tuft_1 3 rfl rfl)
theorem dX5_tuft_30 : decode cX5_tuft 30 = .ok (.iconst 0, 1) := dk_3 (dk_at dksX5_tuft_1 6 rfl rfl)
theorem dX5_tuft_31 : decode cX5_tuft 31 = .ok (.ireturn, 1) := dk_172 (dk_at dksX5_tuft_1 7 rfl rfl)
theorem dX5_tuft_32 : decode cX5_tuft 32 = .ok (.sipush 436, 3) := dk_17 1 180 (dk_at dksX5_tuft_1 8 rfl rfl)
theorem dX5_tuft_35 : decode cX5_tuft 35 = .ok (.iconst 4, 1) := dk_7 (dk_at dksX5_tuft_1 11 rfl rfl)
theorem dX5_tuft_36 : decode cX5_tuft 36 = .ok (.iload_n 1, 1) := dk_27 (dk_at dksX5_tuft_1 12 rfl rfl)
theorem dX5_tuft_37 : decode cX5_tuft 37 = .ok (.imul, 1) := dk_104 (dk_at dksX5_tuft_1 13 rfl rfl)
theorem dX5_tuft_38 : decode cX5_tuft 38 = .ok (.iadd, 1) := dk_96 (dk_at dksX5_tuft_1 14 rfl rfl)
theorem dX5_tuft_39 : decode cX5_tuft 39 = .ok (.istore_n 3, 1) := dk_62 (dk_at dksX5_tuft_1 15 rfl rfl)
theorem dX5_tuft_40 : decode cX5_tuft 40 = .ok (.aload_n 0, 1) := dk_42 (dk_at dksX5_tuft_1 16 rfl rfl)
theorem dX5_tuft_41 : decode cX5_tuft 41 = .ok (.getfield 33, 3) := dk_180 0 33 (dk_at dksX5_tuft_1 17 rfl rfl)
theorem dX5_tuft_44 : decode cX5_tuft 44 = .ok (.iload_n 3, 1) := dk_29 (dk_at dksX5_tuft_1 20 rfl rfl)
theorem dX5_tuft_45 : decode cX5_tuft 45 = .ok (.iaload, 1) := dk_46 (dk_at dksX5_tuft_1 21 rfl rfl)
theorem dX5_tuft_46 : decode cX5_tuft 46 = .ok (.ifCond .le 7, 3) := dk_158 0 7 (dk_at dksX5_tuft_2 0 rfl rfl)
theorem dX5_tuft_49 : decode cX5_tuft 49 = .ok (.iconst 1, 1) := dk_4 (dk_at dksX5_tuft_2 3 rfl rfl)
theorem dX5_tuft_50 : decode cX5_tuft 50 = .ok (.goto 4, 3) := dk_167 0 4 (dk_at dksX5_tuft_2 4 rfl rfl)
theorem dX5_tuft_53 : decode cX5_tuft 53 = .ok (.iconst 0, 1) := dk_3 (dk_at dksX5_tuft_2 7 rfl rfl)
theorem dX5_tuft_54 : decode cX5_tuft 54 = .ok (.istore 4, 2) := dk_54 4 (dk_at dksX5_tuft_2 8 rfl rfl)
theorem dX5_tuft_56 : decode cX5_tuft 56 = .ok (.iload_n 2, 1) := dk_28 (dk_at dksX5_tuft_2 10 rfl rfl)
theorem dX5_tuft_57 : decode cX5_tuft 57 = .ok (.tableswitch 137 0 6 #[43, 49, 55, 64, 82, 100, 127], 43) := by decide +kernel
theorem dX5_tuft_100 : decode cX5_tuft 100 = .ok (.aload_n 0, 1) := dk_42 (dk_at dksX5_tuft_4 0 rfl rfl)
theorem dX5_tuft_101 : decode cX5_tuft 101 = .ok (.iload_n 1, 1) := dk_27 (dk_at dksX5_tuft_4 1 rfl rfl)
theorem dX5_tuft_102 : decode cX5_tuft 102 = .ok (.invokevirtual 269, 3) := dk_182 1 13 (dk_at dksX5_tuft_4 2 rfl rfl)
theorem dX5_tuft_105 : decode cX5_tuft 105 = .ok (.ireturn, 1) := dk_172 (dk_at dksX5_tuft_4 5 rfl rfl)
theorem dX5_tuft_106 : decode cX5_tuft 106 = .ok (.aload_n 0, 1) := dk_42 (dk_at dksX5_tuft_4 6 rfl rfl)
theorem dX5_tuft_107 : decode cX5_tuft 107 = .ok (.iload_n 1, 1) := dk_27 (dk_at dksX5_tuft_4 7 rfl rfl)
theorem dX5_tuft_108 : decode cX5_tuft 108 = .ok (.invokevirtual 273, 3) := dk_182 1 17 (dk_at dksX5_tuft_4 8 rfl rfl)
theorem dX5_tuft_111 : decode cX5_tuft 111 = .ok (.ireturn, 1) := dk_172 (dk_at dksX5_tuft_4 11 rfl rfl)
theorem dX5_tuft_112 : decode cX5_tuft 112 = .ok (.aload_n 0, 1) := dk_42 (dk_at dksX5_tuft_4 12 rfl rfl)
theorem dX5_tuft_113 : decode cX5_tuft 113 = .ok (.getfield 33, 3) := dk_180 0 33 (dk_at dksX5_tuft_4 13 rfl rfl)
theorem dX5_tuft_116 : decode cX5_tuft 116 = .ok (.iload_n 3, 1) := dk_29 (dk_at dksX5_tuft_4 16 rfl rfl)
theorem dX5_tuft_117 : decode cX5_tuft 117 = .ok (.iaload, 1) := dk_46 (dk_at dksX5_tuft_4 17 rfl rfl)
theorem dX5_tuft_118 : decode cX5_tuft 118 = .ok (.iconst 1, 1) := dk_4 (dk_at dksX5_tuft_4 18 rfl rfl)
theorem dX5_tuft_119 : decode cX5_tuft 119 = .ok (.isub, 1) := dk_100 (dk_at dksX5_tuft_4 19 rfl rfl)
theorem dX5_tuft_120 : decode cX5_tuft 120 = .ok (.ireturn, 1) := dk_172 (dk_at dksX5_tuft_4 20 rfl rfl)
theorem dX5_tuft_121 : decode cX5_tuft 121 = .ok (.iload 4, 2) := dk_21 4 (dk_at dksX5_tuft_4 21 rfl rfl)
theorem dX5_tuft_123 : decode cX5_tuft 123 = .ok (.ifCond .eq 14, 3) := dk_153 0 14 (dk_at dksX5_tuft_5 0 rfl rfl)
theorem dX5_tuft_126 : decode cX5_tuft 126 = .ok (.aload_n 0, 1) := dk_42 (dk_at dksX5_tuft_5 3 rfl rfl)
theorem dX5_tuft_127 : decode cX5_tuft 127 = .ok (.getfield 33, 3) := dk_180 0 33 (dk_at dksX5_tuft_5 4 rfl rfl)
theorem dX5_tuft_130 : decode cX5_tuft 130 = .ok (.iload_n 3, 1) := dk_29 (dk_at dksX5_tuft_5 7 rfl rfl)
theorem dX5_tuft_131 : decode cX5_tuft 131 = .ok (.iconst 1, 1) := dk_4 (dk_at dksX5_tuft_5 8 rfl rfl)
theorem dX5_tuft_132 : decode cX5_tuft 132 = .ok (.iadd, 1) := dk_96 (dk_at dksX5_tuft_5 9 rfl rfl)
theorem dX5_tuft_133 : decode cX5_tuft 133 = .ok (.iaload, 1) := dk_46 (dk_at dksX5_tuft_5 10 rfl rfl)
theorem dX5_tuft_134 : decode cX5_tuft 134 = .ok (.goto 4, 3) := dk_167 0 4 (dk_at dksX5_tuft_5 11 rfl rfl)
theorem dX5_tuft_137 : decode cX5_tuft 137 = .ok (.iconst (-1), 1) := dk_2 (dk_at dksX5_tuft_5 14 rfl rfl)
theorem dX5_tuft_138 : decode cX5_tuft 138 = .ok (.ireturn, 1) := dk_172 (dk_at dksX5_tuft_5 15 rfl rfl)
theorem dX5_tuft_139 : decode cX5_tuft 139 = .ok (.iload 4, 2) := dk_21 4 (dk_at dksX5_tuft_5 16 rfl rfl)
theorem dX5_tuft_141 : decode cX5_tuft 141 = .ok (.ifCond .eq 14, 3) := dk_153 0 14 (dk_at dksX5_tuft_5 18 rfl rfl)
theorem dX5_tuft_144 : decode cX5_tuft 144 = .ok (.aload_n 0, 1) := dk_42 (dk_at dksX5_tuft_5 21 rfl rfl)
theorem dX5_tuft_145 : decode cX5_tuft 145 = .ok (.getfield 33, 3) := dk_180 0 33 (dk_at dksX5_tuft_6 0 rfl rfl)
theorem dX5_tuft_148 : decode cX5_tuft 148 = .ok (.iload_n 3, 1) := dk_29 (dk_at dksX5_tuft_6 3 rfl rfl)
theorem dX5_tuft_149 : decode cX5_tuft 149 = .ok (.iconst 2, 1) := dk_5 (dk_at dksX5_tuft_6 4 rfl rfl)
theorem dX5_tuft_150 : decode cX5_tuft 150 = .ok (.iadd, 1) := dk_96 (dk_at dksX5_tuft_6 5 rfl rfl)
theorem dX5_tuft_151 : decode cX5_tuft 151 = .ok (.iaload, 1) := dk_46 (dk_at dksX5_tuft_6 6 rfl rfl)
theorem dX5_tuft_152 : decode cX5_tuft 152 = .ok (.goto 4, 3) := dk_167 0 4 (dk_at dksX5_tuft_6 7 rfl rfl)
theorem dX5_tuft_155 : decode cX5_tuft 155 = .ok (.iconst (-1), 1) := dk_2 (dk_at dksX5_tuft_6 10 rfl rfl)
theorem dX5_tuft_156 : decode cX5_tuft 156 = .ok (.ireturn, 1) := dk_172 (dk_at dksX5_tuft_6 11 rfl rfl)
theorem dX5_tuft_157 : decode cX5_tuft 157 = .ok (.iload 4, 2) := dk_21 4 (dk_at dksX5_tuft_6 12 rfl rfl)
theorem dX5_tuft_159 : decode cX5_tuft 159 = .ok (.ifCond .eq 23, 3) := dk_153 0 23 (dk_at dksX5_tuft_6 14 rfl rfl)
theorem dX5_tuft_162 : decode cX5_tuft 162 = .ok (.aload_n 0, 1) := dk_42 (dk_at dksX5_tuft_6 17 rfl rfl)
theorem dX5_tuft_163 : decode cX5_tuft 163 = .ok (.getfield 33, 3) := dk_180 0 33 (dk_at dksX5_tuft_6 18 rfl rfl)
theorem dX5_tuft_166 : decode cX5_tuft 166 = .ok (.sipush 429, 3) := dk_17 1 173 (dk_at dksX5_tuft_6 21 rfl rfl)
theorem dX5_tuft_169 : decode cX5_tuft 169 = .ok (.iaload, 1) := dk_46 (dk_at dksX5_tuft_7 0 rfl rfl)
theorem dX5_tuft_170 : decode cX5_tuft 170 = .ok (.aload_n 0, 1) := dk_42 (dk_at dksX5_tuft_7 1 rfl rfl)
theorem dX5_tuft_171 : decode cX5_tuft 171 = .ok (.getfield 33, 3) := dk_180 0 33 (dk_at dksX5_tuft_7 2 rfl rfl)
theorem dX5_tuft_174 : decode cX5_tuft 174 = .ok (.iload_n 3, 1) := dk_29 (dk_at dksX5_tuft_7 5 rfl rfl)
theorem dX5_tuft_175 : decode cX5_tuft 175 = .ok (.iconst 3, 1) := dk_6 (dk_at dksX5_tuft_7 6 rfl rfl)
theorem dX5_tuft_176 : decode cX5_tuft 176 = .ok (.iadd, 1) := dk_96 (dk_at dksX5_tuft_7 7 rfl rfl)
theorem dX5_tuft_177 : decode cX5_tuft 177 = .ok (.iaload, 1) := dk_46 (dk_at dksX5_tuft_7 8 rfl rfl)
theorem dX5_tuft_178 : decode cX5_tuft 178 = .ok (.isub, 1) := dk_100 (dk_at dksX5_tuft_7 9 rfl rfl)
theorem dX5_tuft_179 : decode cX5_tuft 179 = .ok (.goto 4, 3) := dk_167 0 4 (dk_at dksX5_tuft_7 10 rfl rfl)
theorem dX5_tuft_182 : decode cX5_tuft 182 = .ok (.iconst (-1), 1) := dk_2 (dk_at dksX5_tuft_7 13 rfl rfl)
theorem dX5_tuft_183 : decode cX5_tuft 183 = .ok (.ireturn, 1) := dk_172 (dk_at dksX5_tuft_7 14 rfl rfl)
theorem dX5_tuft_184 : decode cX5_tuft 184 = .ok (.aload_n 0, 1) := dk_42 (dk_at dksX5_tuft_7 15 rfl rfl)
theorem dX5_tuft_185 : decode cX5_tuft 185 = .ok (.getfield 33, 3) := dk_180 0 33 (dk_at dksX5_tuft_7 16 rfl rfl)
theorem dX5_tuft_188 : decode cX5_tuft 188 = .ok (.bipush 25, 2) := dk_16 25 (dk_at dksX5_tuft_7 19 rfl rfl)
theorem dX5_tuft_190 : decode cX5_tuft 190 = .ok (.iload_n 1, 1) := dk_27 (dk_at dksX5_tuft_7 21 rfl rfl)
theorem dX5_tuft_191 : decode cX5_tuft 191 = .ok (.iadd, 1) := dk_96 (dk_at dksX5_tuft_7 22 rfl rfl)
theorem dX5_tuft_192 : decode cX5_tuft 192 = .ok (.iaload, 1) := dk_46 (dk_at dksX5_tuft_7 23 rfl rfl)
theorem dX5_tuft_193 : decode cX5_tuft 193 = .ok (.ireturn, 1) := dk_172 (dk_at dksX5_tuft_8 0 rfl rfl)
theorem dX5_tuft_194 : decode cX5_tuft 194 = .ok (.aload_n 0, 1) := dk_42 (dk_at dksX5_tuft_8 1 rfl rfl)
theorem dX5_tuft_195 : decode cX5_tuft 195 = .ok (.iload_n 1, 1) := dk_27 (dk_at dksX5_tuft_8 2 rfl rfl)
theorem dX5_tuft_196 : decode cX5_tuft 196 = .ok (.invokevirtual 276, 3) := dk_182 1 20 (dk_at dksX5_tuft_8 3 rfl rfl)
theorem dX5_tuft_199 : decode cX5_tuft 199 = .ok (.ifCond .eq 7, 3) := dk_153 0 7 (dk_at dksX5_tuft_8 6 rfl rfl)
theorem dX5_tuft_202 : decode cX5_tuft 202 = .ok (.iconst 1, 1) := dk_4 (dk_at dksX5_tuft_8 9 rfl rfl)
theorem dX5_tuft_203 : decode cX5_tuft 203 = .ok (.goto 4, 3) := dk_167 0 4 (dk_at dksX5_tuft_8 10 rfl rfl)
theorem dX5_tuft_206 : decode cX5_tuft 206 = .ok (.iconst 0, 1) := dk_3 (dk_at dksX5_tuft_8 13 rfl rfl)
theorem dX5_tuft_207 : decode cX5_tuft 207 = .ok (.ireturn, 1) := dk_172 (dk_at dksX5_tuft_8 14 rfl rfl)
abbrev cX5_isTuft : ByteArray := prog_19_method_32_code
def yX5_isTuft : MethodName := ⟨RX5, "isTuft", "(I)Z"⟩
def dkwX5_isTuft_1 : List UInt8 := [180, 0, 33, 4, 46, 162, 0, 7, 4, 167, 0, 4, 3, 172]
abbrev dktX5_isTuft_1 : List UInt8 := dkwX5_isTuft_1 ++ []
def dkwX5_isTuft_0 : List UInt8 := [27, 155, 0, 33, 27, 16, 12, 112, 42, 180, 0, 33, 3, 46, 162, 0, 20, 27, 16, 12, 108, 42]
abbrev dktX5_isTuft_0 : List UInt8 := dkwX5_isTuft_0 ++ dktX5_isTuft_1
theorem dksX5_isTuft_0 : cX5_isTuft.data.toList.drop 0 = dktX5_isTuft_0 := by decide +kernel
theorem dksX5_isTuft_1 : cX5_isTuft.data.toList.drop 22 = dktX5_isTuft_1 := dk_seg dksX5_isTuft_0 22 rfl rfl
theorem dX5_isTuft_0 : decode cX5_isTuft 0 = .ok (.iload_n 1, 1) := dk_27 (dk_at dksX5_isTuft_0 0 rfl rfl)
theorem dX5_isTuft_1 : decode cX5_isTuft 1 = .ok (.ifCond .lt 33, 3) := dk_155 0 33 (dk_at dksX5_isTuft_0 1 rfl rfl)
theorem dX5_isTuft_4 : decode cX5_isTuft 4 = .ok (.iload_n 1, 1) := dk_27 (dk_at dksX5_isTuft_0 4 rfl rfl)
theorem dX5_isTuft_5 : decode cX5_isTuft 5 = .ok (.bipush 12, 2) := dk_16 12 (dk_at dksX5_isTuft_0 5 rfl rfl)
theorem dX5_isTuft_7 : decode cX5_isTuft 7 = .ok (.irem, 1) := dk_112 (dk_at dksX5_isTuft_0 7 rfl rfl)
theorem dX5_isTuft_8 : decode cX5_isTuft 8 = .ok (.aload_n 0, 1) := dk_42 (dk_at dksX5_isTuft_0 8 rfl rfl)
theorem dX5_isTuft_9 : decode cX5_isTuft 9 = .ok (.getfield 33, 3) := dk_180 0 33 (dk_at dksX5_isTuft_0 9 rfl rfl)
theorem dX5_isTuft_12 : decode cX5_isTuft 12 = .ok (.iconst 0, 1) := dk_3 (dk_at dksX5_isTuft_0 12 rfl rfl)
theorem dX5_isTuft_13 : decode cX5_isTuft 13 = .ok (.iaload, 1) := dk_46 (dk_at dksX5_isTuft_0 13 rfl rfl)
theorem dX5_isTuft_14 : decode cX5_isTuft 14 = .ok (.if_icmp .ge 20, 3) := dk_162 0 20 (dk_at dksX5_isTuft_0 14 rfl rfl)
theorem dX5_isTuft_17 : decode cX5_isTuft 17 = .ok (.iload_n 1, 1) := dk_27 (dk_at dksX5_isTuft_0 17 rfl rfl)
theorem dX5_isTuft_18 : decode cX5_isTuft 18 = .ok (.bipush 12, 2) := dk_16 12 (dk_at dksX5_isTuft_0 18 rfl rfl)
theorem dX5_isTuft_20 : decode cX5_isTuft 20 = .ok (.idiv, 1) := dk_108 (dk_at dksX5_isTuft_0 20 rfl rfl)
theorem dX5_isTuft_21 : decode cX5_isTuft 21 = .ok (.aload_n 0, 1) := dk_42 (dk_at dksX5_isTuft_0 21 rfl rfl)
theorem dX5_isTuft_22 : decode cX5_isTuft 22 = .ok (.getfield 33, 3) := dk_180 0 33 (dk_at dksX5_isTuft_1 0 rfl rfl)
theorem dX5_isTuft_25 : decode cX5_isTuft 25 = .ok (.iconst 1, 1) := dk_4 (dk_at dksX5_isTuft_1 3 rfl rfl)
theorem dX5_isTuft_26 : decode cX5_isTuft 26 = .ok (.iaload, 1) := dk_46 (dk_at dksX5_isTuft_1 4 rfl rfl)
theorem dX5_isTuft_27 : decode cX5_isTuft 27 = .ok (.if_icmp .ge 7, 3) := dk_162 0 7 (dk_at dksX5_isTuft_1 5 rfl rfl)
theorem dX5_isTuft_30 : decode cX5_isTuft 30 = .ok (.iconst 1, 1) := dk_4 (dk_at dksX5_isTuft_1 8 rfl rfl)
theorem dX5_isTuft_31 : decode cX5_isTuft 31 = .ok (.goto 4, 3) := dk_167 0 4 (dk_at dksX5_isTuft_1 9 rfl rfl)
theorem dX5_isTuft_34 : decode cX5_isTuft 34 = .ok (.iconst 0, 1) := dk_3 (dk_at dksX5_isTuft_1 12 rfl rfl)
theorem dX5_isTuft_35 : decode cX5_isTuft 35 = .ok (.ireturn, 1) := dk_172 (dk_at dksX5_isTuft_1 13 rfl rfl)
abbrev cX5_depth : ByteArray := prog_19_method_36_code
def yX5_depth : MethodName := ⟨RX5, "depth", "(I)I"⟩
def dkwX5_depth_3 : List UInt8 := [167, 255, 190, 28, 172]
abbrev dktX5_depth_3 : List UInt8 := dkwX5_depth_3 ++ []
def dkwX5_depth_2 : List UInt8 := [104, 42, 180, 0, 33, 16, 6, 46, 21, 4, 100, 104, 96, 61, 132, 4, 1, 167, 255, 209, 132, 3, 1]
abbrev dktX5_depth_2 : List UInt8 := dkwX5_depth_2 ++ dktX5_depth_3
def dkwX5_depth_1 : List UInt8 := [16, 6, 46, 162, 0, 41, 28, 42, 27, 29, 21, 4, 182, 0, 252, 42, 180, 0, 33, 16, 7, 29, 96, 46]
abbrev dktX5_depth_1 : List UInt8 := dkwX5_depth_1 ++ dktX5_depth_2
def dkwX5_depth_0 : List UInt8 := [3, 61, 3, 62, 29, 42, 180, 0, 33, 5, 46, 162, 0, 62, 3, 54, 4, 21, 4, 42, 180, 0, 33]
abbrev dktX5_depth_0 : List UInt8 := dkwX5_depth_0 ++ dktX5_depth_1
theorem dksX5_depth_0 : cX5_depth.data.toList.drop 0 = dktX5_depth_0 := by decide +kernel
theorem dksX5_depth_1 : cX5_depth.data.toList.drop 23 = dktX5_depth_1 := dk_seg dksX5_depth_0 23 rfl rfl
theorem dksX5_depth_2 : cX5_depth.data.toList.drop 47 = dktX5_depth_2 := dk_seg dksX5_depth_1 24 rfl rfl
theorem dksX5_depth_3 : cX5_depth.data.toList.drop 70 = dktX5_depth_3 := dk_seg dksX5_depth_2 23 rfl rfl
theorem dX5_depth_0 : decode cX5_depth 0 = .ok (.iconst 0, 1) := dk_3 (dk_at dksX5_depth_0 0 rfl rfl)
theorem dX5_depth_1 : decode cX5_depth 1 = .ok (.istore_n 2, 1) := dk_61 (dk_at dksX5_depth_0 1 rfl rfl)
theorem dX5_depth_2 : decode cX5_depth 2 = .ok (.iconst 0, 1) := dk_3 (dk_at dksX5_depth_0 2 rfl rfl)
theorem dX5_depth_3 : decode cX5_depth 3 = .ok (.istore_n 3, 1) := dk_62 (dk_at dksX5_depth_0 3 rfl rfl)
theorem dX5_depth_4 : decode cX5_depth 4 = .ok (.iload_n 3, 1) := dk_29 (dk_at dksX5_depth_0 4 rfl rfl)
theorem dX5_depth_5 : decode cX5_depth 5 = .ok (.aload_n 0, 1) := dk_42 (dk_at dksX5_depth_0 5 rfl rfl)
theorem dX5_depth_6 : decode cX5_depth 6 = .ok (.getfield 33, 3) := dk_180 0 33 (dk_at dksX5_depth_0 6 rfl rfl)
theorem dX5_depth_9 : decode cX5_depth 9 = .ok (.iconst 2, 1) := dk_5 (dk_at dksX5_depth_0 9 rfl rfl)
theorem dX5_depth_10 : decode cX5_depth 10 = .ok (.iaload, 1) := dk_46 (dk_at dksX5_depth_0 10 rfl rfl)
theorem dX5_depth_11 : decode cX5_depth 11 = .ok (.if_icmp .ge 62, 3) := dk_162 0 62 (dk_at dksX5_depth_0 11 rfl rfl)
theorem dX5_depth_14 : decode cX5_depth 14 = .ok (.iconst 0, 1) := dk_3 (dk_at dksX5_depth_0 14 rfl rfl)
theorem dX5_depth_15 : decode cX5_depth 15 = .ok (.istore 4, 2) := dk_54 4 (dk_at dksX5_depth_0 15 rfl rfl)
theorem dX5_depth_17 : decode cX5_depth 17 = .ok (.iload 4, 2) := dk_21 4 (dk_at dksX5_depth_0 17 rfl rfl)
theorem dX5_depth_19 : decode cX5_depth 19 = .ok (.aload_n 0, 1) := dk_42 (dk_at dksX5_depth_0 19 rfl rfl)
theorem dX5_depth_20 : decode cX5_depth 20 = .ok (.getfield 33, 3) := dk_180 0 33 (dk_at dksX5_depth_0 20 rfl rfl)
theorem dX5_depth_23 : decode cX5_depth 23 = .ok (.bipush 6, 2) := dk_16 6 (dk_at dksX5_depth_1 0 rfl rfl)
theorem dX5_depth_25 : decode cX5_depth 25 = .ok (.iaload, 1) := dk_46 (dk_at dksX5_depth_1 2 rfl rfl)
theorem dX5_depth_26 : decode cX5_depth 26 = .ok (.if_icmp .ge 41, 3) := dk_162 0 41 (dk_at dksX5_depth_1 3 rfl rfl)
theorem dX5_depth_29 : decode cX5_depth 29 = .ok (.iload_n 2, 1) := dk_28 (dk_at dksX5_depth_1 6 rfl rfl)
theorem dX5_depth_30 : decode cX5_depth 30 = .ok (.aload_n 0, 1) := dk_42 (dk_at dksX5_depth_1 7 rfl rfl)
theorem dX5_depth_31 : decode cX5_depth 31 = .ok (.iload_n 1, 1) := dk_27 (dk_at dksX5_depth_1 8 rfl rfl)
theorem dX5_depth_32 : decode cX5_depth 32 = .ok (.iload_n 3, 1) := dk_29 (dk_at dksX5_depth_1 9 rfl rfl)
theorem dX5_depth_33 : decode cX5_depth 33 = .ok (.iload 4, 2) := dk_21 4 (dk_at dksX5_depth_1 10 rfl rfl)
theorem dX5_depth_35 : decode cX5_depth 35 = .ok (.invokevirtual 252, 3) := dk_182 0 252 (dk_at dksX5_depth_1 12 rfl rfl)
theorem dX5_depth_38 : decode cX5_depth 38 = .ok (.aload_n 0, 1) := dk_42 (dk_at dksX5_depth_1 15 rfl rfl)
theorem dX5_depth_39 : decode cX5_depth 39 = .ok (.getfield 33, 3) := dk_180 0 33 (dk_at dksX5_depth_1 16 rfl rfl)
theorem dX5_depth_42 : decode cX5_depth 42 = .ok (.bipush 7, 2) := dk_16 7 (dk_at dksX5_depth_1 19 rfl rfl)
theorem dX5_depth_44 : decode cX5_depth 44 = .ok (.iload_n 3, 1) := dk_29 (dk_at dksX5_depth_1 21 rfl rfl)
theorem dX5_depth_45 : decode cX5_depth 45 = .ok (.iadd, 1) := dk_96 (dk_at dksX5_depth_1 22 rfl rfl)
theorem dX5_depth_46 : decode cX5_depth 46 = .ok (.iaload, 1) := dk_46 (dk_at dksX5_depth_1 23 rfl rfl)
theorem dX5_depth_47 : decode cX5_depth 47 = .ok (.imul, 1) := dk_104 (dk_at dksX5_depth_2 0 rfl rfl)
theorem dX5_depth_48 : decode cX5_depth 48 = .ok (.aload_n 0, 1) := dk_42 (dk_at dksX5_depth_2 1 rfl rfl)
theorem dX5_depth_49 : decode cX5_depth 49 = .ok (.getfield 33, 3) := dk_180 0 33 (dk_at dksX5_depth_2 2 rfl rfl)
theorem dX5_depth_52 : decode cX5_depth 52 = .ok (.bipush 6, 2) := dk_16 6 (dk_at dksX5_depth_2 5 rfl rfl)
theorem dX5_depth_54 : decode cX5_depth 54 = .ok (.iaload, 1) := dk_46 (dk_at dksX5_depth_2 7 rfl rfl)
theorem dX5_depth_55 : decode cX5_depth 55 = .ok (.iload 4, 2) := dk_21 4 (dk_at dksX5_depth_2 8 rfl rfl)
theorem dX5_depth_57 : decode cX5_depth 57 = .ok (.isub, 1) := dk_100 (dk_at dksX5_depth_2 10 rfl rfl)
theorem dX5_depth_58 : decode cX5_depth 58 = .ok (.imul, 1) := dk_104 (dk_at dksX5_depth_2 11 rfl rfl)
theorem dX5_depth_59 : decode cX5_depth 59 = .ok (.iadd, 1) := dk_96 (dk_at dksX5_depth_2 12 rfl rfl)
theorem dX5_depth_60 : decode cX5_depth 60 = .ok (.istore_n 2, 1) := dk_61 (dk_at dksX5_depth_2 13 rfl rfl)
theorem dX5_depth_61 : decode cX5_depth 61 = .ok (.iinc 4 1, 3) := dk_132 4 1 (dk_at dksX5_depth_2 14 rfl rfl)
theorem dX5_depth_64 : decode cX5_depth 64 = .ok (.goto (-47), 3) := dk_167 255 209 (dk_at dksX5_depth_2 17 rfl rfl)
theorem dX5_depth_67 : decode cX5_depth 67 = .ok (.iinc 3 1, 3) := dk_132 3 1 (dk_at dksX5_depth_2 20 rfl rfl)
theorem dX5_depth_70 : decode cX5_depth 70 = .ok (.goto (-66), 3) := dk_167 255 190 (dk_at dksX5_depth_3 0 rfl rfl)
theorem dX5_depth_73 : decode cX5_depth 73 = .ok (.iload_n 2, 1) := dk_28 (dk_at dksX5_depth_3 3 rfl rfl)
theorem dX5_depth_74 : decode cX5_depth 74 = .ok (.ireturn, 1) := dk_172 (dk_at dksX5_depth_3 4 rfl rfl)
abbrev cX5_treads : ByteArray := prog_19_method_35_code
def yX5_treads : MethodName := ⟨RX5, "treads", "(I)I"⟩
def dkwX5_treads_1 : List UInt8 := [132, 3, 1, 167, 255, 234, 28, 172]
abbrev dktX5_treads_1 : List UInt8 := dkwX5_treads_1 ++ []
def dkwX5_treads_0 : List UInt8 := [3, 61, 3, 62, 29, 42, 180, 0, 33, 5, 46, 162, 0, 18, 28, 42, 27, 29, 182, 1, 0, 96, 61]
abbrev dktX5_treads_0 : List UInt8 := dkwX5_treads_0 ++ dktX5_treads_1
theorem dksX5_treads_0 : cX5_treads.data.toList.drop 0 = dktX5_treads_0 := by decide +kernel
theorem dksX5_treads_1 : cX5_treads.data.toList.drop 23 = dktX5_treads_1 := dk_seg dksX5_treads_0 23 rfl rfl
theorem dX5_treads_0 : decode cX5_treads 0 = .ok (.iconst 0, 1) := dk_3 (dk_at dksX5_treads_0 0 rfl rfl)
theorem dX5_treads_1 : decode cX5_treads 1 = .ok (.istore_n 2, 1) := dk_61 (dk_at dksX5_treads_0 1 rfl rfl)
theorem dX5_treads_2 : decode cX5_treads 2 = .ok (.iconst 0, 1) := dk_3 (dk_at dksX5_treads_0 2 rfl rfl)
theorem dX5_treads_3 : decode cX5_treads 3 = .ok (.istore_n 3, 1) := dk_62 (dk_at dksX5_treads_0 3 rfl rfl)
theorem dX5_treads_4 : decode cX5_treads 4 = .ok (.iload_n 3, 1) := dk_29 (dk_at dksX5_treads_0 4 rfl rfl)
theorem dX5_treads_5 : decode cX5_treads 5 = .ok (.aload_n 0, 1) := dk_42 (dk_at dksX5_treads_0 5 rfl rfl)
theorem dX5_treads_6 : decode cX5_treads 6 = .ok (.getfield 33, 3) := dk_180 0 33 (dk_at dksX5_treads_0 6 rfl rfl)
theorem dX5_treads_9 : decode cX5_treads 9 = .ok (.iconst 2, 1) := dk_5 (dk_at dksX5_treads_0 9 rfl rfl)
theorem dX5_treads_10 : decode cX5_treads 10 = .ok (.iaload, 1) := dk_46 (dk_at dksX5_treads_0 10 rfl rfl)
theorem dX5_treads_11 : decode cX5_treads 11 = .ok (.if_icmp .ge 18, 3) := dk_162 0 18 (dk_at dksX5_treads_0 11 rfl rfl)
theorem dX5_treads_14 : decode cX5_treads 14 = .ok (.iload_n 2, 1) := dk_28 (dk_at dksX5_treads_0 14 rfl rfl)
theorem dX5_treads_15 : decode cX5_treads 15 = .ok (.aload_n 0, 1) := dk_42 (dk_at dksX5_treads_0 15 rfl rfl)
theorem dX5_treads_16 : decode cX5_treads 16 = .ok (.iload_n 1, 1) := dk_27 (dk_at dksX5_treads_0 16 rfl rfl)
theorem dX5_treads_17 : decode cX5_treads 17 = .ok (.iload_n 3, 1) := dk_29 (dk_at dksX5_treads_0 17 rfl rfl)
theorem dX5_treads_18 : decode cX5_treads 18 = .ok (.invokevirtual 256, 3) := dk_182 1 0 (dk_at dksX5_treads_0 18 rfl rfl)
theorem dX5_treads_21 : decode cX5_treads 21 = .ok (.iadd, 1) := dk_96 (dk_at dksX5_treads_0 21 rfl rfl)
theorem dX5_treads_22 : decode cX5_treads 22 = .ok (.istore_n 2, 1) := dk_61 (dk_at dksX5_treads_0 22 rfl rfl)
theorem dX5_treads_23 : decode cX5_treads 23 = .ok (.iinc 3 1, 3) := dk_132 3 1 (dk_at dksX5_treads_1 0 rfl rfl)
theorem dX5_treads_26 : decode cX5_treads 26 = .ok (.goto (-22), 3) := dk_167 255 234 (dk_at dksX5_treads_1 3 rfl rfl)
theorem dX5_treads_29 : decode cX5_treads 29 = .ok (.iload_n 2, 1) := dk_28 (dk_at dksX5_treads_1 6 rfl rfl)
theorem dX5_treads_30 : decode cX5_treads 30 = .ok (.ireturn, 1) := dk_172 (dk_at dksX5_treads_1 7 rfl rfl)
abbrev cX5_isDoor : ByteArray := prog_19_method_39_code
def yX5_isDoor : MethodName := ⟨RX5, "isDoor", "(I)Z"⟩
def dkwX5_isDoor_1 : List UInt8 := [160, 0, 5, 4, 172, 132, 2, 1, 167, 255, 227, 3, 172]
abbrev dktX5_isDoor_1 : List UInt8 := dkwX5_isDoor_1 ++ []
def dkwX5_isDoor_0 : List UInt8 := [3, 61, 28, 42, 180, 0, 33, 8, 46, 162, 0, 25, 42, 180, 0, 33, 17, 0, 169, 28, 96, 46, 27]
abbrev dktX5_isDoor_0 : List UInt8 := dkwX5_isDoor_0 ++ dktX5_isDoor_1
theorem dksX5_isDoor_0 : cX5_isDoor.data.toList.drop 0 = dktX5_isDoor_0 := by decide +kernel
theorem dksX5_isDoor_1 : cX5_isDoor.data.toList.drop 23 = dktX5_isDoor_1 := dk_seg dksX5_isDoor_0 23 rfl rfl
theorem dX5_isDoor_0 : decode cX5_isDoor 0 = .ok (.iconst 0, 1) := dk_3 (dk_at dksX5_isDoor_0 0 rfl rfl)
theorem dX5_isDoor_1 : decode cX5_isDoor 1 = .ok (.istore_n 2, 1) := dk_61 (dk_at dksX5_isDoor_0 1 rfl rfl)
theorem dX5_isDoor_2 : decode cX5_isDoor 2 = .ok (.iload_n 2, 1) := dk_28 (dk_at dksX5_isDoor_0 2 rfl rfl)
theorem dX5_isDoor_3 : decode cX5_isDoor 3 = .ok (.aload_n 0, 1) := dk_42 (dk_at dksX5_isDoor_0 3 rfl rfl)
theorem dX5_isDoor_4 : decode cX5_isDoor 4 = .ok (.getfield 33, 3) := dk_180 0 33 (dk_at dksX5_isDoor_0 4 rfl rfl)
theorem dX5_isDoor_7 : decode cX5_isDoor 7 = .ok (.iconst 5, 1) := dk_8 (dk_at dksX5_isDoor_0 7 rfl rfl)
theorem dX5_isDoor_8 : decode cX5_isDoor 8 = .ok (.iaload, 1) := dk_46 (dk_at dksX5_isDoor_0 8 rfl rfl)
theorem dX5_isDoor_9 : decode cX5_isDoor 9 = .ok (.if_icmp .ge 25, 3) := dk_162 0 25 (dk_at dksX5_isDoor_0 9 rfl rfl)
theorem dX5_isDoor_12 : decode cX5_isDoor 12 = .ok (.aload_n 0, 1) := dk_42 (dk_at dksX5_isDoor_0 12 rfl rfl)
theorem dX5_isDoor_13 : decode cX5_isDoor 13 = .ok (.getfield 33, 3) := dk_180 0 33 (dk_at dksX5_isDoor_0 13 rfl rfl)
theorem dX5_isDoor_16 : decode cX5_isDoor 16 = .ok (.sipush 169, 3) := dk_17 0 169 (dk_at dksX5_isDoor_0 16 rfl rfl)
theorem dX5_isDoor_19 : decode cX5_isDoor 19 = .ok (.iload_n 2, 1) := dk_28 (dk_at dksX5_isDoor_0 19 rfl rfl)
theorem dX5_isDoor_20 : decode cX5_isDoor 20 = .ok (.iadd, 1) := dk_96 (dk_at dksX5_isDoor_0 20 rfl rfl)
theorem dX5_isDoor_21 : decode cX5_isDoor 21 = .ok (.iaload, 1) := dk_46 (dk_at dksX5_isDoor_0 21 rfl rfl)
theorem dX5_isDoor_22 : decode cX5_isDoor 22 = .ok (.iload_n 1, 1) := dk_27 (dk_at dksX5_isDoor_0 22 rfl rfl)
theorem dX5_isDoor_23 : decode cX5_isDoor 23 = .ok (.if_icmp .ne 5, 3) := dk_160 0 5 (dk_at dksX5_isDoor_1 0 rfl rfl)
theorem dX5_isDoor_26 : decode cX5_isDoor 26 = .ok (.iconst 1, 1) := dk_4 (dk_at dksX5_isDoor_1 3 rfl rfl)
theorem dX5_isDoor_27 : decode cX5_isDoor 27 = .ok (.ireturn, 1) := dk_172 (dk_at dksX5_isDoor_1 4 rfl rfl)
theorem dX5_isDoor_28 : decode cX5_isDoor 28 = .ok (.iinc 2 1, 3) := dk_132 2 1 (dk_at dksX5_isDoor_1 5 rfl rfl)
theorem dX5_isDoor_31 : decode cX5_isDoor 31 = .ok (.goto (-29), 3) := dk_167 255 227 (dk_at dksX5_isDoor_1 8 rfl rfl)
theorem dX5_isDoor_34 : decode cX5_isDoor 34 = .ok (.iconst 0, 1) := dk_3 (dk_at dksX5_isDoor_1 11 rfl rfl)
theorem dX5_isDoor_35 : decode cX5_isDoor 35 = .ok (.ireturn, 1) := dk_172 (dk_at dksX5_isDoor_1 12 rfl rfl)
abbrev cX5_way : ByteArray := prog_19_method_41_code
def yX5_way : MethodName := ⟨RX5, "way", "(II)I"⟩
def dkwX5_way_2 : List UInt8 := [167, 0, 4, 2, 172]
abbrev dktX5_way_2 : List UInt8 := dkwX5_way_2 ++ []
def dkwX5_way_1 : List UInt8 := [46, 4, 100, 184, 0, 191, 153, 0, 21, 42, 180, 0, 33, 17, 0, 183, 16, 41, 27, 104, 96, 28, 96, 46]
abbrev dktX5_way_1 : List UInt8 := dkwX5_way_1 ++ dktX5_way_2
def dkwX5_way_0 : List UInt8 := [42, 3, 181, 0, 1, 42, 27, 182, 1, 23, 153, 0, 41, 28, 3, 42, 180, 0, 33, 17, 0, 177, 27, 96]
abbrev dktX5_way_0 : List UInt8 := dkwX5_way_0 ++ dktX5_way_1
theorem dksX5_way_0 : cX5_way.data.toList.drop 0 = dktX5_way_0 := by decide +kernel
theorem dksX5_way_1 : cX5_way.data.toList.drop 24 = dktX5_way_1 := dk_seg dksX5_way_0 24 rfl rfl
theorem dksX5_way_2 : cX5_way.data.toList.drop 48 = dktX5_way_2 := dk_seg dksX5_way_1 24 rfl rfl
theorem dX5_way_0 : decode cX5_way 0 = .ok (.aload_n 0, 1) := dk_42 (dk_at dksX5_way_0 0 rfl rfl)
theorem dX5_way_1 : decode cX5_way 1 = .ok (.iconst 0, 1) := dk_3 (dk_at dksX5_way_0 1 rfl rfl)
theorem dX5_way_2 : decode cX5_way 2 = .ok (.putfield 1, 3) := dk_181 0 1 (dk_at dksX5_way_0 2 rfl rfl)
theorem dX5_way_5 : decode cX5_way 5 = .ok (.aload_n 0, 1) := dk_42 (dk_at dksX5_way_0 5 rfl rfl)
theorem dX5_way_6 : decode cX5_way 6 = .ok (.iload_n 1, 1) := dk_27 (dk_at dksX5_way_0 6 rfl rfl)
theorem dX5_way_7 : decode cX5_way 7 = .ok (.invokevirtual 279, 3) := dk_182 1 23 (dk_at dksX5_way_0 7 rfl rfl)
theorem dX5_way_10 : decode cX5_way 10 = .ok (.ifCond .eq 41, 3) := dk_153 0 41 (dk_at dksX5_way_0 10 rfl rfl)
theorem dX5_way_13 : decode cX5_way 13 = .ok (.iload_n 2, 1) := dk_28 (dk_at dksX5_way_0 13 rfl rfl)
theorem dX5_way_14 : decode cX5_way 14 = .ok (.iconst 0, 1) := dk_3 (dk_at dksX5_way_0 14 rfl rfl)
theorem dX5_way_15 : decode cX5_way 15 = .ok (.aload_n 0, 1) := dk_42 (dk_at dksX5_way_0 15 rfl rfl)
theorem dX5_way_16 : decode cX5_way 16 = .ok (.getfield 33, 3) := dk_180 0 33 (dk_at dksX5_way_0 16 rfl rfl)
theorem dX5_way_19 : decode cX5_way 19 = .ok (.sipush 177, 3) := dk_17 0 177 (dk_at dksX5_way_0 19 rfl rfl)
theorem dX5_way_22 : decode cX5_way 22 = .ok (.iload_n 1, 1) := dk_27 (dk_at dksX5_way_0 22 rfl rfl)
theorem dX5_way_23 : decode cX5_way 23 = .ok (.iadd, 1) := dk_96 (dk_at dksX5_way_0 23 rfl rfl)
theorem dX5_way_24 : decode cX5_way 24 = .ok (.iaload, 1) := dk_46 (dk_at dksX5_way_1 0 rfl rfl)
theorem dX5_way_25 : decode cX5_way 25 = .ok (.iconst 1, 1) := dk_4 (dk_at dksX5_way_1 1 rfl rfl)
theorem dX5_way_26 : decode cX5_way 26 = .ok (.isub, 1) := dk_100 (dk_at dksX5_way_1 2 rfl rfl)
theorem dX5_way_27 : decode cX5_way 27 = .ok (.invokestatic 191, 3) := dk_184 0 191 (dk_at dksX5_way_1 3 rfl rfl)
theorem dX5_way_30 : decode cX5_way 30 = .ok (.ifCond .eq 21, 3) := dk_153 0 21 (dk_at dksX5_way_1 6 rfl rfl)
theorem dX5_way_33 : decode cX5_way 33 = .ok (.aload_n 0, 1) := dk_42 (dk_at dksX5_way_1 9 rfl rfl)
theorem dX5_way_34 : decode cX5_way 34 = .ok (.getfield 33, 3) := dk_180 0 33 (dk_at dksX5_way_1 10 rfl rfl)
theorem dX5_way_37 : decode cX5_way 37 = .ok (.sipush 183, 3) := dk_17 0 183 (dk_at dksX5_way_1 13 rfl rfl)
theorem dX5_way_40 : decode cX5_way 40 = .ok (.bipush 41, 2) := dk_16 41 (dk_at dksX5_way_1 16 rfl rfl)
theorem dX5_way_42 : decode cX5_way 42 = .ok (.iload_n 1, 1) := dk_27 (dk_at dksX5_way_1 18 rfl rfl)
theorem dX5_way_43 : decode cX5_way 43 = .ok (.imul, 1) := dk_104 (dk_at dksX5_way_1 19 rfl rfl)
theorem dX5_way_44 : decode cX5_way 44 = .ok (.iadd, 1) := dk_96 (dk_at dksX5_way_1 20 rfl rfl)
theorem dX5_way_45 : decode cX5_way 45 = .ok (.iload_n 2, 1) := dk_28 (dk_at dksX5_way_1 21 rfl rfl)
theorem dX5_way_46 : decode cX5_way 46 = .ok (.iadd, 1) := dk_96 (dk_at dksX5_way_1 22 rfl rfl)
theorem dX5_way_47 : decode cX5_way 47 = .ok (.iaload, 1) := dk_46 (dk_at dksX5_way_1 23 rfl rfl)
theorem dX5_way_48 : decode cX5_way 48 = .ok (.goto 4, 3) := dk_167 0 4 (dk_at dksX5_way_2 0 rfl rfl)
theorem dX5_way_51 : decode cX5_way 51 = .ok (.iconst (-1), 1) := dk_2 (dk_at dksX5_way_2 3 rfl rfl)
theorem dX5_way_52 : decode cX5_way 52 = .ok (.ireturn, 1) := dk_172 (dk_at dksX5_way_2 4 rfl rfl)
abbrev cX5_isWay : ByteArray := prog_19_method_31_code
def yX5_isWay : MethodName := ⟨RX5, "isWay", "(I)Z"⟩
def dkwX5_isWay_0 : List UInt8 := [27, 3, 42, 180, 0, 33, 6, 46, 4, 100, 184, 0, 191, 172]
abbrev dktX5_isWay_0 : List UInt8 := dkwX5_isWay_0 ++ []
theorem dksX5_isWay_0 : cX5_isWay.data.toList.drop 0 = dktX5_isWay_0 := by decide +kernel
theorem dX5_isWay_0 : decode cX5_isWay 0 = .ok (.iload_n 1, 1) := dk_27 (dk_at dksX5_isWay_0 0 rfl rfl)
theorem dX5_isWay_1 : decode cX5_isWay 1 = .ok (.iconst 0, 1) := dk_3 (dk_at dksX5_isWay_0 1 rfl rfl)
theorem dX5_isWay_2 : decode cX5_isWay 2 = .ok (.aload_n 0, 1) := dk_42 (dk_at dksX5_isWay_0 2 rfl rfl)
theorem dX5_isWay_3 : decode cX5_isWay 3 = .ok (.getfield 33, 3) := dk_180 0 33 (dk_at dksX5_isWay_0 3 rfl rfl)
theorem dX5_isWay_6 : decode cX5_isWay 6 = .ok (.iconst 3, 1) := dk_6 (dk_at dksX5_isWay_0 6 rfl rfl)
theorem dX5_isWay_7 : decode cX5_isWay 7 = .ok (.iaload, 1) := dk_46 (dk_at dksX5_isWay_0 7 rfl rfl)
theorem dX5_isWay_8 : decode cX5_isWay 8 = .ok (.iconst 1, 1) := dk_4 (dk_at dksX5_isWay_0 8 rfl rfl)
theorem dX5_isWay_9 : decode cX5_isWay 9 = .ok (.isub, 1) := dk_100 (dk_at dksX5_isWay_0 9 rfl rfl)
theorem dX5_isWay_10 : decode cX5_isWay 10 = .ok (.invokestatic 191, 3) := dk_184 0 191 (dk_at dksX5_isWay_0 10 rfl rfl)
theorem dX5_isWay_13 : decode cX5_isWay 13 = .ok (.ireturn, 1) := dk_172 (dk_at dksX5_isWay_0 13 rfl rfl)
abbrev cX5_undo : ByteArray := prog_19_method_44_code
def yX5_undo : MethodName := ⟨RX5, "undo", "()I"⟩
def dkwX5_undo_2 : List UInt8 := [17, 37, 183, 42, 180, 0, 249, 104, 27, 96, 46, 79, 132, 1, 1, 167, 255, 221, 42, 180, 0, 249, 172]
abbrev dktX5_undo_2 : List UInt8 := dkwX5_undo_2 ++ []
def dkwX5_undo_1 : List UInt8 := [3, 60, 27, 17, 37, 183, 162, 0, 34, 42, 180, 0, 33, 17, 1, 173, 27, 96, 42, 180, 0, 51]
abbrev dktX5_undo_1 : List UInt8 := dkwX5_undo_1 ++ dktX5_undo_2
def dkwX5_undo_0 : List UInt8 := [42, 3, 181, 0, 1, 42, 180, 0, 249, 154, 0, 5, 2, 172, 42, 89, 180, 0, 249, 4, 100, 181, 0, 249]
abbrev dktX5_undo_0 : List UInt8 := dkwX5_undo_0 ++ dktX5_undo_1
theorem dksX5_undo_0 : cX5_undo.data.toList.drop 0 = dktX5_undo_0 := by decide +kernel
theorem dksX5_undo_1 : cX5_undo.data.toList.drop 24 = dktX5_undo_1 := dk_seg dksX5_undo_0 24 rfl rfl
theorem dksX5_undo_2 : cX5_undo.data.toList.drop 46 = dktX5_undo_2 := dk_seg dksX5_undo_1 22 rfl rfl
theorem dX5_undo_0 : decode cX5_undo 0 = .ok (.aload_n 0, 1) := dk_42 (dk_at dksX5_undo_0 0 rfl rfl)
theorem dX5_undo_1 : decode cX5_undo 1 = .ok (.iconst 0, 1) := dk_3 (dk_at dksX5_undo_0 1 rfl rfl)
theorem dX5_undo_2 : decode cX5_undo 2 = .ok (.putfield 1, 3) := dk_181 0 1 (dk_at dksX5_undo_0 2 rfl rfl)
theorem dX5_undo_5 : decode cX5_undo 5 = .ok (.aload_n 0, 1) := dk_42 (dk_at dksX5_undo_0 5 rfl rfl)
theorem dX5_undo_6 : decode cX5_undo 6 = .ok (.getfield 249, 3) := dk_180 0 249 (dk_at dksX5_undo_0 6 rfl rfl)
theorem dX5_undo_9 : decode cX5_undo 9 = .ok (.ifCond .ne 5, 3) := dk_154 0 5 (dk_at dksX5_undo_0 9 rfl rfl)
theorem dX5_undo_12 : decode cX5_undo 12 = .ok (.iconst (-1), 1) := dk_2 (dk_at dksX5_undo_0 12 rfl rfl)
theorem dX5_undo_13 : decode cX5_undo 13 = .ok (.ireturn, 1) := dk_172 (dk_at dksX5_undo_0 13 rfl rfl)
theorem dX5_undo_14 : decode cX5_undo 14 = .ok (.aload_n 0, 1) := dk_42 (dk_at dksX5_undo_0 14 rfl rfl)
theorem dX5_undo_15 : decode cX5_undo 15 = .ok (.dup, 1) := dk_89 (dk_at dksX5_undo_0 15 rfl rfl)
theorem dX5_undo_16 : decode cX5_undo 16 = .ok (.getfield 249, 3) := dk_180 0 249 (dk_at dksX5_undo_0 16 rfl rfl)
theorem dX5_undo_19 : decode cX5_undo 19 = .ok (.iconst 1, 1) := dk_4 (dk_at dksX5_undo_0 19 rfl rfl)
theorem dX5_undo_20 : decode cX5_undo 20 = .ok (.isub, 1) := dk_100 (dk_at dksX5_undo_0 20 rfl rfl)
theorem dX5_undo_21 : decode cX5_undo 21 = .ok (.putfield 249, 3) := dk_181 0 249 (dk_at dksX5_undo_0 21 rfl rfl)
theorem dX5_undo_24 : decode cX5_undo 24 = .ok (.iconst 0, 1) := dk_3 (dk_at dksX5_undo_1 0 rfl rfl)
theorem dX5_undo_25 : decode cX5_undo 25 = .ok (.istore_n 1, 1) := dk_60 (dk_at dksX5_undo_1 1 rfl rfl)
theorem dX5_undo_26 : decode cX5_undo 26 = .ok (.iload_n 1, 1) := dk_27 (dk_at dksX5_undo_1 2 rfl rfl)
theorem dX5_undo_27 : decode cX5_undo 27 = .ok (.sipush 9655, 3) := dk_17 37 183 (dk_at dksX5_undo_1 3 rfl rfl)
theorem dX5_undo_30 : decode cX5_undo 30 = .ok (.if_icmp .ge 34, 3) := dk_162 0 34 (dk_at dksX5_undo_1 6 rfl rfl)
theorem dX5_undo_33 : decode cX5_undo 33 = .ok (.aload_n 0, 1) := dk_42 (dk_at dksX5_undo_1 9 rfl rfl)
theorem dX5_undo_34 : decode cX5_undo 34 = .ok (.getfield 33, 3) := dk_180 0 33 (dk_at dksX5_undo_1 10 rfl rfl)
theorem dX5_undo_37 : decode cX5_undo 37 = .ok (.sipush 429, 3) := dk_17 1 173 (dk_at dksX5_undo_1 13 rfl rfl)
theorem dX5_undo_40 : decode cX5_undo 40 = .ok (.iload_n 1, 1) := dk_27 (dk_at dksX5_undo_1 16 rfl rfl)
theorem dX5_undo_41 : decode cX5_undo 41 = .ok (.iadd, 1) := dk_96 (dk_at dksX5_undo_1 17 rfl rfl)
theorem dX5_undo_42 : decode cX5_undo 42 = .ok (.aload_n 0, 1) := dk_42 (dk_at dksX5_undo_1 18 rfl rfl)
theorem dX5_undo_43 : decode cX5_undo 43 = .ok (.getfield 51, 3) := dk_180 0 51 (dk_at dksX5_undo_1 19 rfl rfl)
theorem dX5_undo_46 : decode cX5_undo 46 = .ok (.sipush 9655, 3) := dk_17 37 183 (dk_at dksX5_undo_2 0 rfl rfl)
theorem dX5_undo_49 : decode cX5_undo 49 = .ok (.aload_n 0, 1) := dk_42 (dk_at dksX5_undo_2 3 rfl rfl)
theorem dX5_undo_50 : decode cX5_undo 50 = .ok (.getfield 249, 3) := dk_180 0 249 (dk_at dksX5_undo_2 4 rfl rfl)
theorem dX5_undo_53 : decode cX5_undo 53 = .ok (.imul, 1) := dk_104 (dk_at dksX5_undo_2 7 rfl rfl)
theorem dX5_undo_54 : decode cX5_undo 54 = .ok (.iload_n 1, 1) := dk_27 (dk_at dksX5_undo_2 8 rfl rfl)
theorem dX5_undo_55 : decode cX5_undo 55 = .ok (.iadd, 1) := dk_96 (dk_at dksX5_undo_2 9 rfl rfl)
theorem dX5_undo_56 : decode cX5_undo 56 = .ok (.iaload, 1) := dk_46 (dk_at dksX5_undo_2 10 rfl rfl)
theorem dX5_undo_57 : decode cX5_undo 57 = .ok (.iastore, 1) := dk_79 (dk_at dksX5_undo_2 11 rfl rfl)
theorem dX5_undo_58 : decode cX5_undo 58 = .ok (.iinc 1 1, 3) := dk_132 1 1 (dk_at dksX5_undo_2 12 rfl rfl)
theorem dX5_undo_61 : decode cX5_undo 61 = .ok (.goto (-35), 3) := dk_167 255 221 (dk_at dksX5_undo_2 15 rfl rfl)
theorem dX5_undo_64 : decode cX5_undo 64 = .ok (.aload_n 0, 1) := dk_42 (dk_at dksX5_undo_2 18 rfl rfl)
theorem dX5_undo_65 : decode cX5_undo 65 = .ok (.getfield 249, 3) := dk_180 0 249 (dk_at dksX5_undo_2 19 rfl rfl)
theorem dX5_undo_68 : decode cX5_undo 68 = .ok (.ireturn, 1) := dk_172 (dk_at dksX5_undo_2 22 rfl rfl)
abbrev cX5_goes : ByteArray := prog_19_method_46_code
def yX5_goes : MethodName := ⟨RX5, "goes", "(III)I"⟩
def dkwX5_goes_2 : List UInt8 := [182, 1, 33, 42, 180, 0, 33, 17, 0, 177, 28, 96, 46, 172]
abbrev dktX5_goes_2 : List UInt8 := dkwX5_goes_2 ++ []
def dkwX5_goes_1 : List UInt8 := [182, 1, 3, 154, 0, 5, 2, 172, 42, 182, 1, 30, 42, 27, 28, 42, 180, 0, 33, 16, 13, 29, 96, 46]
abbrev dktX5_goes_1 : List UInt8 := dkwX5_goes_1 ++ dktX5_goes_2
def dkwX5_goes_0 : List UInt8 := [42, 3, 181, 0, 1, 42, 27, 182, 1, 3, 153, 0, 19, 42, 28, 182, 1, 23, 153, 0, 11, 42, 29]
abbrev dktX5_goes_0 : List UInt8 := dkwX5_goes_0 ++ dktX5_goes_1
theorem dksX5_goes_0 : cX5_goes.data.toList.drop 0 = dktX5_goes_0 := by decide +kernel
theorem dksX5_goes_1 : cX5_goes.data.toList.drop 23 = dktX5_goes_1 := dk_seg dksX5_goes_0 23 rfl rfl
theorem dksX5_goes_2 : cX5_goes.data.toList.drop 47 = dktX5_goes_2 := dk_seg dksX5_goes_1 24 rfl rfl
theorem dX5_goes_0 : decode cX5_goes 0 = .ok (.aload_n 0, 1) := dk_42 (dk_at dksX5_goes_0 0 rfl rfl)
theorem dX5_goes_1 : decode cX5_goes 1 = .ok (.iconst 0, 1) := dk_3 (dk_at dksX5_goes_0 1 rfl rfl)
theorem dX5_goes_2 : decode cX5_goes 2 = .ok (.putfield 1, 3) := dk_181 0 1 (dk_at dksX5_goes_0 2 rfl rfl)
theorem dX5_goes_5 : decode cX5_goes 5 = .ok (.aload_n 0, 1) := dk_42 (dk_at dksX5_goes_0 5 rfl rfl)
theorem dX5_goes_6 : decode cX5_goes 6 = .ok (.iload_n 1, 1) := dk_27 (dk_at dksX5_goes_0 6 rfl rfl)
theorem dX5_goes_7 : decode cX5_goes 7 = .ok (.invokevirtual 259, 3) := dk_182 1 3 (dk_at dksX5_goes_0 7 rfl rfl)
theorem dX5_goes_10 : decode cX5_goes 10 = .ok (.ifCond .eq 19, 3) := dk_153 0 19 (dk_at dksX5_goes_0 10 rfl rfl)
theorem dX5_goes_13 : decode cX5_goes 13 = .ok (.aload_n 0, 1) := dk_42 (dk_at dksX5_goes_0 13 rfl rfl)
theorem dX5_goes_14 : decode cX5_goes 14 = .ok (.iload_n 2, 1) := dk_28 (dk_at dksX5_goes_0 14 rfl rfl)
theorem dX5_goes_15 : decode cX5_goes 15 = .ok (.invokevirtual 279, 3) := dk_182 1 23 (dk_at dksX5_goes_0 15 rfl rfl)
theorem dX5_goes_18 : decode cX5_goes 18 = .ok (.ifCond .eq 11, 3) := dk_153 0 11 (dk_at dksX5_goes_0 18 rfl rfl)
theorem dX5_goes_21 : decode cX5_goes 21 = .ok (.aload_n 0, 1) := dk_42 (dk_at dksX5_goes_0 21 rfl rfl)
theorem dX5_goes_22 : decode cX5_goes 22 = .ok (.iload_n 3, 1) := dk_29 (dk_at dksX5_goes_0 22 rfl rfl)
theorem dX5_goes_23 : decode cX5_goes 23 = .ok (.invokevirtual 259, 3) := dk_182 1 3 (dk_at dksX5_goes_1 0 rfl rfl)
theorem dX5_goes_26 : decode cX5_goes 26 = .ok (.ifCond .ne 5, 3) := dk_154 0 5 (dk_at dksX5_goes_1 3 rfl rfl)
theorem dX5_goes_29 : decode cX5_goes 29 = .ok (.iconst (-1), 1) := dk_2 (dk_at dksX5_goes_1 6 rfl rfl)
theorem dX5_goes_30 : decode cX5_goes 30 = .ok (.ireturn, 1) := dk_172 (dk_at dksX5_goes_1 7 rfl rfl)
theorem dX5_goes_31 : decode cX5_goes 31 = .ok (.aload_n 0, 1) := dk_42 (dk_at dksX5_goes_1 8 rfl rfl)
theorem dX5_goes_32 : decode cX5_goes 32 = .ok (.invokevirtual 286, 3) := dk_182 1 30 (dk_at dksX5_goes_1 9 rfl rfl)
theorem dX5_goes_35 : decode cX5_goes 35 = .ok (.aload_n 0, 1) := dk_42 (dk_at dksX5_goes_1 12 rfl rfl)
theorem dX5_goes_36 : decode cX5_goes 36 = .ok (.iload_n 1, 1) := dk_27 (dk_at dksX5_goes_1 13 rfl rfl)
theorem dX5_goes_37 : decode cX5_goes 37 = .ok (.iload_n 2, 1) := dk_28 (dk_at dksX5_goes_1 14 rfl rfl)
theorem dX5_goes_38 : decode cX5_goes 38 = .ok (.aload_n 0, 1) := dk_42 (dk_at dksX5_goes_1 15 rfl rfl)
theorem dX5_goes_39 : decode cX5_goes 39 = .ok (.getfield 33, 3) := dk_180 0 33 (dk_at dksX5_goes_1 16 rfl rfl)
theorem dX5_goes_42 : decode cX5_goes 42 = .ok (.bipush 13, 2) := dk_16 13 (dk_at dksX5_goes_1 19 rfl rfl)
theorem dX5_goes_44 : decode cX5_goes 44 = .ok (.iload_n 3, 1) := dk_29 (dk_at dksX5_goes_1 21 rfl rfl)
theorem dX5_goes_45 : decode cX5_goes 45 = .ok (.iadd, 1) := dk_96 (dk_at dksX5_goes_1 22 rfl rfl)
theorem dX5_goes_46 : decode cX5_goes 46 = .ok (.iaload, 1) := dk_46 (dk_at dksX5_goes_1 23 rfl rfl)
theorem dX5_goes_47 : decode cX5_goes 47 = .ok (.invokevirtual 289, 3) := dk_182 1 33 (dk_at dksX5_goes_2 0 rfl rfl)
theorem dX5_goes_50 : decode cX5_goes 50 = .ok (.aload_n 0, 1) := dk_42 (dk_at dksX5_goes_2 3 rfl rfl)
theorem dX5_goes_51 : decode cX5_goes 51 = .ok (.getfield 33, 3) := dk_180 0 33 (dk_at dksX5_goes_2 4 rfl rfl)
theorem dX5_goes_54 : decode cX5_goes 54 = .ok (.sipush 177, 3) := dk_17 0 177 (dk_at dksX5_goes_2 7 rfl rfl)
theorem dX5_goes_57 : decode cX5_goes 57 = .ok (.iload_n 2, 1) := dk_28 (dk_at dksX5_goes_2 10 rfl rfl)
theorem dX5_goes_58 : decode cX5_goes 58 = .ok (.iadd, 1) := dk_96 (dk_at dksX5_goes_2 11 rfl rfl)
theorem dX5_goes_59 : decode cX5_goes 59 = .ok (.iaload, 1) := dk_46 (dk_at dksX5_goes_2 12 rfl rfl)
theorem dX5_goes_60 : decode cX5_goes 60 = .ok (.ireturn, 1) := dk_172 (dk_at dksX5_goes_2 13 rfl rfl)
abbrev cX5_keep : ByteArray := prog_19_method_43_code
def yX5_keep : MethodName := ⟨RX5, "keep", "()V"⟩
def dkwX5_keep_3 : List UInt8 := [17, 1, 173, 27, 96, 46, 79, 132, 1, 1, 167, 255, 221, 42, 89, 180, 0, 249, 4, 96, 181, 0, 249, 177]
abbrev dktX5_keep_3 : List UInt8 := dkwX5_keep_3 ++ []
def dkwX5_keep_2 : List UInt8 := [17, 37, 183, 162, 0, 34, 42, 180, 0, 51, 17, 37, 183, 42, 180, 0, 249, 104, 27, 96, 42, 180, 0, 33]
abbrev dktX5_keep_2 : List UInt8 := dkwX5_keep_2 ++ dktX5_keep_3
def dkwX5_keep_1 : List UInt8 := [180, 0, 51, 27, 17, 37, 183, 96, 46, 79, 132, 1, 1, 167, 255, 230, 42, 8, 181, 0, 249, 3, 60, 27]
abbrev dktX5_keep_1 : List UInt8 := dkwX5_keep_1 ++ dktX5_keep_2
def dkwX5_keep_0 : List UInt8 := [42, 180, 0, 249, 16, 6, 160, 0, 39, 3, 60, 27, 19, 1, 26, 162, 0, 25, 42, 180, 0, 51, 27, 42]
abbrev dktX5_keep_0 : List UInt8 := dkwX5_keep_0 ++ dktX5_keep_1
theorem dksX5_keep_0 : cX5_keep.data.toList.drop 0 = dktX5_keep_0 := by decide +kernel
theorem dksX5_keep_1 : cX5_keep.data.toList.drop 24 = dktX5_keep_1 := dk_seg dksX5_keep_0 24 rfl rfl
theorem dksX5_keep_2 : cX5_keep.data.toList.drop 48 = dktX5_keep_2 := dk_seg dksX5_keep_1 24 rfl rfl
theorem dksX5_keep_3 : cX5_keep.data.toList.drop 72 = dktX5_keep_3 := dk_seg dksX5_keep_2 24 rfl rfl
theorem dX5_keep_0 : decode cX5_keep 0 = .ok (.aload_n 0, 1) := dk_42 (dk_at dksX5_keep_0 0 rfl rfl)
theorem dX5_keep_1 : decode cX5_keep 1 = .ok (.getfield 249, 3) := dk_180 0 249 (dk_at dksX5_keep_0 1 rfl rfl)
theorem dX5_keep_4 : decode cX5_keep 4 = .ok (.bipush 6, 2) := dk_16 6 (dk_at dksX5_keep_0 4 rfl rfl)
theorem dX5_keep_6 : decode cX5_keep 6 = .ok (.if_icmp .ne 39, 3) := dk_160 0 39 (dk_at dksX5_keep_0 6 rfl rfl)
theorem dX5_keep_9 : decode cX5_keep 9 = .ok (.iconst 0, 1) := dk_3 (dk_at dksX5_keep_0 9 rfl rfl)
theorem dX5_keep_10 : decode cX5_keep 10 = .ok (.istore_n 1, 1) := dk_60 (dk_at dksX5_keep_0 10 rfl rfl)
theorem dX5_keep_11 : decode cX5_keep 11 = .ok (.iload_n 1, 1) := dk_27 (dk_at dksX5_keep_0 11 rfl rfl)
theorem dX5_keep_12 : decode cX5_keep 12 = .ok (.ldc_w 282, 3) := dk_19 1 26 (dk_at dksX5_keep_0 12 rfl rfl)
theorem dX5_keep_15 : decode cX5_keep 15 = .ok (.if_icmp .ge 25, 3) := dk_162 0 25 (dk_at dksX5_keep_0 15 rfl rfl)
theorem dX5_keep_18 : decode cX5_keep 18 = .ok (.aload_n 0, 1) := dk_42 (dk_at dksX5_keep_0 18 rfl rfl)
theorem dX5_keep_19 : decode cX5_keep 19 = .ok (.getfield 51, 3) := dk_180 0 51 (dk_at dksX5_keep_0 19 rfl rfl)
theorem dX5_keep_22 : decode cX5_keep 22 = .ok (.iload_n 1, 1) := dk_27 (dk_at dksX5_keep_0 22 rfl rfl)
theorem dX5_keep_23 : decode cX5_keep 23 = .ok (.aload_n 0, 1) := dk_42 (dk_at dksX5_keep_0 23 rfl rfl)
theorem dX5_keep_24 : decode cX5_keep 24 = .ok (.getfield 51, 3) := dk_180 0 51 (dk_at dksX5_keep_1 0 rfl rfl)
theorem dX5_keep_27 : decode cX5_keep 27 = .ok (.iload_n 1, 1) := dk_27 (dk_at dksX5_keep_1 3 rfl rfl)
theorem dX5_keep_28 : decode cX5_keep 28 = .ok (.sipush 9655, 3) := dk_17 37 183 (dk_at dksX5_keep_1 4 rfl rfl)
theorem dX5_keep_31 : decode cX5_keep 31 = .ok (.iadd, 1) := dk_96 (dk_at dksX5_keep_1 7 rfl rfl)
theorem dX5_keep_32 : decode cX5_keep 32 = .ok (.iaload, 1) := dk_46 (dk_at dksX5_keep_1 8 rfl rfl)
theorem dX5_keep_33 : decode cX5_keep 33 = .ok (.iastore, 1) := dk_79 (dk_at dksX5_keep_1 9 rfl rfl)
theorem dX5_keep_34 : decode cX5_keep 34 = .ok (.iinc 1 1, 3) := dk_132 1 1 (dk_at dksX5_keep_1 10 rfl rfl)
theorem dX5_keep_37 : decode cX5_keep 37 = .ok (.goto (-26), 3) := dk_167 255 230 (dk_at dksX5_keep_1 13 rfl rfl)
theorem dX5_keep_40 : decode cX5_keep 40 = .ok (.aload_n 0, 1) := dk_42 (dk_at dksX5_keep_1 16 rfl rfl)
theorem dX5_keep_41 : decode cX5_keep 41 = .ok (.iconst 5, 1) := dk_8 (dk_at dksX5_keep_1 17 rfl rfl)
theorem dX5_keep_42 : decode cX5_keep 42 = .ok (.putfield 249, 3) := dk_181 0 249 (dk_at dksX5_keep_1 18 rfl rfl)
theorem dX5_keep_45 : decode cX5_keep 45 = .ok (.iconst 0, 1) := dk_3 (dk_at dksX5_keep_1 21 rfl rfl)
theorem dX5_keep_46 : decode cX5_keep 46 = .ok (.istore_n 1, 1) := dk_60 (dk_at dksX5_keep_1 22 rfl rfl)
theorem dX5_keep_47 : decode cX5_keep 47 = .ok (.iload_n 1, 1) := dk_27 (dk_at dksX5_keep_1 23 rfl rfl)
theorem dX5_keep_48 : decode cX5_keep 48 = .ok (.sipush 9655, 3) := dk_17 37 183 (dk_at dksX5_keep_2 0 rfl rfl)
theorem dX5_keep_51 : decode cX5_keep 51 = .ok (.if_icmp .ge 34, 3) := dk_162 0 34 (dk_at dksX5_keep_2 3 rfl rfl)
theorem dX5_keep_54 : decode cX5_keep 54 = .ok (.aload_n 0, 1) := dk_42 (dk_at dksX5_keep_2 6 rfl rfl)
theorem dX5_keep_55 : decode cX5_keep 55 = .ok (.getfield 51, 3) := dk_180 0 51 (dk_at dksX5_keep_2 7 rfl rfl)
theorem dX5_keep_58 : decode cX5_keep 58 = .ok (.sipush 9655, 3) := dk_17 37 183 (dk_at dksX5_keep_2 10 rfl rfl)
theorem dX5_keep_61 : decode cX5_keep 61 = .ok (.aload_n 0, 1) := dk_42 (dk_at dksX5_keep_2 13 rfl rfl)
theorem dX5_keep_62 : decode cX5_keep 62 = .ok (.getfield 249, 3) := dk_180 0 249 (dk_at dksX5_keep_2 14 rfl rfl)
theorem dX5_keep_65 : decode cX5_keep 65 = .ok (.imul, 1) := dk_104 (dk_at dksX5_keep_2 17 rfl rfl)
theorem dX5_keep_66 : decode cX5_keep 66 = .ok (.iload_n 1, 1) := dk_27 (dk_at dksX5_keep_2 18 rfl rfl)
theorem dX5_keep_67 : decode cX5_keep 67 = .ok (.iadd, 1) := dk_96 (dk_at dksX5_keep_2 19 rfl rfl)
theorem dX5_keep_68 : decode cX5_keep 68 = .ok (.aload_n 0, 1) := dk_42 (dk_at dksX5_keep_2 20 rfl rfl)
theorem dX5_keep_69 : decode cX5_keep 69 = .ok (.getfield 33, 3) := dk_180 0 33 (dk_at dksX5_keep_2 21 rfl rfl)
theorem dX5_keep_72 : decode cX5_keep 72 = .ok (.sipush 429, 3) := dk_17 1 173 (dk_at dksX5_keep_3 0 rfl rfl)
theorem dX5_keep_75 : decode cX5_keep 75 = .ok (.iload_n 1, 1) := dk_27 (dk_at dksX5_keep_3 3 rfl rfl)
theorem dX5_keep_76 : decode cX5_keep 76 = .ok (.iadd, 1) := dk_96 (dk_at dksX5_keep_3 4 rfl rfl)
theorem dX5_keep_77 : decode cX5_keep 77 = .ok (.iaload, 1) := dk_46 (dk_at dksX5_keep_3 5 rfl rfl)
theorem dX5_keep_78 : decode cX5_keep 78 = .ok (.iastore, 1) := dk_79 (dk_at dksX5_keep_3 6 rfl rfl)
theorem dX5_keep_79 : decode cX5_keep 79 = .ok (.iinc 1 1, 3) := dk_132 1 1 (dk_at dksX5_keep_3 7 rfl rfl)
theorem dX5_keep_82 : decode cX5_keep 82 = .ok (.goto (-35), 3) := dk_167 255 221 (dk_at dksX5_keep_3 10 rfl rfl)
theorem dX5_keep_85 : decode cX5_keep 85 = .ok (.aload_n 0, 1) := dk_42 (dk_at dksX5_keep_3 13 rfl rfl)
theorem dX5_keep_86 : decode cX5_keep 86 = .ok (.dup, 1) := dk_89 (dk_at dksX5_keep_3 14 rfl rfl)
theorem dX5_keep_87 : decode cX5_keep 87 = .ok (.getfield 249, 3) := dk_180 0 249 (dk_at dksX5_keep_3 15 rfl rfl)
theorem dX5_keep_90 : decode cX5_keep 90 = .ok (.iconst 1, 1) := dk_4 (dk_at dksX5_keep_3 18 rfl rfl)
theorem dX5_keep_91 : decode cX5_keep 91 = .ok (.iadd, 1) := dk_96 (dk_at dksX5_keep_3 19 rfl rfl)
theorem dX5_keep_92 : decode cX5_keep 92 = .ok (.putfield 249, 3) := dk_181 0 249 (dk_at dksX5_keep_3 20 rfl rfl)
theorem dX5_keep_95 : decode cX5_keep 95 = .ok (.return_, 1) := dk_177 (dk_at dksX5_keep_3 23 rfl rfl)
abbrev cX5_walks : ByteArray := prog_19_method_45_code
def yX5_walks : MethodName := ⟨RX5, "walks", "(III)V"⟩
def dkwX5_walks_10 : List UInt8 := [167, 255, 37, 42, 180, 0, 33, 17, 1, 174, 27, 96, 92, 46, 4, 96, 79, 177]
abbrev dktX5_walks_10 : List UInt8 := dkwX5_walks_10 ++ []
def dkwX5_walks_9 : List UInt8 := [17, 1, 180, 7, 21, 6, 104, 96, 6, 96, 42, 180, 0, 33, 17, 1, 173, 46, 79, 132, 5, 1]
abbrev dktX5_walks_9 : List UInt8 := dkwX5_walks_9 ++ dktX5_walks_10
def dkwX5_walks_8 : List UInt8 := [79, 42, 180, 0, 33, 17, 1, 180, 7, 21, 6, 104, 96, 5, 96, 21, 7, 79, 42, 180, 0, 33]
abbrev dktX5_walks_8 : List UInt8 := dkwX5_walks_8 ++ dktX5_walks_9
def dkwX5_walks_7 : List UInt8 := [7, 21, 6, 104, 96, 27, 4, 96, 79, 42, 180, 0, 33, 17, 1, 180, 7, 21, 6, 104, 96, 4, 96, 29]
abbrev dktX5_walks_7 : List UInt8 := dkwX5_walks_7 ++ dktX5_walks_8
def dkwX5_walks_6 : List UInt8 := [21, 6, 104, 96, 92, 46, 42, 180, 0, 33, 16, 7, 27, 96, 46, 96, 79, 42, 180, 0, 33, 17, 1, 180]
abbrev dktX5_walks_6 : List UInt8 := dkwX5_walks_6 ++ dktX5_walks_7
def dkwX5_walks_5 : List UInt8 := [21, 6, 104, 27, 96, 16, 9, 104, 96, 92, 46, 4, 96, 79, 42, 180, 0, 33, 17, 3, 244, 16, 9]
abbrev dktX5_walks_5 : List UInt8 := dkwX5_walks_5 ++ dktX5_walks_6
def dkwX5_walks_4 : List UInt8 := [104, 96, 21, 5, 96, 4, 100, 46, 21, 6, 184, 1, 27, 54, 7, 42, 180, 0, 33, 17, 9, 4, 16, 6]
abbrev dktX5_walks_4 : List UInt8 := dkwX5_walks_4 ++ dktX5_walks_5
def dkwX5_walks_3 : List UInt8 := [104, 96, 21, 5, 96, 4, 96, 46, 184, 1, 27, 167, 0, 26, 42, 180, 0, 33, 17, 0, 183, 16, 41, 28]
abbrev dktX5_walks_3 : List UInt8 := dkwX5_walks_3 ++ dktX5_walks_4
def dkwX5_walks_2 : List UInt8 := [167, 0, 61, 21, 5, 4, 96, 21, 4, 162, 0, 29, 21, 6, 42, 180, 0, 33, 17, 0, 183, 16, 41, 28]
abbrev dktX5_walks_2 : List UInt8 := dkwX5_walks_2 ++ dktX5_walks_3
def dkwX5_walks_1 : List UInt8 := [180, 0, 33, 17, 0, 183, 16, 41, 28, 104, 96, 21, 5, 96, 46, 54, 6, 21, 4, 4, 160, 0, 7, 3]
abbrev dktX5_walks_1 : List UInt8 := dkwX5_walks_1 ++ dktX5_walks_2
def dkwX5_walks_0 : List UInt8 := [42, 180, 0, 33, 17, 0, 177, 28, 96, 46, 54, 4, 3, 54, 5, 21, 5, 21, 4, 162, 0, 218, 42]
abbrev dktX5_walks_0 : List UInt8 := dkwX5_walks_0 ++ dktX5_walks_1
theorem dksX5_walks_0 : cX5_walks.data.toList.drop 0 = dktX5_walks_0 := by decide +kernel
theorem dksX5_walks_1 : cX5_walks.data.toList.drop 23 = dktX5_walks_1 := dk_seg dksX5_walks_0 23 rfl rfl
theorem dksX5_walks_2 : cX5_walks.data.toList.drop 47 = dktX5_walks_2 := dk_seg dksX5_walks_1 24 rfl rfl
theorem dksX5_walks_3 : cX5_walks.data.toList.drop 71 = dktX5_walks_3 := dk_seg dksX5_walks_2 24 rfl rfl
theorem dksX5_walks_4 : cX5_walks.data.toList.drop 95 = dktX5_walks_4 := dk_seg dksX5_walks_3 24 rfl rfl
theorem dksX5_walks_5 : cX5_walks.data.toList.drop 119 = dktX5_walks_5 := dk_seg dksX5_walks_4 24 rfl rfl
theorem dksX5_walks_6 : cX5_walks.data.toList.drop 142 = dktX5_walks_6 := dk_seg dksX5_walks_5 23 rfl rfl
theorem dksX5_walks_7 : cX5_walks.data.toList.drop 166 = dktX5_walks_7 := dk_seg dksX5_walks_6 24 rfl rfl
theorem dksX5_walks_8 : cX5_walks.data.toList.drop 190 = dktX5_walks_8 := dk_seg dksX5_walks_7 24 rfl rfl
theorem dksX5_walks_9 : cX5_walks.data.toList.drop 212 = dktX5_walks_9 := dk_seg dksX5_walks_8 22 rfl rfl
theorem dksX5_walks_10 : cX5_walks.data.toList.drop 234 = dktX5_walks_10 := dk_seg dksX5_walks_9 22 rfl rfl
theorem dX5_walks_0 : decode cX5_walks 0 = .ok (.aload_n 0, 1) := dk_42 (dk_at dksX5_walks_0 0 rfl rfl)
theorem dX5_walks_1 : decode cX5_walks 1 = .ok (.getfield 33, 3) := dk_180 0 33 (dk_at dksX5_walks_0 1 rfl rfl)
theorem dX5_walks_4 : decode cX5_walks 4 = .ok (.sipush 177, 3) := dk_17 0 177 (dk_at dksX5_walks_0 4 rfl rfl)
theorem dX5_walks_7 : decode cX5_walks 7 = .ok (.iload_n 2, 1) := dk_28 (dk_at dksX5_walks_0 7 rfl rfl)
theorem dX5_walks_8 : decode cX5_walks 8 = .ok (.iadd, 1) := dk_96 (dk_at dksX5_walks_0 8 rfl rfl)
theorem dX5_walks_9 : decode cX5_walks 9 = .ok (.iaload, 1) := dk_46 (dk_at dksX5_walks_0 9 rfl rfl)
theorem dX5_walks_10 : decode cX5_walks 10 = .ok (.istore 4, 2) := dk_54 4 (dk_at dksX5_walks_0 10 rfl rfl)
theorem dX5_walks_12 : decode cX5_walks 12 = .ok (.iconst 0, 1) := dk_3 (dk_at dksX5_walks_0 12 rfl rfl)
theorem dX5_walks_13 : decode cX5_walks 13 = .ok (.istore 5, 2) := dk_54 5 (dk_at dksX5_walks_0 13 rfl rfl)
theorem dX5_walks_15 : decode cX5_walks 15 = .ok (.iload 5, 2) := dk_21 5 (dk_at dksX5_walks_0 15 rfl rfl)
theorem dX5_walks_17 : decode cX5_walks 17 = .ok (.iload 4, 2) := dk_21 4 (dk_at dksX5_walks_0 17 rfl rfl)
theorem dX5_walks_19 : decode cX5_walks 19 = .ok (.if_icmp .ge 218, 3) := dk_162 0 218 (dk_at dksX5_walks_0 19 rfl rfl)
theorem dX5_walks_22 : decode cX5_walks 22 = .ok (.aload_n 0, 1) := dk_42 (dk_at dksX5_walks_0 22 rfl rfl)
theorem dX5_walks_23 : decode cX5_walks 23 = .ok (.getfield 33, 3) := dk_180 0 33 (dk_at dksX5_walks_1 0 rfl rfl)
theorem dX5_walks_26 : decode cX5_walks 26 = .ok (.sipush 183, 3) := dk_17 0 183 (dk_at dksX5_walks_1 3 rfl rfl)
theorem dX5_walks_29 : decode cX5_walks 29 = .ok (.bipush 41, 2) := dk_16 41 (dk_at dksX5_walks_1 6 rfl rfl)
theorem dX5_walks_31 : decode cX5_walks 31 = .ok (.iload_n 2, 1) := dk_28 (dk_at dksX5_walks_1 8 rfl rfl)
theorem dX5_walks_32 : decode cX5_walks 32 = .ok (.imul, 1) := dk_104 (dk_at dksX5_walks_1 9 rfl rfl)
theorem dX5_walks_33 : decode cX5_walks 33 = .ok (.iadd, 1) := dk_96 (dk_at dksX5_walks_1 10 rfl rfl)
theorem dX5_walks_34 : decode cX5_walks 34 = .ok (.iload 5, 2) := dk_21 5 (dk_at dksX5_walks_1 11 rfl rfl)
theorem dX5_walks_36 : decode cX5_walks 36 = .ok (.iadd, 1) := dk_96 (dk_at dksX5_walks_1 13 rfl rfl)
theorem dX5_walks_37 : decode cX5_walks 37 = .ok (.iaload, 1) := dk_46 (dk_at dksX5_walks_1 14 rfl rfl)
theorem dX5_walks_38 : decode cX5_walks 38 = .ok (.istore 6, 2) := dk_54 6 (dk_at dksX5_walks_1 15 rfl rfl)
theorem dX5_walks_40 : decode cX5_walks 40 = .ok (.iload 4, 2) := dk_21 4 (dk_at dksX5_walks_1 17 rfl rfl)
theorem dX5_walks_42 : decode cX5_walks 42 = .ok (.iconst 1, 1) := dk_4 (dk_at dksX5_walks_1 19 rfl rfl)
theorem dX5_walks_43 : decode cX5_walks 43 = .ok (.if_icmp .ne 7, 3) := dk_160 0 7 (dk_at dksX5_walks_1 20 rfl rfl)
theorem dX5_walks_46 : decode cX5_walks 46 = .ok (.iconst 0, 1) := dk_3 (dk_at dksX5_walks_1 23 rfl rfl)
theorem dX5_walks_47 : decode cX5_walks 47 = .ok (.goto 61, 3) := dk_167 0 61 (dk_at dksX5_walks_2 0 rfl rfl)
theorem dX5_walks_50 : decode cX5_walks 50 = .ok (.iload 5, 2) := dk_21 5 (dk_at dksX5_walks_2 3 rfl rfl)
theorem dX5_walks_52 : decode cX5_walks 52 = .ok (.iconst 1, 1) := dk_4 (dk_at dksX5_walks_2 5 rfl rfl)
theorem dX5_walks_53 : decode cX5_walks 53 = .ok (.iadd, 1) := dk_96 (dk_at dksX5_walks_2 6 rfl rfl)
theorem dX5_walks_54 : decode cX5_walks 54 = .ok (.iload 4, 2) := dk_21 4 (dk_at dksX5_walks_2 7 rfl rfl)
theorem dX5_walks_56 : decode cX5_walks 56 = .ok (.if_icmp .ge 29, 3) := dk_162 0 29 (dk_at dksX5_walks_2 9 rfl rfl)
theorem dX5_walks_59 : decode cX5_walks 59 = .ok (.iload 6, 2) := dk_21 6 (dk_at dksX5_walks_2 12 rfl rfl)
theorem dX5_walks_61 : decode cX5_walks 61 = .ok (.aload_n 0, 1) := dk_42 (dk_at dksX5_walks_2 14 rfl rfl)
theorem dX5_walks_62 : decode cX5_walks 62 = .ok (.getfield 33, 3) := dk_180 0 33 (dk_at dksX5_walks_2 15 rfl rfl)
theorem dX5_walks_65 : decode cX5_walks 65 = .ok (.sipush 183, 3) := dk_17 0 183 (dk_at dksX5_walks_2 18 rfl rfl)
theorem dX5_walks_68 : decode cX5_walks 68 = .ok (.bipush 41, 2) := dk_16 41 (dk_at dksX5_walks_2 21 rfl rfl)
theorem dX5_walks_70 : decode cX5_walks 70 = .ok (.iload_n 2, 1) := dk_28 (dk_at dksX5_walks_2 23 rfl rfl)
theorem dX5_walks_71 : decode cX5_walks 71 = .ok (.imul, 1) := dk_104 (dk_at dksX5_walks_3 0 rfl rfl)
theorem dX5_walks_72 : decode cX5_walks 72 = .ok (.iadd, 1) := dk_96 (dk_at dksX5_walks_3 1 rfl rfl)
theorem dX5_walks_73 : decode cX5_walks 73 = .ok (.iload 5, 2) := dk_21 5 (dk_at dksX5_walks_3 2 rfl rfl)
theorem dX5_walks_75 : decode cX5_walks 75 = .ok (.iadd, 1) := dk_96 (dk_at dksX5_walks_3 4 rfl rfl)
theorem dX5_walks_76 : decode cX5_walks 76 = .ok (.iconst 1, 1) := dk_4 (dk_at dksX5_walks_3 5 rfl rfl)
theorem dX5_walks_77 : decode cX5_walks 77 = .ok (.iadd, 1) := dk_96 (dk_at dksX5_walks_3 6 rfl rfl)
theorem dX5_walks_78 : decode cX5_walks 78 = .ok (.iaload, 1) := dk_46 (dk_at dksX5_walks_3 7 rfl rfl)
theorem dX5_walks_79 : decode cX5_walks 79 = .ok (.invokestatic 283, 3) := dk_184 1 27 (dk_at dksX5_walks_3 8 rfl rfl)
theorem dX5_walks_82 : decode cX5_walks 82 = .ok (.goto 26, 3) := dk_167 0 26 (dk_at dksX5_walks_3 11 rfl rfl)
theorem dX5_walks_85 : decode cX5_walks 85 = .ok (.aload_n 0, 1) := dk_42 (dk_at dksX5_walks_3 14 rfl rfl)
theorem dX5_walks_86 : decode cX5_walks 86 = .ok (.getfield 33, 3) := dk_180 0 33 (dk_at dksX5_walks_3 15 rfl rfl)
theorem dX5_walks_89 : decode cX5_walks 89 = .ok (.sipush 183, 3) := dk_17 0 183 (dk_at dksX5_walks_3 18 rfl rfl)
theorem dX5_walks_92 : decode cX5_walks 92 = .ok (.bipush 41, 2) := dk_16 41 (dk_at dksX5_walks_3 21 rfl rfl)
theorem dX5_walks_94 : decode cX5_walks 94 = .ok (.iload_n 2, 1) := dk_28 (dk_at dksX5_walks_3 23 rfl rfl)
theorem dX5_walks_95 : decode cX5_walks 95 = .ok (.imul, 1) := dk_104 (dk_at dksX5_walks_4 0 rfl rfl)
theorem dX5_walks_96 : decode cX5_walks 96 = .ok (.iadd, 1) := dk_96 (dk_at dksX5_walks_4 1 rfl rfl)
theorem dX5_walks_97 : decode cX5_walks 97 = .ok (.iload 5, 2) := dk_21 5 (dk_at dksX5_walks_4 2 rfl rfl)
theorem dX5_walks_99 : decode cX5_walks 99 = .ok (.iadd, 1) := dk_96 (dk_at dksX5_walks_4 4 rfl rfl)
theorem dX5_walks_100 : decode cX5_walks 100 = .ok (.iconst 1, 1) := dk_4 (dk_at dksX5_walks_4 5 rfl rfl)
theorem dX5_walks_101 : decode cX5_walks 101 = .ok (.isub, 1) := dk_100 (dk_at dksX5_walks_4 6 rfl rfl)
theorem dX5_walks_102 : decode cX5_walks 102 = .ok (.iaload, 1) := dk_46 (dk_at dksX5_walks_4 7 rfl rfl)
theorem dX5_walks_103 : decode cX5_walks 103 = .ok (.iload 6, 2) := dk_21 6 (dk_at dksX5_walks_4 8 rfl rfl)
theorem dX5_walks_105 : decode cX5_walks 105 = .ok (.invokestatic 283, 3) := dk_184 1 27 (dk_at dksX5_walks_4 10 rfl rfl)
theorem dX5_walks_108 : decode cX5_walks 108 = .ok (.istore 7, 2) := dk_54 7 (dk_at dksX5_walks_4 13 rfl rfl)
theorem dX5_walks_110 : decode cX5_walks 110 = .ok (.aload_n 0, 1) := dk_42 (dk_at dksX5_walks_4 15 rfl rfl)
theorem dX5_walks_111 : decode cX5_walks 111 = .ok (.getfield 33, 3) := dk_180 0 33 (dk_at dksX5_walks_4 16 rfl rfl)
theorem dX5_walks_114 : decode cX5_walks 114 = .ok (.sipush 2308, 3) := dk_17 9 4 (dk_at dksX5_walks_4 19 rfl rfl)
theorem dX5_walks_117 : decode cX5_walks 117 = .ok (.bipush 6, 2) := dk_16 6 (dk_at dksX5_walks_4 22 rfl rfl)
theorem dX5_walks_119 : decode cX5_walks 119 = .ok (.iload 6, 2) := dk_21 6 (dk_at dksX5_walks_5 0 rfl rfl)
theorem dX5_walks_121 : decode cX5_walks 121 = .ok (.imul, 1) := dk_104 (dk_at dksX5_walks_5 2 rfl rfl)
theorem dX5_walks_122 : decode cX5_walks 122 = .ok (.iload_n 1, 1) := dk_27 (dk_at dksX5_walks_5 3 rfl rfl)
theorem dX5_walks_123 : decode cX5_walks 123 = .ok (.iadd, 1) := dk_96 (dk_at dksX5_walks_5 4 rfl rfl)
theorem dX5_walks_124 : decode cX5_walks 124 = .ok (.bipush 9, 2) := dk_16 9 (dk_at dksX5_walks_5 5 rfl rfl)
theorem dX5_walks_126 : decode cX5_walks 126 = .ok (.imul, 1) := dk_104 (dk_at dksX5_walks_5 7 rfl rfl)
theorem dX5_walks_127 : decode cX5_walks 127 = .ok (.iadd, 1) := dk_96 (dk_at dksX5_walks_5 8 rfl rfl)
theorem dX5_walks_128 : decode cX5_walks 128 = .ok (.dup2, 1) := dk_92 (dk_at dksX5_walks_5 9 rfl rfl)
theorem dX5_walks_129 : decode cX5_walks 129 = .ok (.iaload, 1) := dk_46 (dk_at dksX5_walks_5 10 rfl rfl)
theorem dX5_walks_130 : decode cX5_walks 130 = .ok (.iconst 1, 1) := dk_4 (dk_at dksX5_walks_5 11 rfl rfl)
theorem dX5_walks_131 : decode cX5_walks 131 = .ok (.iadd, 1) := dk_96 (dk_at dksX5_walks_5 12 rfl rfl)
theorem dX5_walks_132 : decode cX5_walks 132 = .ok (.iastore, 1) := dk_79 (dk_at dksX5_walks_5 13 rfl rfl)
theorem dX5_walks_133 : decode cX5_walks 133 = .ok (.aload_n 0, 1) := dk_42 (dk_at dksX5_walks_5 14 rfl rfl)
theorem dX5_walks_134 : decode cX5_walks 134 = .ok (.getfield 33, 3) := dk_180 0 33 (dk_at dksX5_walks_5 15 rfl rfl)
theorem dX5_walks_137 : decode cX5_walks 137 = .ok (.sipush 1012, 3) := dk_17 3 244 (dk_at dksX5_walks_5 18 rfl rfl)
theorem dX5_walks_140 : decode cX5_walks 140 = .ok (.bipush 9, 2) := dk_16 9 (dk_at dksX5_walks_5 21 rfl rfl)
theorem dX5_walks_142 : decode cX5_walks 142 = .ok (.iload 6, 2) := dk_21 6 (dk_at dksX5_walks_6 0 rfl rfl)
theorem dX5_walks_144 : decode cX5_walks 144 = .ok (.imul, 1) := dk_104 (dk_at dksX5_walks_6 2 rfl rfl)
theorem dX5_walks_145 : decode cX5_walks 145 = .ok (.iadd, 1) := dk_96 (dk_at dksX5_walks_6 3 rfl rfl)
theorem dX5_walks_146 : decode cX5_walks 146 = .ok (.dup2, 1) := dk_92 (dk_at dksX5_walks_6 4 rfl rfl)
theorem dX5_walks_147 : decode cX5_walks 147 = .ok (.iaload, 1) := dk_46 (dk_at dksX5_walks_6 5 rfl rfl)
theorem dX5_walks_148 : decode cX5_walks 148 = .ok (.aload_n 0, 1) := dk_42 (dk_at dksX5_walks_6 6 rfl rfl)
theorem dX5_walks_149 : decode cX5_walks 149 = .ok (.getfield 33, 3) := dk_180 0 33 (dk_at dksX5_walks_6 7 rfl rfl)
theorem dX5_walks_152 : decode cX5_walks 152 = .ok (.bipush 7, 2) := dk_16 7 (dk_at dksX5_walks_6 10 rfl rfl)
theorem dX5_walks_154 : decode cX5_walks 154 = .ok (.iload_n 1, 1) := dk_27 (dk_at dksX5_walks_6 12 rfl rfl)
theorem dX5_walks_155 : decode cX5_walks 155 = .ok (.iadd, 1) := dk_96 (dk_at dksX5_walks_6 13 rfl rfl)
theorem dX5_walks_156 : decode cX5_walks 156 = .ok (.iaload, 1) := dk_46 (dk_at dksX5_walks_6 14 rfl rfl)
theorem dX5_walks_157 : decode cX5_walks 157 = .ok (.iadd, 1) := dk_96 (dk_at dksX5_walks_6 15 rfl rfl)
theorem dX5_walks_158 : decode cX5_walks 158 = .ok (.iastore, 1) := dk_79 (dk_at dksX5_walks_6 16 rfl rfl)
theorem dX5_walks_159 : decode cX5_walks 159 = .ok (.aload_n 0, 1) := dk_42 (dk_at dksX5_walks_6 17 rfl rfl)
theorem dX5_walks_160 : decode cX5_walks 160 = .ok (.getfield 33, 3) := dk_180 0 33 (dk_at dksX5_walks_6 18 rfl rfl)
theorem dX5_walks_163 : decode cX5_walks 163 = .ok (.sipush 436, 3) := dk_17 1 180 (dk_at dksX5_walks_6 21 rfl rfl)
theorem dX5_walks_166 : decode cX5_walks 166 = .ok (.iconst 4, 1) := dk_7 (dk_at dksX5_walks_7 0 rfl rfl)
theorem dX5_walks_167 : decode cX5_walks 167 = .ok (.iload 6, 2) := dk_21 6 (dk_at dksX5_walks_7 1 rfl rfl)
theorem dX5_walks_169 : decode cX5_walks 169 = .ok (.imul, 1) := dk_104 (dk_at dksX5_walks_7 3 rfl rfl)
theorem dX5_walks_170 : decode cX5_walks 170 = .ok (.iadd, 1) := dk_96 (dk_at dksX5_walks_7 4 rfl rfl)
theorem dX5_walks_171 : decode cX5_walks 171 = .ok (.iload_n 1, 1) := dk_27 (dk_at dksX5_walks_7 5 rfl rfl)
theorem dX5_walks_172 : decode cX5_walks 172 = .ok (.iconst 1, 1) := dk_4 (dk_at dksX5_walks_7 6 rfl rfl)
theorem dX5_walks_173 : decode cX5_walks 173 = .ok (.iadd, 1) := dk_96 (dk_at dksX5_walks_7 7 rfl rfl)
theorem dX5_walks_174 : decode cX5_walks 174 = .ok (.iastore, 1) := dk_79 (dk_at dksX5_walks_7 8 rfl rfl)
theorem dX5_walks_175 : decode cX5_walks 175 = .ok (.aload_n 0, 1) := dk_42 (dk_at dksX5_walks_7 9 rfl rfl)
theorem dX5_walks_176 : decode cX5_walks 176 = .ok (.getfield 33, 3) := dk_180 0 33 (dk_at dksX5_walks_7 10 rfl rfl)
theorem dX5_walks_179 : decode cX5_walks 179 = .ok (.sipush 436, 3) := dk_17 1 180 (dk_at dksX5_walks_7 13 rfl rfl)
theorem dX5_walks_182 : decode cX5_walks 182 = .ok (.iconst 4, 1) := dk_7 (dk_at dksX5_walks_7 16 rfl rfl)
theorem dX5_walks_183 : decode cX5_walks 183 = .ok (.iload 6, 2) := dk_21 6 (dk_at dksX5_walks_7 17 rfl rfl)
theorem dX5_walks_185 : decode cX5_walks 185 = .ok (.imul, 1) := dk_104 (dk_at dksX5_walks_7 19 rfl rfl)
theorem dX5_walks_186 : decode cX5_walks 186 = .ok (.iadd, 1) := dk_96 (dk_at dksX5_walks_7 20 rfl rfl)
theorem dX5_walks_187 : decode cX5_walks 187 = .ok (.iconst 1, 1) := dk_4 (dk_at dksX5_walks_7 21 rfl rfl)
theorem dX5_walks_188 : decode cX5_walks 188 = .ok (.iadd, 1) := dk_96 (dk_at dksX5_walks_7 22 rfl rfl)
theorem dX5_walks_189 : decode cX5_walks 189 = .ok (.iload_n 3, 1) := dk_29 (dk_at dksX5_walks_7 23 rfl rfl)
theorem dX5_walks_190 : decode cX5_walks 190 = .ok (.iastore, 1) := dk_79 (dk_at dksX5_walks_8 0 rfl rfl)
theorem dX5_walks_191 : decode cX5_walks 191 = .ok (.aload_n 0, 1) := dk_42 (dk_at dksX5_walks_8 1 rfl rfl)
theorem dX5_walks_192 : decode cX5_walks 192 = .ok (.getfield 33, 3) := dk_180 0 33 (dk_at dksX5_walks_8 2 rfl rfl)
theorem dX5_walks_195 : decode cX5_walks 195 = .ok (.sipush 436, 3) := dk_17 1 180 (dk_at dksX5_walks_8 5 rfl rfl)
theorem dX5_walks_198 : decode cX5_walks 198 = .ok (.iconst 4, 1) := dk_7 (dk_at dksX5_walks_8 8 rfl rfl)
theorem dX5_walks_199 : decode cX5_walks 199 = .ok (.iload 6, 2) := dk_21 6 (dk_at dksX5_walks_8 9 rfl rfl)
theorem dX5_walks_201 : decode cX5_walks 201 = .ok (.imul, 1) := dk_104 (dk_at dksX5_walks_8 11 rfl rfl)
theorem dX5_walks_202 : decode cX5_walks 202 = .ok (.iadd, 1) := dk_96 (dk_at dksX5_walks_8 12 rfl rfl)
theorem dX5_walks_203 : decode cX5_walks 203 = .ok (.iconst 2, 1) := dk_5 (dk_at dksX5_walks_8 13 rfl rfl)
theorem dX5_walks_204 : decode cX5_walks 204 = .ok (.iadd, 1) := dk_96 (dk_at dksX5_walks_8 14 rfl rfl)
theorem dX5_walks_205 : decode cX5_walks 205 = .ok (.iload 7, 2) := dk_21 7 (dk_at dksX5_walks_8 15 rfl rfl)
theorem dX5_walks_207 : decode cX5_walks 207 = .ok (.iastore, 1) := dk_79 (dk_at dksX5_walks_8 17 rfl rfl)
theorem dX5_walks_208 : decode cX5_walks 208 = .ok (.aload_n 0, 1) := dk_42 (dk_at dksX5_walks_8 18 rfl rfl)
theorem dX5_walks_209 : decode cX5_walks 209 = .ok (.getfield 33, 3) := dk_180 0 33 (dk_at dksX5_walks_8 19 rfl rfl)
theorem dX5_walks_212 : decode cX5_walks 212 = .ok (.sipush 436, 3) := dk_17 1 180 (dk_at dksX5_walks_9 0 rfl rfl)
theorem dX5_walks_215 : decode cX5_walks 215 = .ok (.iconst 4, 1) := dk_7 (dk_at dksX5_walks_9 3 rfl rfl)
theorem dX5_walks_216 : decode cX5_walks 216 = .ok (.iload 6, 2) := dk_21 6 (dk_at dksX5_walks_9 4 rfl rfl)
theorem dX5_walks_218 : decode cX5_walks 218 = .ok (.imul, 1) := dk_104 (dk_at dksX5_walks_9 6 rfl rfl)
theorem dX5_walks_219 : decode cX5_walks 219 = .ok (.iadd, 1) := dk_96 (dk_at dksX5_walks_9 7 rfl rfl)
theorem dX5_walks_220 : decode cX5_walks 220 = .ok (.iconst 3, 1) := dk_6 (dk_at dksX5_walks_9 8 rfl rfl)
theorem dX5_walks_221 : decode cX5_walks 221 = .ok (.iadd, 1) := dk_96 (dk_at dksX5_walks_9 9 rfl rfl)
theorem dX5_walks_222 : decode cX5_walks 222 = .ok (.aload_n 0, 1) := dk_42 (dk_at dksX5_walks_9 10 rfl rfl)
theorem dX5_walks_223 : decode cX5_walks 223 = .ok (.getfield 33, 3) := dk_180 0 33 (dk_at dksX5_walks_9 11 rfl rfl)
theorem dX5_walks_226 : decode cX5_walks 226 = .ok (.sipush 429, 3) := dk_17 1 173 (dk_at dksX5_walks_9 14 rfl rfl)
theorem dX5_walks_229 : decode cX5_walks 229 = .ok (.iaload, 1) := dk_46 (dk_at dksX5_walks_9 17 rfl rfl)
theorem dX5_walks_230 : decode cX5_walks 230 = .ok (.iastore, 1) := dk_79 (dk_at dksX5_walks_9 18 rfl rfl)
theorem dX5_walks_231 : decode cX5_walks 231 = .ok (.iinc 5 1, 3) := dk_132 5 1 (dk_at dksX5_walks_9 19 rfl rfl)
theorem dX5_walks_234 : decode cX5_walks 234 = .ok (.goto (-219), 3) := dk_167 255 37 (dk_at dksX5_walks_10 0 rfl rfl)
theorem dX5_walks_237 : decode cX5_walks 237 = .ok (.aload_n 0, 1) := dk_42 (dk_at dksX5_walks_10 3 rfl rfl)
theorem dX5_walks_238 : decode cX5_walks 238 = .ok (.getfield 33, 3) := dk_180 0 33 (dk_at dksX5_walks_10 4 rfl rfl)
theorem dX5_walks_241 : decode cX5_walks 241 = .ok (.sipush 430, 3) := dk_17 1 174 (dk_at dksX5_walks_10 7 rfl rfl)
theorem dX5_walks_244 : decode cX5_walks 244 = .ok (.iload_n 1, 1) := dk_27 (dk_at dksX5_walks_10 10 rfl rfl)
theorem dX5_walks_245 : decode cX5_walks 245 = .ok (.iadd, 1) := dk_96 (dk_at dksX5_walks_10 11 rfl rfl)
theorem dX5_walks_246 : decode cX5_walks 246 = .ok (.dup2, 1) := dk_92 (dk_at dksX5_walks_10 12 rfl rfl)
theorem dX5_walks_247 : decode cX5_walks 247 = .ok (.iaload, 1) := dk_46 (dk_at dksX5_walks_10 13 rfl rfl)
theorem dX5_walks_248 : decode cX5_walks 248 = .ok (.iconst 1, 1) := dk_4 (dk_at dksX5_walks_10 14 rfl rfl)
theorem dX5_walks_249 : decode cX5_walks 249 = .ok (.iadd, 1) := dk_96 (dk_at dksX5_walks_10 15 rfl rfl)
theorem dX5_walks_250 : decode cX5_walks 250 = .ok (.iastore, 1) := dk_79 (dk_at dksX5_walks_10 16 rfl rfl)
theorem dX5_walks_251 : decode cX5_walks 251 = .ok (.return_, 1) := dk_177 (dk_at dksX5_walks_10 17 rfl rfl)
abbrev cX5_dirBetween : ByteArray := prog_19_method_42_code
def yX5_dirBetween : MethodName := ⟨RX5, "dirBetween", "(II)I"⟩
def dkwX5_dirBetween_1 : List UInt8 := [26, 100, 16, 12, 160, 0, 7, 5, 167, 0, 4, 6, 172]
abbrev dktX5_dirBetween_1 : List UInt8 := dkwX5_dirBetween_1 ++ []
def dkwX5_dirBetween_0 : List UInt8 := [27, 26, 100, 16, 244, 160, 0, 7, 3, 167, 0, 27, 27, 26, 100, 4, 160, 0, 7, 4, 167, 0, 16, 27]
abbrev dktX5_dirBetween_0 : List UInt8 := dkwX5_dirBetween_0 ++ dktX5_dirBetween_1
theorem dksX5_dirBetween_0 : cX5_dirBetween.data.toList.drop 0 = dktX5_dirBetween_0 := by decide +kernel
theorem dksX5_dirBetween_1 : cX5_dirBetween.data.toList.drop 24 = dktX5_dirBetween_1 := dk_seg dksX5_dirBetween_0 24 rfl rfl
theorem dX5_dirBetween_0 : decode cX5_dirBetween 0 = .ok (.iload_n 1, 1) := dk_27 (dk_at dksX5_dirBetween_0 0 rfl rfl)
theorem dX5_dirBetween_1 : decode cX5_dirBetween 1 = .ok (.iload_n 0, 1) := dk_26 (dk_at dksX5_dirBetween_0 1 rfl rfl)
theorem dX5_dirBetween_2 : decode cX5_dirBetween 2 = .ok (.isub, 1) := dk_100 (dk_at dksX5_dirBetween_0 2 rfl rfl)
theorem dX5_dirBetween_3 : decode cX5_dirBetween 3 = .ok (.bipush (-12), 2) := dk_16 244 (dk_at dksX5_dirBetween_0 3 rfl rfl)
theorem dX5_dirBetween_5 : decode cX5_dirBetween 5 = .ok (.if_icmp .ne 7, 3) := dk_160 0 7 (dk_at dksX5_dirBetween_0 5 rfl rfl)
theorem dX5_dirBetween_8 : decode cX5_dirBetween 8 = .ok (.iconst 0, 1) := dk_3 (dk_at dksX5_dirBetween_0 8 rfl rfl)
theorem dX5_dirBetween_9 : decode cX5_dirBetween 9 = .ok (.goto 27, 3) := dk_167 0 27 (dk_at dksX5_dirBetween_0 9 rfl rfl)
theorem dX5_dirBetween_12 : decode cX5_dirBetween 12 = .ok (.iload_n 1, 1) := dk_27 (dk_at dksX5_dirBetween_0 12 rfl rfl)
theorem dX5_dirBetween_13 : decode cX5_dirBetween 13 = .ok (.iload_n 0, 1) := dk_26 (dk_at dksX5_dirBetween_0 13 rfl rfl)
theorem dX5_dirBetween_14 : decode cX5_dirBetween 14 = .ok (.isub, 1) := dk_100 (dk_at dksX5_dirBetween_0 14 rfl rfl)
theorem dX5_dirBetween_15 : decode cX5_dirBetween 15 = .ok (.iconst 1, 1) := dk_4 (dk_at dksX5_dirBetween_0 15 rfl rfl)
theorem dX5_dirBetween_16 : decode cX5_dirBetween 16 = .ok (.if_icmp .ne 7, 3) := dk_160 0 7 (dk_at dksX5_dirBetween_0 16 rfl rfl)
theorem dX5_dirBetween_19 : decode cX5_dirBetween 19 = .ok (.iconst 1, 1) := dk_4 (dk_at dksX5_dirBetween_0 19 rfl rfl)
theorem dX5_dirBetween_20 : decode cX5_dirBetween 20 = .ok (.goto 16, 3) := dk_167 0 16 (dk_at dksX5_dirBetween_0 20 rfl rfl)
theorem dX5_dirBetween_23 : decode cX5_dirBetween 23 = .ok (.iload_n 1, 1) := dk_27 (dk_at dksX5_dirBetween_0 23 rfl rfl)
theorem dX5_dirBetween_24 : decode cX5_dirBetween 24 = .ok (.iload_n 0, 1) := dk_26 (dk_at dksX5_dirBetween_1 0 rfl rfl)
theorem dX5_dirBetween_25 : decode cX5_dirBetween 25 = .ok (.isub, 1) := dk_100 (dk_at dksX5_dirBetween_1 1 rfl rfl)
theorem dX5_dirBetween_26 : decode cX5_dirBetween 26 = .ok (.bipush 12, 2) := dk_16 12 (dk_at dksX5_dirBetween_1 2 rfl rfl)
theorem dX5_dirBetween_28 : decode cX5_dirBetween 28 = .ok (.if_icmp .ne 7, 3) := dk_160 0 7 (dk_at dksX5_dirBetween_1 4 rfl rfl)
theorem dX5_dirBetween_31 : decode cX5_dirBetween 31 = .ok (.iconst 2, 1) := dk_5 (dk_at dksX5_dirBetween_1 7 rfl rfl)
theorem dX5_dirBetween_32 : decode cX5_dirBetween 32 = .ok (.goto 4, 3) := dk_167 0 4 (dk_at dksX5_dirBetween_1 8 rfl rfl)
theorem dX5_dirBetween_35 : decode cX5_dirBetween 35 = .ok (.iconst 3, 1) := dk_6 (dk_at dksX5_dirBetween_1 11 rfl rfl)
theorem dX5_dirBetween_36 : decode cX5_dirBetween 36 = .ok (.ireturn, 1) := dk_172 (dk_at dksX5_dirBetween_1 12 rfl rfl)
abbrev cX5_days : ByteArray := prog_19_method_50_code
def yX5_days : MethodName := ⟨RX5, "days", "(I)I"⟩
def dkwX5_days_2 : List UInt8 := [132, 2, 1, 167, 255, 244, 42, 180, 0, 33, 17, 1, 173, 46, 172]
abbrev dktX5_days_2 : List UInt8 := dkwX5_days_2 ++ []
def dkwX5_days_1 : List UInt8 := [96, 17, 3, 231, 164, 0, 5, 2, 172, 42, 182, 1, 30, 3, 61, 28, 27, 162, 0, 13, 42, 182, 1, 44]
abbrev dktX5_days_1 : List UInt8 := dkwX5_days_1 ++ dktX5_days_2
def dkwX5_days_0 : List UInt8 := [42, 3, 181, 0, 1, 27, 4, 16, 20, 184, 0, 191, 153, 0, 19, 42, 180, 0, 33, 17, 1, 173, 46, 27]
abbrev dktX5_days_0 : List UInt8 := dkwX5_days_0 ++ dktX5_days_1
theorem dksX5_days_0 : cX5_days.data.toList.drop 0 = dktX5_days_0 := by decide +kernel
theorem dksX5_days_1 : cX5_days.data.toList.drop 24 = dktX5_days_1 := dk_seg dksX5_days_0 24 rfl rfl
theorem dksX5_days_2 : cX5_days.data.toList.drop 48 = dktX5_days_2 := dk_seg dksX5_days_1 24 rfl rfl
theorem dX5_days_0 : decode cX5_days 0 = .ok (.aload_n 0, 1) := dk_42 (dk_at dksX5_days_0 0 rfl rfl)
theorem dX5_days_1 : decode cX5_days 1 = .ok (.iconst 0, 1) := dk_3 (dk_at dksX5_days_0 1 rfl rfl)
theorem dX5_days_2 : decode cX5_days 2 = .ok (.putfield 1, 3) := dk_181 0 1 (dk_at dksX5_days_0 2 rfl rfl)
theorem dX5_days_5 : decode cX5_days 5 = .ok (.iload_n 1, 1) := dk_27 (dk_at dksX5_days_0 5 rfl rfl)
theorem dX5_days_6 : decode cX5_days 6 = .ok (.iconst 1, 1) := dk_4 (dk_at dksX5_days_0 6 rfl rfl)
theorem dX5_days_7 : decode cX5_days 7 = .ok (.bipush 20, 2) := dk_16 20 (dk_at dksX5_days_0 7 rfl rfl)
theorem dX5_days_9 : decode cX5_days 9 = .ok (.invokestatic 191, 3) := dk_184 0 191 (dk_at dksX5_days_0 9 rfl rfl)
theorem dX5_days_12 : decode cX5_days 12 = .ok (.ifCond .eq 19, 3) := dk_153 0 19 (dk_at dksX5_days_0 12 rfl rfl)
theorem dX5_days_15 : decode cX5_days 15 = .ok (.aload_n 0, 1) := dk_42 (dk_at dksX5_days_0 15 rfl rfl)
theorem dX5_days_16 : decode cX5_days 16 = .ok (.getfield 33, 3) := dk_180 0 33 (dk_at dksX5_days_0 16 rfl rfl)
theorem dX5_days_19 : decode cX5_days 19 = .ok (.sipush 429, 3) := dk_17 1 173 (dk_at dksX5_days_0 19 rfl rfl)
theorem dX5_days_22 : decode cX5_days 22 = .ok (.iaload, 1) := dk_46 (dk_at dksX5_days_0 22 rfl rfl)
theorem dX5_days_23 : decode cX5_days 23 = .ok (.iload_n 1, 1) := dk_27 (dk_at dksX5_days_0 23 rfl rfl)
theorem dX5_days_24 : decode cX5_days 24 = .ok (.iadd, 1) := dk_96 (dk_at dksX5_days_1 0 rfl rfl)
theorem dX5_days_25 : decode cX5_days 25 = .ok (.sipush 999, 3) := dk_17 3 231 (dk_at dksX5_days_1 1 rfl rfl)
theorem dX5_days_28 : decode cX5_days 28 = .ok (.if_icmp .le 5, 3) := dk_164 0 5 (dk_at dksX5_days_1 4 rfl rfl)
theorem dX5_days_31 : decode cX5_days 31 = .ok (.iconst (-1), 1) := dk_2 (dk_at dksX5_days_1 7 rfl rfl)
theorem dX5_days_32 : decode cX5_days 32 = .ok (.ireturn, 1) := dk_172 (dk_at dksX5_days_1 8 rfl rfl)
theorem dX5_days_33 : decode cX5_days 33 = .ok (.aload_n 0, 1) := dk_42 (dk_at dksX5_days_1 9 rfl rfl)
theorem dX5_days_34 : decode cX5_days 34 = .ok (.invokevirtual 286, 3) := dk_182 1 30 (dk_at dksX5_days_1 10 rfl rfl)
theorem dX5_days_37 : decode cX5_days 37 = .ok (.iconst 0, 1) := dk_3 (dk_at dksX5_days_1 13 rfl rfl)
theorem dX5_days_38 : decode cX5_days 38 = .ok (.istore_n 2, 1) := dk_61 (dk_at dksX5_days_1 14 rfl rfl)
theorem dX5_days_39 : decode cX5_days 39 = .ok (.iload_n 2, 1) := dk_28 (dk_at dksX5_days_1 15 rfl rfl)
theorem dX5_days_40 : decode cX5_days 40 = .ok (.iload_n 1, 1) := dk_27 (dk_at dksX5_days_1 16 rfl rfl)
theorem dX5_days_41 : decode cX5_days 41 = .ok (.if_icmp .ge 13, 3) := dk_162 0 13 (dk_at dksX5_days_1 17 rfl rfl)
theorem dX5_days_44 : decode cX5_days 44 = .ok (.aload_n 0, 1) := dk_42 (dk_at dksX5_days_1 20 rfl rfl)
theorem dX5_days_45 : decode cX5_days 45 = .ok (.invokevirtual 300, 3) := dk_182 1 44 (dk_at dksX5_days_1 21 rfl rfl)
theorem dX5_days_48 : decode cX5_days 48 = .ok (.iinc 2 1, 3) := dk_132 2 1 (dk_at dksX5_days_2 0 rfl rfl)
theorem dX5_days_51 : decode cX5_days 51 = .ok (.goto (-12), 3) := dk_167 255 244 (dk_at dksX5_days_2 3 rfl rfl)
theorem dX5_days_54 : decode cX5_days 54 = .ok (.aload_n 0, 1) := dk_42 (dk_at dksX5_days_2 6 rfl rfl)
theorem dX5_days_55 : decode cX5_days 55 = .ok (.getfield 33, 3) := dk_180 0 33 (dk_at dksX5_days_2 7 rfl rfl)
theorem dX5_days_58 : decode cX5_days 58 = .ok (.sipush 429, 3) := dk_17 1 173 (dk_at dksX5_days_2 10 rfl rfl)
theorem dX5_days_61 : decode cX5_days 61 = .ok (.iaload, 1) := dk_46 (dk_at dksX5_days_2 13 rfl rfl)
theorem dX5_days_62 : decode cX5_days 62 = .ok (.ireturn, 1) := dk_172 (dk_at dksX5_days_2 14 rfl rfl)
abbrev cX5_day : ByteArray := prog_19_method_48_code
def yX5_day : MethodName := ⟨RX5, "day", "()V"⟩
def dkwX5_day_5 : List UInt8 := [182, 1, 40, 132, 1, 1, 167, 255, 174, 177]
abbrev dktX5_day_5 : List UInt8 := dkwX5_day_5 ++ []
def dkwX5_day_4 : List UInt8 := [96, 6, 96, 46, 100, 42, 180, 0, 33, 16, 6, 46, 161, 0, 15, 42, 17, 1, 180, 7, 27, 104, 96, 7]
abbrev dktX5_day_4 : List UInt8 := dkwX5_day_4 ++ dktX5_day_5
def dkwX5_day_3 : List UInt8 := [104, 96, 46, 158, 0, 48, 42, 180, 0, 33, 17, 1, 173, 46, 42, 180, 0, 33, 17, 1, 180, 7, 27, 104]
abbrev dktX5_day_3 : List UInt8 := dkwX5_day_3 ++ dktX5_day_4
def dkwX5_day_2 : List UInt8 := [162, 0, 81, 42, 17, 3, 244, 16, 9, 27, 104, 96, 182, 1, 37, 42, 180, 0, 33, 17, 1, 180, 7, 27]
abbrev dktX5_day_2 : List UInt8 := dkwX5_day_2 ++ dktX5_day_3
def dkwX5_day_1 : List UInt8 := [17, 9, 4, 16, 9, 27, 104, 96, 182, 1, 37, 132, 1, 1, 167, 255, 234, 3, 60, 27, 17, 0, 144]
abbrev dktX5_day_1 : List UInt8 := dkwX5_day_1 ++ dktX5_day_2
def dkwX5_day_0 : List UInt8 := [42, 180, 0, 33, 17, 1, 173, 92, 46, 4, 96, 79, 3, 60, 27, 17, 3, 96, 162, 0, 21, 42]
abbrev dktX5_day_0 : List UInt8 := dkwX5_day_0 ++ dktX5_day_1
theorem dksX5_day_0 : cX5_day.data.toList.drop 0 = dktX5_day_0 := by decide +kernel
theorem dksX5_day_1 : cX5_day.data.toList.drop 22 = dktX5_day_1 := dk_seg dksX5_day_0 22 rfl rfl
theorem dksX5_day_2 : cX5_day.data.toList.drop 45 = dktX5_day_2 := dk_seg dksX5_day_1 23 rfl rfl
theorem dksX5_day_3 : cX5_day.data.toList.drop 69 = dktX5_day_3 := dk_seg dksX5_day_2 24 rfl rfl
theorem dksX5_day_4 : cX5_day.data.toList.drop 93 = dktX5_day_4 := dk_seg dksX5_day_3 24 rfl rfl
theorem dksX5_day_5 : cX5_day.data.toList.drop 117 = dktX5_day_5 := dk_seg dksX5_day_4 24 rfl rfl
theorem dX5_day_0 : decode cX5_day 0 = .ok (.aload_n 0, 1) := dk_42 (dk_at dksX5_day_0 0 rfl rfl)
theorem dX5_day_1 : decode cX5_day 1 = .ok (.getfield 33, 3) := dk_180 0 33 (dk_at dksX5_day_0 1 rfl rfl)
theorem dX5_day_4 : decode cX5_day 4 = .ok (.sipush 429, 3) := dk_17 1 173 (dk_at dksX5_day_0 4 rfl rfl)
theorem dX5_day_7 : decode cX5_day 7 = .ok (.dup2, 1) := dk_92 (dk_at dksX5_day_0 7 rfl rfl)
theorem dX5_day_8 : decode cX5_day 8 = .ok (.iaload, 1) := dk_46 (dk_at dksX5_day_0 8 rfl rfl)
theorem dX5_day_9 : decode cX5_day 9 = .ok (.iconst 1, 1) := dk_4 (dk_at dksX5_day_0 9 rfl rfl)
theorem dX5_day_10 : decode cX5_day 10 = .ok (.iadd, 1) := dk_96 (dk_at dksX5_day_0 10 rfl rfl)
theorem dX5_day_11 : decode cX5_day 11 = .ok (.iastore, 1) := dk_79 (dk_at dksX5_day_0 11 rfl rfl)
theorem dX5_day_12 : decode cX5_day 12 = .ok (.iconst 0, 1) := dk_3 (dk_at dksX5_day_0 12 rfl rfl)
theorem dX5_day_13 : decode cX5_day 13 = .ok (.istore_n 1, 1) := dk_60 (dk_at dksX5_day_0 13 rfl rfl)
theorem dX5_day_14 : decode cX5_day 14 = .ok (.iload_n 1, 1) := dk_27 (dk_at dksX5_day_0 14 rfl rfl)
theorem dX5_day_15 : decode cX5_day 15 = .ok (.sipush 864, 3) := dk_17 3 96 (dk_at dksX5_day_0 15 rfl rfl)
theorem dX5_day_18 : decode cX5_day 18 = .ok (.if_icmp .ge 21, 3) := dk_162 0 21 (dk_at dksX5_day_0 18 rfl rfl)
theorem dX5_day_21 : decode cX5_day 21 = .ok (.aload_n 0, 1) := dk_42 (dk_at dksX5_day_0 21 rfl rfl)
theorem dX5_day_22 : decode cX5_day 22 = .ok (.sipush 2308, 3) := dk_17 9 4 (dk_at dksX5_day_1 0 rfl rfl)
theorem dX5_day_25 : decode cX5_day 25 = .ok (.bipush 9, 2) := dk_16 9 (dk_at dksX5_day_1 3 rfl rfl)
theorem dX5_day_27 : decode cX5_day 27 = .ok (.iload_n 1, 1) := dk_27 (dk_at dksX5_day_1 5 rfl rfl)
theorem dX5_day_28 : decode cX5_day 28 = .ok (.imul, 1) := dk_104 (dk_at dksX5_day_1 6 rfl rfl)
theorem dX5_day_29 : decode cX5_day 29 = .ok (.iadd, 1) := dk_96 (dk_at dksX5_day_1 7 rfl rfl)
theorem dX5_day_30 : decode cX5_day 30 = .ok (.invokevirtual 293, 3) := dk_182 1 37 (dk_at dksX5_day_1 8 rfl rfl)
theorem dX5_day_33 : decode cX5_day 33 = .ok (.iinc 1 1, 3) := dk_132 1 1 (dk_at dksX5_day_1 11 rfl rfl)
theorem dX5_day_36 : decode cX5_day 36 = .ok (.goto (-22), 3) := dk_167 255 234 (dk_at dksX5_day_1 14 rfl rfl)
theorem dX5_day_39 : decode cX5_day 39 = .ok (.iconst 0, 1) := dk_3 (dk_at dksX5_day_1 17 rfl rfl)
theorem dX5_day_40 : decode cX5_day 40 = .ok (.istore_n 1, 1) := dk_60 (dk_at dksX5_day_1 18 rfl rfl)
theorem dX5_day_41 : decode cX5_day 41 = .ok (.iload_n 1, 1) := dk_27 (dk_at dksX5_day_1 19 rfl rfl)
theorem dX5_day_42 : decode cX5_day 42 = .ok (.sipush 144, 3) := dk_17 0 144 (dk_at dksX5_day_1 20 rfl rfl)
theorem dX5_day_45 : decode cX5_day 45 = .ok (.if_icmp .ge 81, 3) := dk_162 0 81 (dk_at dksX5_day_2 0 rfl rfl)
theorem dX5_day_48 : decode cX5_day 48 = .ok (.aload_n 0, 1) := dk_42 (dk_at dksX5_day_2 3 rfl rfl)
theorem dX5_day_49 : decode cX5_day 49 = .ok (.sipush 1012, 3) := dk_17 3 244 (dk_at dksX5_day_2 4 rfl rfl)
theorem dX5_day_52 : decode cX5_day 52 = .ok (.bipush 9, 2) := dk_16 9 (dk_at dksX5_day_2 7 rfl rfl)
theorem dX5_day_54 : decode cX5_day 54 = .ok (.iload_n 1, 1) := dk_27 (dk_at dksX5_day_2 9 rfl rfl)
theorem dX5_day_55 : decode cX5_day 55 = .ok (.imul, 1) := dk_104 (dk_at dksX5_day_2 10 rfl rfl)
theorem dX5_day_56 : decode cX5_day 56 = .ok (.iadd, 1) := dk_96 (dk_at dksX5_day_2 11 rfl rfl)
theorem dX5_day_57 : decode cX5_day 57 = .ok (.invokevirtual 293, 3) := dk_182 1 37 (dk_at dksX5_day_2 12 rfl rfl)
theorem dX5_day_60 : decode cX5_day 60 = .ok (.aload_n 0, 1) := dk_42 (dk_at dksX5_day_2 15 rfl rfl)
theorem dX5_day_61 : decode cX5_day 61 = .ok (.getfield 33, 3) := dk_180 0 33 (dk_at dksX5_day_2 16 rfl rfl)
theorem dX5_day_64 : decode cX5_day 64 = .ok (.sipush 436, 3) := dk_17 1 180 (dk_at dksX5_day_2 19 rfl rfl)
theorem dX5_day_67 : decode cX5_day 67 = .ok (.iconst 4, 1) := dk_7 (dk_at dksX5_day_2 22 rfl rfl)
theorem dX5_day_68 : decode cX5_day 68 = .ok (.iload_n 1, 1) := dk_27 (dk_at dksX5_day_2 23 rfl rfl)
theorem dX5_day_69 : decode cX5_day 69 = .ok (.imul, 1) := dk_104 (dk_at dksX5_day_3 0 rfl rfl)
theorem dX5_day_70 : decode cX5_day 70 = .ok (.iadd, 1) := dk_96 (dk_at dksX5_day_3 1 rfl rfl)
theorem dX5_day_71 : decode cX5_day 71 = .ok (.iaload, 1) := dk_46 (dk_at dksX5_day_3 2 rfl rfl)
theorem dX5_day_72 : decode cX5_day 72 = .ok (.ifCond .le 48, 3) := dk_158 0 48 (dk_at dksX5_day_3 3 rfl rfl)
theorem dX5_day_75 : decode cX5_day 75 = .ok (.aload_n 0, 1) := dk_42 (dk_at dksX5_day_3 6 rfl rfl)
theorem dX5_day_76 : decode cX5_day 76 = .ok (.getfield 33, 3) := dk_180 0 33 (dk_at dksX5_day_3 7 rfl rfl)
theorem dX5_day_79 : decode cX5_day 79 = .ok (.sipush 429, 3) := dk_17 1 173 (dk_at dksX5_day_3 10 rfl rfl)
theorem dX5_day_82 : decode cX5_day 82 = .ok (.iaload, 1) := dk_46 (dk_at dksX5_day_3 13 rfl rfl)
theorem dX5_day_83 : decode cX5_day 83 = .ok (.aload_n 0, 1) := dk_42 (dk_at dksX5_day_3 14 rfl rfl)
theorem dX5_day_84 : decode cX5_day 84 = .ok (.getfield 33, 3) := dk_180 0 33 (dk_at dksX5_day_3 15 rfl rfl)
theorem dX5_day_87 : decode cX5_day 87 = .ok (.sipush 436, 3) := dk_17 1 180 (dk_at dksX5_day_3 18 rfl rfl)
theorem dX5_day_90 : decode cX5_day 90 = .ok (.iconst 4, 1) := dk_7 (dk_at dksX5_day_3 21 rfl rfl)
theorem dX5_day_91 : decode cX5_day 91 = .ok (.iload_n 1, 1) := dk_27 (dk_at dksX5_day_3 22 rfl rfl)
theorem dX5_day_92 : decode cX5_day 92 = .ok (.imul, 1) := dk_104 (dk_at dksX5_day_3 23 rfl rfl)
theorem dX5_day_93 : decode cX5_day 93 = .ok (.iadd, 1) := dk_96 (dk_at dksX5_day_4 0 rfl rfl)
theorem dX5_day_94 : decode cX5_day 94 = .ok (.iconst 3, 1) := dk_6 (dk_at dksX5_day_4 1 rfl rfl)
theorem dX5_day_95 : decode cX5_day 95 = .ok (.iadd, 1) := dk_96 (dk_at dksX5_day_4 2 rfl rfl)
theorem dX5_day_96 : decode cX5_day 96 = .ok (.iaload, 1) := dk_46 (dk_at dksX5_day_4 3 rfl rfl)
theorem dX5_day_97 : decode cX5_day 97 = .ok (.isub, 1) := dk_100 (dk_at dksX5_day_4 4 rfl rfl)
theorem dX5_day_98 : decode cX5_day 98 = .ok (.aload_n 0, 1) := dk_42 (dk_at dksX5_day_4 5 rfl rfl)
theorem dX5_day_99 : decode cX5_day 99 = .ok (.getfield 33, 3) := dk_180 0 33 (dk_at dksX5_day_4 6 rfl rfl)
theorem dX5_day_102 : decode cX5_day 102 = .ok (.bipush 6, 2) := dk_16 6 (dk_at dksX5_day_4 9 rfl rfl)
theorem dX5_day_104 : decode cX5_day 104 = .ok (.iaload, 1) := dk_46 (dk_at dksX5_day_4 11 rfl rfl)
theorem dX5_day_105 : decode cX5_day 105 = .ok (.if_icmp .lt 15, 3) := dk_161 0 15 (dk_at dksX5_day_4 12 rfl rfl)
theorem dX5_day_108 : decode cX5_day 108 = .ok (.aload_n 0, 1) := dk_42 (dk_at dksX5_day_4 15 rfl rfl)
theorem dX5_day_109 : decode cX5_day 109 = .ok (.sipush 436, 3) := dk_17 1 180 (dk_at dksX5_day_4 16 rfl rfl)
theorem dX5_day_112 : decode cX5_day 112 = .ok (.iconst 4, 1) := dk_7 (dk_at dksX5_day_4 19 rfl rfl)
theorem dX5_day_113 : decode cX5_day 113 = .ok (.iload_n 1, 1) := dk_27 (dk_at dksX5_day_4 20 rfl rfl)
theorem dX5_day_114 : decode cX5_day 114 = .ok (.imul, 1) := dk_104 (dk_at dksX5_day_4 21 rfl rfl)
theorem dX5_day_115 : decode cX5_day 115 = .ok (.iadd, 1) := dk_96 (dk_at dksX5_day_4 22 rfl rfl)
theorem dX5_day_116 : decode cX5_day 116 = .ok (.iconst 4, 1) := dk_7 (dk_at dksX5_day_4 23 rfl rfl)
theorem dX5_day_117 : decode cX5_day 117 = .ok (.invokevirtual 296, 3) := dk_182 1 40 (dk_at dksX5_day_5 0 rfl rfl)
theorem dX5_day_120 : decode cX5_day 120 = .ok (.iinc 1 1, 3) := dk_132 1 1 (dk_at dksX5_day_5 3 rfl rfl)
theorem dX5_day_123 : decode cX5_day 123 = .ok (.goto (-82), 3) := dk_167 255 174 (dk_at dksX5_day_5 6 rfl rfl)
theorem dX5_day_126 : decode cX5_day 126 = .ok (.return_, 1) := dk_177 (dk_at dksX5_day_5 9 rfl rfl)
abbrev cX5_older : ByteArray := prog_19_method_47_code
def yX5_older : MethodName := ⟨RX5, "older", "(I)V"⟩
def dkwX5_older_2 : List UInt8 := [42, 180, 0, 33, 27, 3, 79, 177]
abbrev dktX5_older_2 : List UInt8 := dkwX5_older_2 ++ []
def dkwX5_older_1 : List UInt8 := [162, 0, 16, 42, 180, 0, 33, 27, 28, 96, 4, 100, 46, 167, 0, 4, 3, 79, 132, 2, 255, 167, 255, 216]
abbrev dktX5_older_1 : List UInt8 := dkwX5_older_1 ++ dktX5_older_2
def dkwX5_older_0 : List UInt8 := [16, 8, 61, 28, 158, 0, 42, 42, 180, 0, 33, 27, 28, 96, 28, 42, 180, 0, 33, 16, 6, 46]
abbrev dktX5_older_0 : List UInt8 := dkwX5_older_0 ++ dktX5_older_1
theorem dksX5_older_0 : cX5_older.data.toList.drop 0 = dktX5_older_0 := by decide +kernel
theorem dksX5_older_1 : cX5_older.data.toList.drop 22 = dktX5_older_1 := dk_seg dksX5_older_0 22 rfl rfl
theorem dksX5_older_2 : cX5_older.data.toList.drop 46 = dktX5_older_2 := dk_seg dksX5_older_1 24 rfl rfl
theorem dX5_older_0 : decode cX5_older 0 = .ok (.bipush 8, 2) := dk_16 8 (dk_at dksX5_older_0 0 rfl rfl)
theorem dX5_older_2 : decode cX5_older 2 = .ok (.istore_n 2, 1) := dk_61 (dk_at dksX5_older_0 2 rfl rfl)
theorem dX5_older_3 : decode cX5_older 3 = .ok (.iload_n 2, 1) := dk_28 (dk_at dksX5_older_0 3 rfl rfl)
theorem dX5_older_4 : decode cX5_older 4 = .ok (.ifCond .le 42, 3) := dk_158 0 42 (dk_at dksX5_older_0 4 rfl rfl)
theorem dX5_older_7 : decode cX5_older 7 = .ok (.aload_n 0, 1) := dk_42 (dk_at dksX5_older_0 7 rfl rfl)
theorem dX5_older_8 : decode cX5_older 8 = .ok (.getfield 33, 3) := dk_180 0 33 (dk_at dksX5_older_0 8 rfl rfl)
theorem dX5_older_11 : decode cX5_older 11 = .ok (.iload_n 1, 1) := dk_27 (dk_at dksX5_older_0 11 rfl rfl)
theorem dX5_older_12 : decode cX5_older 12 = .ok (.iload_n 2, 1) := dk_28 (dk_at dksX5_older_0 12 rfl rfl)
theorem dX5_older_13 : decode cX5_older 13 = .ok (.iadd, 1) := dk_96 (dk_at dksX5_older_0 13 rfl rfl)
theorem dX5_older_14 : decode cX5_older 14 = .ok (.iload_n 2, 1) := dk_28 (dk_at dksX5_older_0 14 rfl rfl)
theorem dX5_older_15 : decode cX5_older 15 = .ok (.aload_n 0, 1) := dk_42 (dk_at dksX5_older_0 15 rfl rfl)
theorem dX5_older_16 : decode cX5_older 16 = .ok (.getfield 33, 3) := dk_180 0 33 (dk_at dksX5_older_0 16 rfl rfl)
theorem dX5_older_19 : decode cX5_older 19 = .ok (.bipush 6, 2) := dk_16 6 (dk_at dksX5_older_0 19 rfl rfl)
theorem dX5_older_21 : decode cX5_older 21 = .ok (.iaload, 1) := dk_46 (dk_at dksX5_older_0 21 rfl rfl)
theorem dX5_older_22 : decode cX5_older 22 = .ok (.if_icmp .ge 16, 3) := dk_162 0 16 (dk_at dksX5_older_1 0 rfl rfl)
theorem dX5_older_25 : decode cX5_older 25 = .ok (.aload_n 0, 1) := dk_42 (dk_at dksX5_older_1 3 rfl rfl)
theorem dX5_older_26 : decode cX5_older 26 = .ok (.getfield 33, 3) := dk_180 0 33 (dk_at dksX5_older_1 4 rfl rfl)
theorem dX5_older_29 : decode cX5_older 29 = .ok (.iload_n 1, 1) := dk_27 (dk_at dksX5_older_1 7 rfl rfl)
theorem dX5_older_30 : decode cX5_older 30 = .ok (.iload_n 2, 1) := dk_28 (dk_at dksX5_older_1 8 rfl rfl)
theorem dX5_older_31 : decode cX5_older 31 = .ok (.iadd, 1) := dk_96 (dk_at dksX5_older_1 9 rfl rfl)
theorem dX5_older_32 : decode cX5_older 32 = .ok (.iconst 1, 1) := dk_4 (dk_at dksX5_older_1 10 rfl rfl)
theorem dX5_older_33 : decode cX5_older 33 = .ok (.isub, 1) := dk_100 (dk_at dksX5_older_1 11 rfl rfl)
theorem dX5_older_34 : decode cX5_older 34 = .ok (.iaload, 1) := dk_46 (dk_at dksX5_older_1 12 rfl rfl)
theorem dX5_older_35 : decode cX5_older 35 = .ok (.goto 4, 3) := dk_167 0 4 (dk_at dksX5_older_1 13 rfl rfl)
theorem dX5_older_38 : decode cX5_older 38 = .ok (.iconst 0, 1) := dk_3 (dk_at dksX5_older_1 16 rfl rfl)
theorem dX5_older_39 : decode cX5_older 39 = .ok (.iastore, 1) := dk_79 (dk_at dksX5_older_1 17 rfl rfl)
theorem dX5_older_40 : decode cX5_older 40 = .ok (.iinc 2 (-1), 3) := dk_132 2 255 (dk_at dksX5_older_1 18 rfl rfl)
theorem dX5_older_43 : decode cX5_older 43 = .ok (.goto (-40), 3) := dk_167 255 216 (dk_at dksX5_older_1 21 rfl rfl)
theorem dX5_older_46 : decode cX5_older 46 = .ok (.aload_n 0, 1) := dk_42 (dk_at dksX5_older_2 0 rfl rfl)
theorem dX5_older_47 : decode cX5_older 47 = .ok (.getfield 33, 3) := dk_180 0 33 (dk_at dksX5_older_2 1 rfl rfl)
theorem dX5_older_50 : decode cX5_older 50 = .ok (.iload_n 1, 1) := dk_27 (dk_at dksX5_older_2 4 rfl rfl)
theorem dX5_older_51 : decode cX5_older 51 = .ok (.iconst 0, 1) := dk_3 (dk_at dksX5_older_2 5 rfl rfl)
theorem dX5_older_52 : decode cX5_older 52 = .ok (.iastore, 1) := dk_79 (dk_at dksX5_older_2 6 rfl rfl)
theorem dX5_older_53 : decode cX5_older 53 = .ok (.return_, 1) := dk_177 (dk_at dksX5_older_2 7 rfl rfl)
abbrev cX5_clears : ByteArray := prog_19_method_49_code
def yX5_clears : MethodName := ⟨RX5, "clears", "(II)V"⟩
def dkwX5_clears_0 : List UInt8 := [3, 62, 29, 28, 162, 0, 18, 42, 180, 0, 33, 27, 29, 96, 3, 79, 132, 3, 1, 167, 255, 239, 177]
abbrev dktX5_clears_0 : List UInt8 := dkwX5_clears_0 ++ []
theorem dksX5_clears_0 : cX5_clears.data.toList.drop 0 = dktX5_clears_0 := by decide +kernel
theorem dX5_clears_0 : decode cX5_clears 0 = .ok (.iconst 0, 1) := dk_3 (dk_at dksX5_clears_0 0 rfl rfl)
theorem dX5_clears_1 : decode cX5_clears 1 = .ok (.istore_n 3, 1) := dk_62 (dk_at dksX5_clears_0 1 rfl rfl)
theorem dX5_clears_2 : decode cX5_clears 2 = .ok (.iload_n 3, 1) := dk_29 (dk_at dksX5_clears_0 2 rfl rfl)
theorem dX5_clears_3 : decode cX5_clears 3 = .ok (.iload_n 2, 1) := dk_28 (dk_at dksX5_clears_0 3 rfl rfl)
theorem dX5_clears_4 : decode cX5_clears 4 = .ok (.if_icmp .ge 18, 3) := dk_162 0 18 (dk_at dksX5_clears_0 4 rfl rfl)
theorem dX5_clears_7 : decode cX5_clears 7 = .ok (.aload_n 0, 1) := dk_42 (dk_at dksX5_clears_0 7 rfl rfl)
theorem dX5_clears_8 : decode cX5_clears 8 = .ok (.getfield 33, 3) := dk_180 0 33 (dk_at dksX5_clears_0 8 rfl rfl)
theorem dX5_clears_11 : decode cX5_clears 11 = .ok (.iload_n 1, 1) := dk_27 (dk_at dksX5_clears_0 11 rfl rfl)
theorem dX5_clears_12 : decode cX5_clears 12 = .ok (.iload_n 3, 1) := dk_29 (dk_at dksX5_clears_0 12 rfl rfl)
theorem dX5_clears_13 : decode cX5_clears 13 = .ok (.iadd, 1) := dk_96 (dk_at dksX5_clears_0 13 rfl rfl)
theorem dX5_clears_14 : decode cX5_clears 14 = .ok (.iconst 0, 1) := dk_3 (dk_at dksX5_clears_0 14 rfl rfl)
theorem dX5_clears_15 : decode cX5_clears 15 = .ok (.iastore, 1) := dk_79 (dk_at dksX5_clears_0 15 rfl rfl)
theorem dX5_clears_16 : decode cX5_clears 16 = .ok (.iinc 3 1, 3) := dk_132 3 1 (dk_at dksX5_clears_0 16 rfl rfl)
theorem dX5_clears_19 : decode cX5_clears 19 = .ok (.goto (-17), 3) := dk_167 255 239 (dk_at dksX5_clears_0 19 rfl rfl)
theorem dX5_clears_22 : decode cX5_clears 22 = .ok (.return_, 1) := dk_177 (dk_at dksX5_clears_0 22 rfl rfl)
abbrev cX5_beat : ByteArray := prog_19_method_52_code
def yX5_beat : MethodName := ⟨RX5, "beat", "(II)I"⟩
def dkwX5_beat_6 : List UInt8 := [132, 9, 1, 167, 255, 229, 132, 8, 1, 167, 255, 213, 21, 7, 172]
abbrev dktX5_beat_6 : List UInt8 := dkwX5_beat_6 ++ []
def dkwX5_beat_5 : List UInt8 := [21, 9, 21, 4, 163, 0, 26, 21, 7, 42, 16, 12, 21, 8, 104, 21, 9, 96, 182, 1, 47, 96, 54, 7]
abbrev dktX5_beat_5 : List UInt8 := dkwX5_beat_5 ++ dktX5_beat_6
def dkwX5_beat_4 : List UInt8 := [96, 21, 5, 100, 54, 6, 3, 54, 7, 21, 5, 54, 8, 21, 8, 21, 6, 163, 0, 42, 29, 54, 9]
abbrev dktX5_beat_4 : List UInt8 := dkwX5_beat_4 ++ dktX5_beat_5
def dkwX5_beat_3 : List UInt8 := [162, 0, 10, 27, 16, 12, 108, 167, 0, 7, 28, 16, 12, 108, 54, 5, 27, 16, 12, 108, 28, 16, 12, 108]
abbrev dktX5_beat_3 : List UInt8 := dkwX5_beat_3 ++ dktX5_beat_4
def dkwX5_beat_2 : List UInt8 := [112, 62, 27, 16, 12, 112, 28, 16, 12, 112, 96, 29, 100, 54, 4, 27, 16, 12, 108, 28, 16, 12, 108]
abbrev dktX5_beat_2 : List UInt8 := dkwX5_beat_2 ++ dktX5_beat_3
def dkwX5_beat_1 : List UInt8 := [182, 1, 30, 27, 16, 12, 112, 28, 16, 12, 112, 162, 0, 10, 27, 16, 12, 112, 167, 0, 7, 28, 16, 12]
abbrev dktX5_beat_1 : List UInt8 := dkwX5_beat_1 ++ dktX5_beat_2
def dkwX5_beat_0 : List UInt8 := [42, 3, 181, 0, 1, 42, 27, 182, 1, 10, 153, 0, 11, 42, 28, 182, 1, 10, 154, 0, 5, 2, 172, 42]
abbrev dktX5_beat_0 : List UInt8 := dkwX5_beat_0 ++ dktX5_beat_1
theorem dksX5_beat_0 : cX5_beat.data.toList.drop 0 = dktX5_beat_0 := by decide +kernel
theorem dksX5_beat_1 : cX5_beat.data.toList.drop 24 = dktX5_beat_1 := dk_seg dksX5_beat_0 24 rfl rfl
theorem dksX5_beat_2 : cX5_beat.data.toList.drop 48 = dktX5_beat_2 := dk_seg dksX5_beat_1 24 rfl rfl
theorem dksX5_beat_3 : cX5_beat.data.toList.drop 71 = dktX5_beat_3 := dk_seg dksX5_beat_2 23 rfl rfl
theorem dksX5_beat_4 : cX5_beat.data.toList.drop 95 = dktX5_beat_4 := dk_seg dksX5_beat_3 24 rfl rfl
theorem dksX5_beat_5 : cX5_beat.data.toList.drop 118 = dktX5_beat_5 := dk_seg dksX5_beat_4 23 rfl rfl
theorem dksX5_beat_6 : cX5_beat.data.toList.drop 142 = dktX5_beat_6 := dk_seg dksX5_beat_5 24 rfl rfl
theorem dX5_beat_0 : decode cX5_beat 0 = .ok (.aload_n 0, 1) := dk_42 (dk_at dksX5_beat_0 0 rfl rfl)
theorem dX5_beat_1 : decode cX5_beat 1 = .ok (.iconst 0, 1) := dk_3 (dk_at dksX5_beat_0 1 rfl rfl)
theorem dX5_beat_2 : decode cX5_beat 2 = .ok (.putfield 1, 3) := dk_181 0 1 (dk_at dksX5_beat_0 2 rfl rfl)
theorem dX5_beat_5 : decode cX5_beat 5 = .ok (.aload_n 0, 1) := dk_42 (dk_at dksX5_beat_0 5 rfl rfl)
theorem dX5_beat_6 : decode cX5_beat 6 = .ok (.iload_n 1, 1) := dk_27 (dk_at dksX5_beat_0 6 rfl rfl)
theorem dX5_beat_7 : decode cX5_beat 7 = .ok (.invokevirtual 266, 3) := dk_182 1 10 (dk_at dksX5_beat_0 7 rfl rfl)
theorem dX5_beat_10 : decode cX5_beat 10 = .ok (.ifCond .eq 11, 3) := dk_153 0 11 (dk_at dksX5_beat_0 10 rfl rfl)
theorem dX5_beat_13 : decode cX5_beat 13 = .ok (.aload_n 0, 1) := dk_42 (dk_at dksX5_beat_0 13 rfl rfl)
theorem dX5_beat_14 : decode cX5_beat 14 = .ok (.iload_n 2, 1) := dk_28 (dk_at dksX5_beat_0 14 rfl rfl)
theorem dX5_beat_15 : decode cX5_beat 15 = .ok (.invokevirtual 266, 3) := dk_182 1 10 (dk_at dksX5_beat_0 15 rfl rfl)
theorem dX5_beat_18 : decode cX5_beat 18 = .ok (.ifCond .ne 5, 3) := dk_154 0 5 (dk_at dksX5_beat_0 18 rfl rfl)
theorem dX5_beat_21 : decode cX5_beat 21 = .ok (.iconst (-1), 1) := dk_2 (dk_at dksX5_beat_0 21 rfl rfl)
theorem dX5_beat_22 : decode cX5_beat 22 = .ok (.ireturn, 1) := dk_172 (dk_at dksX5_beat_0 22 rfl rfl)
theorem dX5_beat_23 : decode cX5_beat 23 = .ok (.aload_n 0, 1) := dk_42 (dk_at dksX5_beat_0 23 rfl rfl)
theorem dX5_beat_24 : decode cX5_beat 24 = .ok (.invokevirtual 286, 3) := dk_182 1 30 (dk_at dksX5_beat_1 0 rfl rfl)
theorem dX5_beat_27 : decode cX5_beat 27 = .ok (.iload_n 1, 1) := dk_27 (dk_at dksX5_beat_1 3 rfl rfl)
theorem dX5_beat_28 : decode cX5_beat 28 = .ok (.bipush 12, 2) := dk_16 12 (dk_at dksX5_beat_1 4 rfl rfl)
theorem dX5_beat_30 : decode cX5_beat 30 = .ok (.irem, 1) := dk_112 (dk_at dksX5_beat_1 6 rfl rfl)
theorem dX5_beat_31 : decode cX5_beat 31 = .ok (.iload_n 2, 1) := dk_28 (dk_at dksX5_beat_1 7 rfl rfl)
theorem dX5_beat_32 : decode cX5_beat 32 = .ok (.bipush 12, 2) := dk_16 12 (dk_at dksX5_beat_1 8 rfl rfl)
theorem dX5_beat_34 : decode cX5_beat 34 = .ok (.irem, 1) := dk_112 (dk_at dksX5_beat_1 10 rfl rfl)
theorem dX5_beat_35 : decode cX5_beat 35 = .ok (.if_icmp .ge 10, 3) := dk_162 0 10 (dk_at dksX5_beat_1 11 rfl rfl)
theorem dX5_beat_38 : decode cX5_beat 38 = .ok (.iload_n 1, 1) := dk_27 (dk_at dksX5_beat_1 14 rfl rfl)
theorem dX5_beat_39 : decode cX5_beat 39 = .ok (.bipush 12, 2) := dk_16 12 (dk_at dksX5_beat_1 15 rfl rfl)
theorem dX5_beat_41 : decode cX5_beat 41 = .ok (.irem, 1) := dk_112 (dk_at dksX5_beat_1 17 rfl rfl)
theorem dX5_beat_42 : decode cX5_beat 42 = .ok (.goto 7, 3) := dk_167 0 7 (dk_at dksX5_beat_1 18 rfl rfl)
theorem dX5_beat_45 : decode cX5_beat 45 = .ok (.iload_n 2, 1) := dk_28 (dk_at dksX5_beat_1 21 rfl rfl)
theorem dX5_beat_46 : decode cX5_beat 46 = .ok (.bipush 12, 2) := dk_16 12 (dk_at dksX5_beat_1 22 rfl rfl)
theorem dX5_beat_48 : decode cX5_beat 48 = .ok (.irem, 1) := dk_112 (dk_at dksX5_beat_2 0 rfl rfl)
theorem dX5_beat_49 : decode cX5_beat 49 = .ok (.istore_n 3, 1) := dk_62 (dk_at dksX5_beat_2 1 rfl rfl)
theorem dX5_beat_50 : decode cX5_beat 50 = .ok (.iload_n 1, 1) := dk_27 (dk_at dksX5_beat_2 2 rfl rfl)
theorem dX5_beat_51 : decode cX5_beat 51 = .ok (.bipush 12, 2) := dk_16 12 (dk_at dksX5_beat_2 3 rfl rfl)
theorem dX5_beat_53 : decode cX5_beat 53 = .ok (.irem, 1) := dk_112 (dk_at dksX5_beat_2 5 rfl rfl)
theorem dX5_beat_54 : decode cX5_beat 54 = .ok (.iload_n 2, 1) := dk_28 (dk_at dksX5_beat_2 6 rfl rfl)
theorem dX5_beat_55 : decode cX5_beat 55 = .ok (.bipush 12, 2) := dk_16 12 (dk_at dksX5_beat_2 7 rfl rfl)
theorem dX5_beat_57 : decode cX5_beat 57 = .ok (.irem, 1) := dk_112 (dk_at dksX5_beat_2 9 rfl rfl)
theorem dX5_beat_58 : decode cX5_beat 58 = .ok (.iadd, 1) := dk_96 (dk_at dksX5_beat_2 10 rfl rfl)
theorem dX5_beat_59 : decode cX5_beat 59 = .ok (.iload_n 3, 1) := dk_29 (dk_at dksX5_beat_2 11 rfl rfl)
theorem dX5_beat_60 : decode cX5_beat 60 = .ok (.isub, 1) := dk_100 (dk_at dksX5_beat_2 12 rfl rfl)
theorem dX5_beat_61 : decode cX5_beat 61 = .ok (.istore 4, 2) := dk_54 4 (dk_at dksX5_beat_2 13 rfl rfl)
theorem dX5_beat_63 : decode cX5_beat 63 = .ok (.iload_n 1, 1) := dk_27 (dk_at dksX5_beat_2 15 rfl rfl)
theorem dX5_beat_64 : decode cX5_beat 64 = .ok (.bipush 12, 2) := dk_16 12 (dk_at dksX5_beat_2 16 rfl rfl)
theorem dX5_beat_66 : decode cX5_beat 66 = .ok (.idiv, 1) := dk_108 (dk_at dksX5_beat_2 18 rfl rfl)
theorem dX5_beat_67 : decode cX5_beat 67 = .ok (.iload_n 2, 1) := dk_28 (dk_at dksX5_beat_2 19 rfl rfl)
theorem dX5_beat_68 : decode cX5_beat 68 = .ok (.bipush 12, 2) := dk_16 12 (dk_at dksX5_beat_2 20 rfl rfl)
theorem dX5_beat_70 : decode cX5_beat 70 = .ok (.idiv, 1) := dk_108 (dk_at dksX5_beat_2 22 rfl rfl)
theorem dX5_beat_71 : decode cX5_beat 71 = .ok (.if_icmp .ge 10, 3) := dk_162 0 10 (dk_at dksX5_beat_3 0 rfl rfl)
theorem dX5_beat_74 : decode cX5_beat 74 = .ok (.iload_n 1, 1) := dk_27 (dk_at dksX5_beat_3 3 rfl rfl)
theorem dX5_beat_75 : decode cX5_beat 75 = .ok (.bipush 12, 2) := dk_16 12 (dk_at dksX5_beat_3 4 rfl rfl)
theorem dX5_beat_77 : decode cX5_beat 77 = .ok (.idiv, 1) := dk_108 (dk_at dksX5_beat_3 6 rfl rfl)
theorem dX5_beat_78 : decode cX5_beat 78 = .ok (.goto 7, 3) := dk_167 0 7 (dk_at dksX5_beat_3 7 rfl rfl)
theorem dX5_beat_81 : decode cX5_beat 81 = .ok (.iload_n 2, 1) := dk_28 (dk_at dksX5_beat_3 10 rfl rfl)
theorem dX5_beat_82 : decode cX5_beat 82 = .ok (.bipush 12, 2) := dk_16 12 (dk_at dksX5_beat_3 11 rfl rfl)
theorem dX5_beat_84 : decode cX5_beat 84 = .ok (.idiv, 1) := dk_108 (dk_at dksX5_beat_3 13 rfl rfl)
theorem dX5_beat_85 : decode cX5_beat 85 = .ok (.istore 5, 2) := dk_54 5 (dk_at dksX5_beat_3 14 rfl rfl)
theorem dX5_beat_87 : decode cX5_beat 87 = .ok (.iload_n 1, 1) := dk_27 (dk_at dksX5_beat_3 16 rfl rfl)
theorem dX5_beat_88 : decode cX5_beat 88 = .ok (.bipush 12, 2) := dk_16 12 (dk_at dksX5_beat_3 17 rfl rfl)
theorem dX5_beat_90 : decode cX5_beat 90 = .ok (.idiv, 1) := dk_108 (dk_at dksX5_beat_3 19 rfl rfl)
theorem dX5_beat_91 : decode cX5_beat 91 = .ok (.iload_n 2, 1) := dk_28 (dk_at dksX5_beat_3 20 rfl rfl)
theorem dX5_beat_92 : decode cX5_beat 92 = .ok (.bipush 12, 2) := dk_16 12 (dk_at dksX5_beat_3 21 rfl rfl)
theorem dX5_beat_94 : decode cX5_beat 94 = .ok (.idiv, 1) := dk_108 (dk_at dksX5_beat_3 23 rfl rfl)
theorem dX5_beat_95 : decode cX5_beat 95 = .ok (.iadd, 1) := dk_96 (dk_at dksX5_beat_4 0 rfl rfl)
theorem dX5_beat_96 : decode cX5_beat 96 = .ok (.iload 5, 2) := dk_21 5 (dk_at dksX5_beat_4 1 rfl rfl)
theorem dX5_beat_98 : decode cX5_beat 98 = .ok (.isub, 1) := dk_100 (dk_at dksX5_beat_4 3 rfl rfl)
theorem dX5_beat_99 : decode cX5_beat 99 = .ok (.istore 6, 2) := dk_54 6 (dk_at dksX5_beat_4 4 rfl rfl)
theorem dX5_beat_101 : decode cX5_beat 101 = .ok (.iconst 0, 1) := dk_3 (dk_at dksX5_beat_4 6 rfl rfl)
theorem dX5_beat_102 : decode cX5_beat 102 = .ok (.istore 7, 2) := dk_54 7 (dk_at dksX5_beat_4 7 rfl rfl)
theorem dX5_beat_104 : decode cX5_beat 104 = .ok (.iload 5, 2) := dk_21 5 (dk_at dksX5_beat_4 9 rfl rfl)
theorem dX5_beat_106 : decode cX5_beat 106 = .ok (.istore 8, 2) := dk_54 8 (dk_at dksX5_beat_4 11 rfl rfl)
theorem dX5_beat_108 : decode cX5_beat 108 = .ok (.iload 8, 2) := dk_21 8 (dk_at dksX5_beat_4 13 rfl rfl)
theorem dX5_beat_110 : decode cX5_beat 110 = .ok (.iload 6, 2) := dk_21 6 (dk_at dksX5_beat_4 15 rfl rfl)
theorem dX5_beat_112 : decode cX5_beat 112 = .ok (.if_icmp .gt 42, 3) := dk_163 0 42 (dk_at dksX5_beat_4 17 rfl rfl)
theorem dX5_beat_115 : decode cX5_beat 115 = .ok (.iload_n 3, 1) := dk_29 (dk_at dksX5_beat_4 20 rfl rfl)
theorem dX5_beat_116 : decode cX5_beat 116 = .ok (.istore 9, 2) := dk_54 9 (dk_at dksX5_beat_4 21 rfl rfl)
theorem dX5_beat_118 : decode cX5_beat 118 = .ok (.iload 9, 2) := dk_21 9 (dk_at dksX5_beat_5 0 rfl rfl)
theorem dX5_beat_120 : decode cX5_beat 120 = .ok (.iload 4, 2) := dk_21 4 (dk_at dksX5_beat_5 2 rfl rfl)
theorem dX5_beat_122 : decode cX5_beat 122 = .ok (.if_icmp .gt 26, 3) := dk_163 0 26 (dk_at dksX5_beat_5 4 rfl rfl)
theorem dX5_beat_125 : decode cX5_beat 125 = .ok (.iload 7, 2) := dk_21 7 (dk_at dksX5_beat_5 7 rfl rfl)
theorem dX5_beat_127 : decode cX5_beat 127 = .ok (.aload_n 0, 1) := dk_42 (dk_at dksX5_beat_5 9 rfl rfl)
theorem dX5_beat_128 : decode cX5_beat 128 = .ok (.bipush 12, 2) := dk_16 12 (dk_at dksX5_beat_5 10 rfl rfl)
theorem dX5_beat_130 : decode cX5_beat 130 = .ok (.iload 8, 2) := dk_21 8 (dk_at dksX5_beat_5 12 rfl rfl)
theorem dX5_beat_132 : decode cX5_beat 132 = .ok (.imul, 1) := dk_104 (dk_at dksX5_beat_5 14 rfl rfl)
theorem dX5_beat_133 : decode cX5_beat 133 = .ok (.iload 9, 2) := dk_21 9 (dk_at dksX5_beat_5 15 rfl rfl)
theorem dX5_beat_135 : decode cX5_beat 135 = .ok (.iadd, 1) := dk_96 (dk_at dksX5_beat_5 17 rfl rfl)
theorem dX5_beat_136 : decode cX5_beat 136 = .ok (.invokevirtual 303, 3) := dk_182 1 47 (dk_at dksX5_beat_5 18 rfl rfl)
theorem dX5_beat_139 : decode cX5_beat 139 = .ok (.iadd, 1) := dk_96 (dk_at dksX5_beat_5 21 rfl rfl)
theorem dX5_beat_140 : decode cX5_beat 140 = .ok (.istore 7, 2) := dk_54 7 (dk_at dksX5_beat_5 22 rfl rfl)
theorem dX5_beat_142 : decode cX5_beat 142 = .ok (.iinc 9 1, 3) := dk_132 9 1 (dk_at dksX5_beat_6 0 rfl rfl)
theorem dX5_beat_145 : decode cX5_beat 145 = .ok (.goto (-27), 3) := dk_167 255 229 (dk_at dksX5_beat_6 3 rfl rfl)
theorem dX5_beat_148 : decode cX5_beat 148 = .ok (.iinc 8 1, 3) := dk_132 8 1 (dk_at dksX5_beat_6 6 rfl rfl)
theorem dX5_beat_151 : decode cX5_beat 151 = .ok (.goto (-43), 3) := dk_167 255 213 (dk_at dksX5_beat_6 9 rfl rfl)
theorem dX5_beat_154 : decode cX5_beat 154 = .ok (.iload 7, 2) := dk_21 7 (dk_at dksX5_beat_6 12 rfl rfl)
theorem dX5_beat_156 : decode cX5_beat 156 = .ok (.ireturn, 1) := dk_172 (dk_at dksX5_beat_6 14 rfl rfl)
abbrev cX5_beats : ByteArray := prog_19_method_51_code
def yX5_beats : MethodName := ⟨RX5, "beats", "(I)I"⟩
def dkwX5_beats_2 : List UInt8 := [182, 1, 40, 28, 172]
abbrev dktX5_beats_2 : List UInt8 := dkwX5_beats_2 ++ []
def dkwX5_beats_1 : List UInt8 := [17, 1, 180, 7, 27, 104, 96, 7, 182, 1, 40, 42, 17, 9, 4, 16, 54, 27, 104, 96, 16, 54]
abbrev dktX5_beats_1 : List UInt8 := dkwX5_beats_1 ++ dktX5_beats_2
def dkwX5_beats_0 : List UInt8 := [42, 180, 0, 33, 17, 1, 180, 7, 27, 104, 96, 46, 158, 0, 7, 4, 167, 0, 4, 3, 61, 42]
abbrev dktX5_beats_0 : List UInt8 := dkwX5_beats_0 ++ dktX5_beats_1
theorem dksX5_beats_0 : cX5_beats.data.toList.drop 0 = dktX5_beats_0 := by decide +kernel
theorem dksX5_beats_1 : cX5_beats.data.toList.drop 22 = dktX5_beats_1 := dk_seg dksX5_beats_0 22 rfl rfl
theorem dksX5_beats_2 : cX5_beats.data.toList.drop 44 = dktX5_beats_2 := dk_seg dksX5_beats_1 22 rfl rfl
theorem dX5_beats_0 : decode cX5_beats 0 = .ok (.aload_n 0, 1) := dk_42 (dk_at dksX5_beats_0 0 rfl rfl)
theorem dX5_beats_1 : decode cX5_beats 1 = .ok (.getfield 33, 3) := dk_180 0 33 (dk_at dksX5_beats_0 1 rfl rfl)
theorem dX5_beats_4 : decode cX5_beats 4 = .ok (.sipush 436, 3) := dk_17 1 180 (dk_at dksX5_beats_0 4 rfl rfl)
theorem dX5_beats_7 : decode cX5_beats 7 = .ok (.iconst 4, 1) := dk_7 (dk_at dksX5_beats_0 7 rfl rfl)
theorem dX5_beats_8 : decode cX5_beats 8 = .ok (.iload_n 1, 1) := dk_27 (dk_at dksX5_beats_0 8 rfl rfl)
theorem dX5_beats_9 : decode cX5_beats 9 = .ok (.imul, 1) := dk_104 (dk_at dksX5_beats_0 9 rfl rfl)
theorem dX5_beats_10 : decode cX5_beats 10 = .ok (.iadd, 1) := dk_96 (dk_at dksX5_beats_0 10 rfl rfl)
theorem dX5_beats_11 : decode cX5_beats 11 = .ok (.iaload, 1) := dk_46 (dk_at dksX5_beats_0 11 rfl rfl)
theorem dX5_beats_12 : decode cX5_beats 12 = .ok (.ifCond .le 7, 3) := dk_158 0 7 (dk_at dksX5_beats_0 12 rfl rfl)
theorem dX5_beats_15 : decode cX5_beats 15 = .ok (.iconst 1, 1) := dk_4 (dk_at dksX5_beats_0 15 rfl rfl)
theorem dX5_beats_16 : decode cX5_beats 16 = .ok (.goto 4, 3) := dk_167 0 4 (dk_at dksX5_beats_0 16 rfl rfl)
theorem dX5_beats_19 : decode cX5_beats 19 = .ok (.iconst 0, 1) := dk_3 (dk_at dksX5_beats_0 19 rfl rfl)
theorem dX5_beats_20 : decode cX5_beats 20 = .ok (.istore_n 2, 1) := dk_61 (dk_at dksX5_beats_0 20 rfl rfl)
theorem dX5_beats_21 : decode cX5_beats 21 = .ok (.aload_n 0, 1) := dk_42 (dk_at dksX5_beats_0 21 rfl rfl)
theorem dX5_beats_22 : decode cX5_beats 22 = .ok (.sipush 436, 3) := dk_17 1 180 (dk_at dksX5_beats_1 0 rfl rfl)
theorem dX5_beats_25 : decode cX5_beats 25 = .ok (.iconst 4, 1) := dk_7 (dk_at dksX5_beats_1 3 rfl rfl)
theorem dX5_beats_26 : decode cX5_beats 26 = .ok (.iload_n 1, 1) := dk_27 (dk_at dksX5_beats_1 4 rfl rfl)
theorem dX5_beats_27 : decode cX5_beats 27 = .ok (.imul, 1) := dk_104 (dk_at dksX5_beats_1 5 rfl rfl)
theorem dX5_beats_28 : decode cX5_beats 28 = .ok (.iadd, 1) := dk_96 (dk_at dksX5_beats_1 6 rfl rfl)
theorem dX5_beats_29 : decode cX5_beats 29 = .ok (.iconst 4, 1) := dk_7 (dk_at dksX5_beats_1 7 rfl rfl)
theorem dX5_beats_30 : decode cX5_beats 30 = .ok (.invokevirtual 296, 3) := dk_182 1 40 (dk_at dksX5_beats_1 8 rfl rfl)
theorem dX5_beats_33 : decode cX5_beats 33 = .ok (.aload_n 0, 1) := dk_42 (dk_at dksX5_beats_1 11 rfl rfl)
theorem dX5_beats_34 : decode cX5_beats 34 = .ok (.sipush 2308, 3) := dk_17 9 4 (dk_at dksX5_beats_1 12 rfl rfl)
theorem dX5_beats_37 : decode cX5_beats 37 = .ok (.bipush 54, 2) := dk_16 54 (dk_at dksX5_beats_1 15 rfl rfl)
theorem dX5_beats_39 : decode cX5_beats 39 = .ok (.iload_n 1, 1) := dk_27 (dk_at dksX5_beats_1 17 rfl rfl)
theorem dX5_beats_40 : decode cX5_beats 40 = .ok (.imul, 1) := dk_104 (dk_at dksX5_beats_1 18 rfl rfl)
theorem dX5_beats_41 : decode cX5_beats 41 = .ok (.iadd, 1) := dk_96 (dk_at dksX5_beats_1 19 rfl rfl)
theorem dX5_beats_42 : decode cX5_beats 42 = .ok (.bipush 54, 2) := dk_16 54 (dk_at dksX5_beats_1 20 rfl rfl)
theorem dX5_beats_44 : decode cX5_beats 44 = .ok (.invokevirtual 296, 3) := dk_182 1 40 (dk_at dksX5_beats_2 0 rfl rfl)
theorem dX5_beats_47 : decode cX5_beats 47 = .ok (.iload_n 2, 1) := dk_28 (dk_at dksX5_beats_2 3 rfl rfl)
theorem dX5_beats_48 : decode cX5_beats 48 = .ok (.ireturn, 1) := dk_172 (dk_at dksX5_beats_2 4 rfl rfl)
abbrev cX5_hidden : ByteArray := prog_19_method_53_code
def yX5_hidden : MethodName := ⟨RX5, "hidden", "(I)I"⟩
def dkwX5_hidden_2 : List UInt8 := [132, 2, 1, 132, 3, 1, 167, 255, 220, 27, 2, 160, 0, 7, 28, 167, 0, 4, 2, 172]
abbrev dktX5_hidden_2 : List UInt8 := dkwX5_hidden_2 ++ []
def dkwX5_hidden_1 : List UInt8 := [29, 182, 1, 50, 42, 29, 182, 1, 13, 160, 0, 6, 167, 0, 13, 28, 27, 160, 0, 5, 29, 172]
abbrev dktX5_hidden_1 : List UInt8 := dkwX5_hidden_1 ++ dktX5_hidden_2
def dkwX5_hidden_0 : List UInt8 := [42, 3, 181, 0, 1, 27, 2, 162, 0, 5, 2, 172, 3, 61, 3, 62, 29, 17, 0, 144, 162, 0, 35, 42]
abbrev dktX5_hidden_0 : List UInt8 := dkwX5_hidden_0 ++ dktX5_hidden_1
theorem dksX5_hidden_0 : cX5_hidden.data.toList.drop 0 = dktX5_hidden_0 := by decide +kernel
theorem dksX5_hidden_1 : cX5_hidden.data.toList.drop 24 = dktX5_hidden_1 := dk_seg dksX5_hidden_0 24 rfl rfl
theorem dksX5_hidden_2 : cX5_hidden.data.toList.drop 46 = dktX5_hidden_2 := dk_seg dksX5_hidden_1 22 rfl rfl
theorem dX5_hidden_0 : decode cX5_hidden 0 = .ok (.aload_n 0, 1) := dk_42 (dk_at dksX5_hidden_0 0 rfl rfl)
theorem dX5_hidden_1 : decode cX5_hidden 1 = .ok (.iconst 0, 1) := dk_3 (dk_at dksX5_hidden_0 1 rfl rfl)
theorem dX5_hidden_2 : decode cX5_hidden 2 = .ok (.putfield 1, 3) := dk_181 0 1 (dk_at dksX5_hidden_0 2 rfl rfl)
theorem dX5_hidden_5 : decode cX5_hidden 5 = .ok (.iload_n 1, 1) := dk_27 (dk_at dksX5_hidden_0 5 rfl rfl)
theorem dX5_hidden_6 : decode cX5_hidden 6 = .ok (.iconst (-1), 1) := dk_2 (dk_at dksX5_hidden_0 6 rfl rfl)
theorem dX5_hidden_7 : decode cX5_hidden 7 = .ok (.if_icmp .ge 5, 3) := dk_162 0 5 (dk_at dksX5_hidden_0 7 rfl rfl)
theorem dX5_hidden_10 : decode cX5_hidden 10 = .ok (.iconst (-1), 1) := dk_2 (dk_at dksX5_hidden_0 10 rfl rfl)
theorem dX5_hidden_11 : decode cX5_hidden 11 = .ok (.ireturn, 1) := dk_172 (dk_at dksX5_hidden_0 11 rfl rfl)
theorem dX5_hidden_12 : decode cX5_hidden 12 = .ok (.iconst 0, 1) := dk_3 (dk_at dksX5_hidden_0 12 rfl rfl)
theorem dX5_hidden_13 : decode cX5_hidden 13 = .ok (.istore_n 2, 1) := dk_61 (dk_at dksX5_hidden_0 13 rfl rfl)
theorem dX5_hidden_14 : decode cX5_hidden 14 = .ok (.iconst 0, 1) := dk_3 (dk_at dksX5_hidden_0 14 rfl rfl)
theorem dX5_hidden_15 : decode cX5_hidden 15 = .ok (.istore_n 3, 1) := dk_62 (dk_at dksX5_hidden_0 15 rfl rfl)
theorem dX5_hidden_16 : decode cX5_hidden 16 = .ok (.iload_n 3, 1) := dk_29 (dk_at dksX5_hidden_0 16 rfl rfl)
theorem dX5_hidden_17 : decode cX5_hidden 17 = .ok (.sipush 144, 3) := dk_17 0 144 (dk_at dksX5_hidden_0 17 rfl rfl)
theorem dX5_hidden_20 : decode cX5_hidden 20 = .ok (.if_icmp .ge 35, 3) := dk_162 0 35 (dk_at dksX5_hidden_0 20 rfl rfl)
theorem dX5_hidden_23 : decode cX5_hidden 23 = .ok (.aload_n 0, 1) := dk_42 (dk_at dksX5_hidden_0 23 rfl rfl)
theorem dX5_hidden_24 : decode cX5_hidden 24 = .ok (.iload_n 3, 1) := dk_29 (dk_at dksX5_hidden_1 0 rfl rfl)
theorem dX5_hidden_25 : decode cX5_hidden 25 = .ok (.invokevirtual 306, 3) := dk_182 1 50 (dk_at dksX5_hidden_1 1 rfl rfl)
theorem dX5_hidden_28 : decode cX5_hidden 28 = .ok (.aload_n 0, 1) := dk_42 (dk_at dksX5_hidden_1 4 rfl rfl)
theorem dX5_hidden_29 : decode cX5_hidden 29 = .ok (.iload_n 3, 1) := dk_29 (dk_at dksX5_hidden_1 5 rfl rfl)
theorem dX5_hidden_30 : decode cX5_hidden 30 = .ok (.invokevirtual 269, 3) := dk_182 1 13 (dk_at dksX5_hidden_1 6 rfl rfl)
theorem dX5_hidden_33 : decode cX5_hidden 33 = .ok (.if_icmp .ne 6, 3) := dk_160 0 6 (dk_at dksX5_hidden_1 9 rfl rfl)
theorem dX5_hidden_36 : decode cX5_hidden 36 = .ok (.goto 13, 3) := dk_167 0 13 (dk_at dksX5_hidden_1 12 rfl rfl)
theorem dX5_hidden_39 : decode cX5_hidden 39 = .ok (.iload_n 2, 1) := dk_28 (dk_at dksX5_hidden_1 15 rfl rfl)
theorem dX5_hidden_40 : decode cX5_hidden 40 = .ok (.iload_n 1, 1) := dk_27 (dk_at dksX5_hidden_1 16 rfl rfl)
theorem dX5_hidden_41 : decode cX5_hidden 41 = .ok (.if_icmp .ne 5, 3) := dk_160 0 5 (dk_at dksX5_hidden_1 17 rfl rfl)
theorem dX5_hidden_44 : decode cX5_hidden 44 = .ok (.iload_n 3, 1) := dk_29 (dk_at dksX5_hidden_1 20 rfl rfl)
theorem dX5_hidden_45 : decode cX5_hidden 45 = .ok (.ireturn, 1) := dk_172 (dk_at dksX5_hidden_1 21 rfl rfl)
theorem dX5_hidden_46 : decode cX5_hidden 46 = .ok (.iinc 2 1, 3) := dk_132 2 1 (dk_at dksX5_hidden_2 0 rfl rfl)
theorem dX5_hidden_49 : decode cX5_hidden 49 = .ok (.iinc 3 1, 3) := dk_132 3 1 (dk_at dksX5_hidden_2 3 rfl rfl)
theorem dX5_hidden_52 : decode cX5_hidden 52 = .ok (.goto (-36), 3) := dk_167 255 220 (dk_at dksX5_hidden_2 6 rfl rfl)
theorem dX5_hidden_55 : decode cX5_hidden 55 = .ok (.iload_n 1, 1) := dk_27 (dk_at dksX5_hidden_2 9 rfl rfl)
theorem dX5_hidden_56 : decode cX5_hidden 56 = .ok (.iconst (-1), 1) := dk_2 (dk_at dksX5_hidden_2 10 rfl rfl)
theorem dX5_hidden_57 : decode cX5_hidden 57 = .ok (.if_icmp .ne 7, 3) := dk_160 0 7 (dk_at dksX5_hidden_2 11 rfl rfl)
theorem dX5_hidden_60 : decode cX5_hidden 60 = .ok (.iload_n 2, 1) := dk_28 (dk_at dksX5_hidden_2 14 rfl rfl)
theorem dX5_hidden_61 : decode cX5_hidden 61 = .ok (.goto 4, 3) := dk_167 0 4 (dk_at dksX5_hidden_2 15 rfl rfl)
theorem dX5_hidden_64 : decode cX5_hidden 64 = .ok (.iconst (-1), 1) := dk_2 (dk_at dksX5_hidden_2 18 rfl rfl)
theorem dX5_hidden_65 : decode cX5_hidden 65 = .ok (.ireturn, 1) := dk_172 (dk_at dksX5_hidden_2 19 rfl rfl)
abbrev cX5_fullDepth : ByteArray := prog_19_method_37_code
def yX5_fullDepth : MethodName := ⟨RX5, "fullDepth", "(I)I"⟩
def dkwX5_fullDepth_2 : List UInt8 := [167, 255, 214, 28, 172]
abbrev dktX5_fullDepth_2 : List UInt8 := dkwX5_fullDepth_2 ++ []
def dkwX5_fullDepth_1 : List UInt8 := [16, 9, 27, 104, 96, 29, 96, 46, 42, 180, 0, 33, 16, 6, 46, 29, 100, 104, 96, 61, 132, 3, 1]
abbrev dktX5_fullDepth_1 : List UInt8 := dkwX5_fullDepth_1 ++ dktX5_fullDepth_2
def dkwX5_fullDepth_0 : List UInt8 := [3, 61, 3, 62, 29, 42, 180, 0, 33, 16, 6, 46, 162, 0, 37, 28, 42, 180, 0, 33, 17, 3, 244]
abbrev dktX5_fullDepth_0 : List UInt8 := dkwX5_fullDepth_0 ++ dktX5_fullDepth_1
theorem dksX5_fullDepth_0 : cX5_fullDepth.data.toList.drop 0 = dktX5_fullDepth_0 := by decide +kernel
theorem dksX5_fullDepth_1 : cX5_fullDepth.data.toList.drop 23 = dktX5_fullDepth_1 := dk_seg dksX5_fullDepth_0 23 rfl rfl
theorem dksX5_fullDepth_2 : cX5_fullDepth.data.toList.drop 46 = dktX5_fullDepth_2 := dk_seg dksX5_fullDepth_1 23 rfl rfl
theorem dX5_fullDepth_0 : decode cX5_fullDepth 0 = .ok (.iconst 0, 1) := dk_3 (dk_at dksX5_fullDepth_0 0 rfl rfl)
theorem dX5_fullDepth_1 : decode cX5_fullDepth 1 = .ok (.istore_n 2, 1) := dk_61 (dk_at dksX5_fullDepth_0 1 rfl rfl)
theorem dX5_fullDepth_2 : decode cX5_fullDepth 2 = .ok (.iconst 0, 1) := dk_3 (dk_at dksX5_fullDepth_0 2 rfl rfl)
theorem dX5_fullDepth_3 : decode cX5_fullDepth 3 = .ok (.istore_n 3, 1) := dk_62 (dk_at dksX5_fullDepth_0 3 rfl rfl)
theorem dX5_fullDepth_4 : decode cX5_fullDepth 4 = .ok (.iload_n 3, 1) := dk_29 (dk_at dksX5_fullDepth_0 4 rfl rfl)
theorem dX5_fullDepth_5 : decode cX5_fullDepth 5 = .ok (.aload_n 0, 1) := dk_42 (dk_at dksX5_fullDepth_0 5 rfl rfl)
theorem dX5_fullDepth_6 : decode cX5_fullDepth 6 = .ok (.getfield 33, 3) := dk_180 0 33 (dk_at dksX5_fullDepth_0 6 rfl rfl)
theorem dX5_fullDepth_9 : decode cX5_fullDepth 9 = .ok (.bipush 6, 2) := dk_16 6 (dk_at dksX5_fullDepth_0 9 rfl rfl)
theorem dX5_fullDepth_11 : decode cX5_fullDepth 11 = .ok (.iaload, 1) := dk_46 (dk_at dksX5_fullDepth_0 11 rfl rfl)
theorem dX5_fullDepth_12 : decode cX5_fullDepth 12 = .ok (.if_icmp .ge 37, 3) := dk_162 0 37 (dk_at dksX5_fullDepth_0 12 rfl rfl)
theorem dX5_fullDepth_15 : decode cX5_fullDepth 15 = .ok (.iload_n 2, 1) := dk_28 (dk_at dksX5_fullDepth_0 15 rfl rfl)
theorem dX5_fullDepth_16 : decode cX5_fullDepth 16 = .ok (.aload_n 0, 1) := dk_42 (dk_at dksX5_fullDepth_0 16 rfl rfl)
theorem dX5_fullDepth_17 : decode cX5_fullDepth 17 = .ok (.getfield 33, 3) := dk_180 0 33 (dk_at dksX5_fullDepth_0 17 rfl rfl)
theorem dX5_fullDepth_20 : decode cX5_fullDepth 20 = .ok (.sipush 1012, 3) := dk_17 3 244 (dk_at dksX5_fullDepth_0 20 rfl rfl)
theorem dX5_fullDepth_23 : decode cX5_fullDepth 23 = .ok (.bipush 9, 2) := dk_16 9 (dk_at dksX5_fullDepth_1 0 rfl rfl)
theorem dX5_fullDepth_25 : decode cX5_fullDepth 25 = .ok (.iload_n 1, 1) := dk_27 (dk_at dksX5_fullDepth_1 2 rfl rfl)
theorem dX5_fullDepth_26 : decode cX5_fullDepth 26 = .ok (.imul, 1) := dk_104 (dk_at dksX5_fullDepth_1 3 rfl rfl)
theorem dX5_fullDepth_27 : decode cX5_fullDepth 27 = .ok (.iadd, 1) := dk_96 (dk_at dksX5_fullDepth_1 4 rfl rfl)
theorem dX5_fullDepth_28 : decode cX5_fullDepth 28 = .ok (.iload_n 3, 1) := dk_29 (dk_at dksX5_fullDepth_1 5 rfl rfl)
theorem dX5_fullDepth_29 : decode cX5_fullDepth 29 = .ok (.iadd, 1) := dk_96 (dk_at dksX5_fullDepth_1 6 rfl rfl)
theorem dX5_fullDepth_30 : decode cX5_fullDepth 30 = .ok (.iaload, 1) := dk_46 (dk_at dksX5_fullDepth_1 7 rfl rfl)
theorem dX5_fullDepth_31 : decode cX5_fullDepth 31 = .ok (.aload_n 0, 1) := dk_42 (dk_at dksX5_fullDepth_1 8 rfl rfl)
theorem dX5_fullDepth_32 : decode cX5_fullDepth 32 = .ok (.getfield 33, 3) := dk_180 0 33 (dk_at dksX5_fullDepth_1 9 rfl rfl)
theorem dX5_fullDepth_35 : decode cX5_fullDepth 35 = .ok (.bipush 6, 2) := dk_16 6 (dk_at dksX5_fullDepth_1 12 rfl rfl)
theorem dX5_fullDepth_37 : decode cX5_fullDepth 37 = .ok (.iaload, 1) := dk_46 (dk_at dksX5_fullDepth_1 14 rfl rfl)
theorem dX5_fullDepth_38 : decode cX5_fullDepth 38 = .ok (.iload_n 3, 1) := dk_29 (dk_at dksX5_fullDepth_1 15 rfl rfl)
theorem dX5_fullDepth_39 : decode cX5_fullDepth 39 = .ok (.isub, 1) := dk_100 (dk_at dksX5_fullDepth_1 16 rfl rfl)
theorem dX5_fullDepth_40 : decode cX5_fullDepth 40 = .ok (.imul, 1) := dk_104 (dk_at dksX5_fullDepth_1 17 rfl rfl)
theorem dX5_fullDepth_41 : decode cX5_fullDepth 41 = .ok (.iadd, 1) := dk_96 (dk_at dksX5_fullDepth_1 18 rfl rfl)
theorem dX5_fullDepth_42 : decode cX5_fullDepth 42 = .ok (.istore_n 2, 1) := dk_61 (dk_at dksX5_fullDepth_1 19 rfl rfl)
theorem dX5_fullDepth_43 : decode cX5_fullDepth 43 = .ok (.iinc 3 1, 3) := dk_132 3 1 (dk_at dksX5_fullDepth_1 20 rfl rfl)
theorem dX5_fullDepth_46 : decode cX5_fullDepth 46 = .ok (.goto (-42), 3) := dk_167 255 214 (dk_at dksX5_fullDepth_2 0 rfl rfl)
theorem dX5_fullDepth_49 : decode cX5_fullDepth 49 = .ok (.iload_n 2, 1) := dk_28 (dk_at dksX5_fullDepth_2 3 rfl rfl)
theorem dX5_fullDepth_50 : decode cX5_fullDepth 50 = .ok (.ireturn, 1) := dk_172 (dk_at dksX5_fullDepth_2 4 rfl rfl)
abbrev cX5_missing : ByteArray := prog_19_method_54_code
def yX5_missing : MethodName := ⟨RX5, "missing", "(I)I"⟩
def dkwX5_missing_1 : List UInt8 := [167, 0, 4, 2, 172]
abbrev dktX5_missing_1 : List UInt8 := dkwX5_missing_1 ++ []
def dkwX5_missing_0 : List UInt8 := [42, 3, 181, 0, 1, 42, 27, 182, 1, 10, 153, 0, 17, 42, 27, 182, 1, 50, 42, 27, 182, 1, 13, 100]
abbrev dktX5_missing_0 : List UInt8 := dkwX5_missing_0 ++ dktX5_missing_1
theorem dksX5_missing_0 : cX5_missing.data.toList.drop 0 = dktX5_missing_0 := by decide +kernel
theorem dksX5_missing_1 : cX5_missing.data.toList.drop 24 = dktX5_missing_1 := dk_seg dksX5_missing_0 24 rfl rfl
theorem dX5_missing_0 : decode cX5_missing 0 = .ok (.aload_n 0, 1) := dk_42 (dk_at dksX5_missing_0 0 rfl rfl)
theorem dX5_missing_1 : decode cX5_missing 1 = .ok (.iconst 0, 1) := dk_3 (dk_at dksX5_missing_0 1 rfl rfl)
theorem dX5_missing_2 : decode cX5_missing 2 = .ok (.putfield 1, 3) := dk_181 0 1 (dk_at dksX5_missing_0 2 rfl rfl)
theorem dX5_missing_5 : decode cX5_missing 5 = .ok (.aload_n 0, 1) := dk_42 (dk_at dksX5_missing_0 5 rfl rfl)
theorem dX5_missing_6 : decode cX5_missing 6 = .ok (.iload_n 1, 1) := dk_27 (dk_at dksX5_missing_0 6 rfl rfl)
theorem dX5_missing_7 : decode cX5_missing 7 = .ok (.invokevirtual 266, 3) := dk_182 1 10 (dk_at dksX5_missing_0 7 rfl rfl)
theorem dX5_missing_10 : decode cX5_missing 10 = .ok (.ifCond .eq 17, 3) := dk_153 0 17 (dk_at dksX5_missing_0 10 rfl rfl)
theorem dX5_missing_13 : decode cX5_missing 13 = .ok (.aload_n 0, 1) := dk_42 (dk_at dksX5_missing_0 13 rfl rfl)
theorem dX5_missing_14 : decode cX5_missing 14 = .ok (.iload_n 1, 1) := dk_27 (dk_at dksX5_missing_0 14 rfl rfl)
theorem dX5_missing_15 : decode cX5_missing 15 = .ok (.invokevirtual 306, 3) := dk_182 1 50 (dk_at dksX5_missing_0 15 rfl rfl)
theorem dX5_missing_18 : decode cX5_missing 18 = .ok (.aload_n 0, 1) := dk_42 (dk_at dksX5_missing_0 18 rfl rfl)
theorem dX5_missing_19 : decode cX5_missing 19 = .ok (.iload_n 1, 1) := dk_27 (dk_at dksX5_missing_0 19 rfl rfl)
theorem dX5_missing_20 : decode cX5_missing 20 = .ok (.invokevirtual 269, 3) := dk_182 1 13 (dk_at dksX5_missing_0 20 rfl rfl)
theorem dX5_missing_23 : decode cX5_missing 23 = .ok (.isub, 1) := dk_100 (dk_at dksX5_missing_0 23 rfl rfl)
theorem dX5_missing_24 : decode cX5_missing 24 = .ok (.goto 4, 3) := dk_167 0 4 (dk_at dksX5_missing_1 0 rfl rfl)
theorem dX5_missing_27 : decode cX5_missing 27 = .ok (.iconst (-1), 1) := dk_2 (dk_at dksX5_missing_1 3 rfl rfl)
theorem dX5_missing_28 : decode cX5_missing 28 = .ok (.ireturn, 1) := dk_172 (dk_at dksX5_missing_1 4 rfl rfl)
abbrev cX5_soles : ByteArray := prog_19_method_55_code
def yX5_soles : MethodName := ⟨RX5, "soles", "(I)I"⟩
def dkwX5_soles_2 : List UInt8 := [160, 0, 7, 4, 167, 0, 4, 3, 96, 61, 132, 3, 1, 167, 255, 205, 28, 172]
abbrev dktX5_soles_2 : List UInt8 := dkwX5_soles_2 ++ []
def dkwX5_soles_1 : List UInt8 := [7, 29, 104, 96, 46, 158, 0, 25, 42, 180, 0, 33, 17, 1, 180, 7, 29, 104, 96, 4, 96, 46, 27]
abbrev dktX5_soles_1 : List UInt8 := dkwX5_soles_1 ++ dktX5_soles_2
def dkwX5_soles_0 : List UInt8 := [42, 3, 181, 0, 1, 3, 61, 3, 62, 29, 17, 0, 144, 162, 0, 50, 28, 42, 180, 0, 33, 17, 1, 180]
abbrev dktX5_soles_0 : List UInt8 := dkwX5_soles_0 ++ dktX5_soles_1
theorem dksX5_soles_0 : cX5_soles.data.toList.drop 0 = dktX5_soles_0 := by decide +kernel
theorem dksX5_soles_1 : cX5_soles.data.toList.drop 24 = dktX5_soles_1 := dk_seg dksX5_soles_0 24 rfl rfl
theorem dksX5_soles_2 : cX5_soles.data.toList.drop 47 = dktX5_soles_2 := dk_seg dksX5_soles_1 23 rfl rfl
theorem dX5_soles_0 : decode cX5_soles 0 = .ok (.aload_n 0, 1) := dk_42 (dk_at dksX5_soles_0 0 rfl rfl)
theorem dX5_soles_1 : decode cX5_soles 1 = .ok (.iconst 0, 1) := dk_3 (dk_at dksX5_soles_0 1 rfl rfl)
theorem dX5_soles_2 : decode cX5_soles 2 = .ok (.putfield 1, 3) := dk_181 0 1 (dk_at dksX5_soles_0 2 rfl rfl)
theorem dX5_soles_5 : decode cX5_soles 5 = .ok (.iconst 0, 1) := dk_3 (dk_at dksX5_soles_0 5 rfl rfl)
theorem dX5_soles_6 : decode cX5_soles 6 = .ok (.istore_n 2, 1) := dk_61 (dk_at dksX5_soles_0 6 rfl rfl)
theorem dX5_soles_7 : decode cX5_soles 7 = .ok (.iconst 0, 1) := dk_3 (dk_at dksX5_soles_0 7 rfl rfl)
theorem dX5_soles_8 : decode cX5_soles 8 = .ok (.istore_n 3, 1) := dk_62 (dk_at dksX5_soles_0 8 rfl rfl)
theorem dX5_soles_9 : decode cX5_soles 9 = .ok (.iload_n 3, 1) := dk_29 (dk_at dksX5_soles_0 9 rfl rfl)
theorem dX5_soles_10 : decode cX5_soles 10 = .ok (.sipush 144, 3) := dk_17 0 144 (dk_at dksX5_soles_0 10 rfl rfl)
theorem dX5_soles_13 : decode cX5_soles 13 = .ok (.if_icmp .ge 50, 3) := dk_162 0 50 (dk_at dksX5_soles_0 13 rfl rfl)
theorem dX5_soles_16 : decode cX5_soles 16 = .ok (.iload_n 2, 1) := dk_28 (dk_at dksX5_soles_0 16 rfl rfl)
theorem dX5_soles_17 : decode cX5_soles 17 = .ok (.aload_n 0, 1) := dk_42 (dk_at dksX5_soles_0 17 rfl rfl)
theorem dX5_soles_18 : decode cX5_soles 18 = .ok (.getfield 33, 3) := dk_180 0 33 (dk_at dksX5_soles_0 18 rfl rfl)
theorem dX5_soles_21 : decode cX5_soles 21 = .ok (.sipush 436, 3) := dk_17 1 180 (dk_at dksX5_soles_0 21 rfl rfl)
theorem dX5_soles_24 : decode cX5_soles 24 = .ok (.iconst 4, 1) := dk_7 (dk_at dksX5_soles_1 0 rfl rfl)
theorem dX5_soles_25 : decode cX5_soles 25 = .ok (.iload_n 3, 1) := dk_29 (dk_at dksX5_soles_1 1 rfl rfl)
theorem dX5_soles_26 : decode cX5_soles 26 = .ok (.imul, 1) := dk_104 (dk_at dksX5_soles_1 2 rfl rfl)
theorem dX5_soles_27 : decode cX5_soles 27 = .ok (.iadd, 1) := dk_96 (dk_at dksX5_soles_1 3 rfl rfl)
theorem dX5_soles_28 : decode cX5_soles 28 = .ok (.iaload, 1) := dk_46 (dk_at dksX5_soles_1 4 rfl rfl)
theorem dX5_soles_29 : decode cX5_soles 29 = .ok (.ifCond .le 25, 3) := dk_158 0 25 (dk_at dksX5_soles_1 5 rfl rfl)
theorem dX5_soles_32 : decode cX5_soles 32 = .ok (.aload_n 0, 1) := dk_42 (dk_at dksX5_soles_1 8 rfl rfl)
theorem dX5_soles_33 : decode cX5_soles 33 = .ok (.getfield 33, 3) := dk_180 0 33 (dk_at dksX5_soles_1 9 rfl rfl)
theorem dX5_soles_36 : decode cX5_soles 36 = .ok (.sipush 436, 3) := dk_17 1 180 (dk_at dksX5_soles_1 12 rfl rfl)
theorem dX5_soles_39 : decode cX5_soles 39 = .ok (.iconst 4, 1) := dk_7 (dk_at dksX5_soles_1 15 rfl rfl)
theorem dX5_soles_40 : decode cX5_soles 40 = .ok (.iload_n 3, 1) := dk_29 (dk_at dksX5_soles_1 16 rfl rfl)
theorem dX5_soles_41 : decode cX5_soles 41 = .ok (.imul, 1) := dk_104 (dk_at dksX5_soles_1 17 rfl rfl)
theorem dX5_soles_42 : decode cX5_soles 42 = .ok (.iadd, 1) := dk_96 (dk_at dksX5_soles_1 18 rfl rfl)
theorem dX5_soles_43 : decode cX5_soles 43 = .ok (.iconst 1, 1) := dk_4 (dk_at dksX5_soles_1 19 rfl rfl)
theorem dX5_soles_44 : decode cX5_soles 44 = .ok (.iadd, 1) := dk_96 (dk_at dksX5_soles_1 20 rfl rfl)
theorem dX5_soles_45 : decode cX5_soles 45 = .ok (.iaload, 1) := dk_46 (dk_at dksX5_soles_1 21 rfl rfl)
theorem dX5_soles_46 : decode cX5_soles 46 = .ok (.iload_n 1, 1) := dk_27 (dk_at dksX5_soles_1 22 rfl rfl)
theorem dX5_soles_47 : decode cX5_soles 47 = .ok (.if_icmp .ne 7, 3) := dk_160 0 7 (dk_at dksX5_soles_2 0 rfl rfl)
theorem dX5_soles_50 : decode cX5_soles 50 = .ok (.iconst 1, 1) := dk_4 (dk_at dksX5_soles_2 3 rfl rfl)
theorem dX5_soles_51 : decode cX5_soles 51 = .ok (.goto 4, 3) := dk_167 0 4 (dk_at dksX5_soles_2 4 rfl rfl)
theorem dX5_soles_54 : decode cX5_soles 54 = .ok (.iconst 0, 1) := dk_3 (dk_at dksX5_soles_2 7 rfl rfl)
theorem dX5_soles_55 : decode cX5_soles 55 = .ok (.iadd, 1) := dk_96 (dk_at dksX5_soles_2 8 rfl rfl)
theorem dX5_soles_56 : decode cX5_soles 56 = .ok (.istore_n 2, 1) := dk_61 (dk_at dksX5_soles_2 9 rfl rfl)
theorem dX5_soles_57 : decode cX5_soles 57 = .ok (.iinc 3 1, 3) := dk_132 3 1 (dk_at dksX5_soles_2 10 rfl rfl)
theorem dX5_soles_60 : decode cX5_soles 60 = .ok (.goto (-51), 3) := dk_167 255 205 (dk_at dksX5_soles_2 13 rfl rfl)
theorem dX5_soles_63 : decode cX5_soles 63 = .ok (.iload_n 2, 1) := dk_28 (dk_at dksX5_soles_2 16 rfl rfl)
theorem dX5_soles_64 : decode cX5_soles 64 = .ok (.ireturn, 1) := dk_172 (dk_at dksX5_soles_2 17 rfl rfl)
abbrev cX5_deepest : ByteArray := prog_19_method_56_code
def yX5_deepest : MethodName := ⟨RX5, "deepest", "()I"⟩
def dkwX5_deepest_1 : List UInt8 := [54, 4, 21, 4, 28, 163, 0, 6, 167, 0, 8, 21, 4, 61, 29, 60, 132, 3, 1, 167, 255, 225, 27, 172]
abbrev dktX5_deepest_1 : List UInt8 := dkwX5_deepest_1 ++ []
def dkwX5_deepest_0 : List UInt8 := [42, 3, 181, 0, 1, 2, 60, 3, 61, 3, 62, 29, 17, 0, 144, 162, 0, 30, 42, 29, 182, 1, 13]
abbrev dktX5_deepest_0 : List UInt8 := dkwX5_deepest_0 ++ dktX5_deepest_1
theorem dksX5_deepest_0 : cX5_deepest.data.toList.drop 0 = dktX5_deepest_0 := by decide +kernel
theorem dksX5_deepest_1 : cX5_deepest.data.toList.drop 23 = dktX5_deepest_1 := dk_seg dksX5_deepest_0 23 rfl rfl
theorem dX5_deepest_0 : decode cX5_deepest 0 = .ok (.aload_n 0, 1) := dk_42 (dk_at dksX5_deepest_0 0 rfl rfl)
theorem dX5_deepest_1 : decode cX5_deepest 1 = .ok (.iconst 0, 1) := dk_3 (dk_at dksX5_deepest_0 1 rfl rfl)
theorem dX5_deepest_2 : decode cX5_deepest 2 = .ok (.putfield 1, 3) := dk_181 0 1 (dk_at dksX5_deepest_0 2 rfl rfl)
theorem dX5_deepest_5 : decode cX5_deepest 5 = .ok (.iconst (-1), 1) := dk_2 (dk_at dksX5_deepest_0 5 rfl rfl)
theorem dX5_deepest_6 : decode cX5_deepest 6 = .ok (.istore_n 1, 1) := dk_60 (dk_at dksX5_deepest_0 6 rfl rfl)
theorem dX5_deepest_7 : decode cX5_deepest 7 = .ok (.iconst 0, 1) := dk_3 (dk_at dksX5_deepest_0 7 rfl rfl)
theorem dX5_deepest_8 : decode cX5_deepest 8 = .ok (.istore_n 2, 1) := dk_61 (dk_at dksX5_deepest_0 8 rfl rfl)
theorem dX5_deepest_9 : decode cX5_deepest 9 = .ok (.iconst 0, 1) := dk_3 (dk_at dksX5_deepest_0 9 rfl rfl)
theorem dX5_deepest_10 : decode cX5_deepest 10 = .ok (.istore_n 3, 1) := dk_62 (dk_at dksX5_deepest_0 10 rfl rfl)
theorem dX5_deepest_11 : decode cX5_deepest 11 = .ok (.iload_n 3, 1) := dk_29 (dk_at dksX5_deepest_0 11 rfl rfl)
theorem dX5_deepest_12 : decode cX5_deepest 12 = .ok (.sipush 144, 3) := dk_17 0 144 (dk_at dksX5_deepest_0 12 rfl rfl)
theorem dX5_deepest_15 : decode cX5_deepest 15 = .ok (.if_icmp .ge 30, 3) := dk_162 0 30 (dk_at dksX5_deepest_0 15 rfl rfl)
theorem dX5_deepest_18 : decode cX5_deepest 18 = .ok (.aload_n 0, 1) := dk_42 (dk_at dksX5_deepest_0 18 rfl rfl)
theorem dX5_deepest_19 : decode cX5_deepest 19 = .ok (.iload_n 3, 1) := dk_29 (dk_at dksX5_deepest_0 19 rfl rfl)
theorem dX5_deepest_20 : decode cX5_deepest 20 = .ok (.invokevirtual 269, 3) := dk_182 1 13 (dk_at dksX5_deepest_0 20 rfl rfl)
theorem dX5_deepest_23 : decode cX5_deepest 23 = .ok (.istore 4, 2) := dk_54 4 (dk_at dksX5_deepest_1 0 rfl rfl)
theorem dX5_deepest_25 : decode cX5_deepest 25 = .ok (.iload 4, 2) := dk_21 4 (dk_at dksX5_deepest_1 2 rfl rfl)
theorem dX5_deepest_27 : decode cX5_deepest 27 = .ok (.iload_n 2, 1) := dk_28 (dk_at dksX5_deepest_1 4 rfl rfl)
theorem dX5_deepest_28 : decode cX5_deepest 28 = .ok (.if_icmp .gt 6, 3) := dk_163 0 6 (dk_at dksX5_deepest_1 5 rfl rfl)
theorem dX5_deepest_31 : decode cX5_deepest 31 = .ok (.goto 8, 3) := dk_167 0 8 (dk_at dksX5_deepest_1 8 rfl rfl)
theorem dX5_deepest_34 : decode cX5_deepest 34 = .ok (.iload 4, 2) := dk_21 4 (dk_at dksX5_deepest_1 11 rfl rfl)
theorem dX5_deepest_36 : decode cX5_deepest 36 = .ok (.istore_n 2, 1) := dk_61 (dk_at dksX5_deepest_1 13 rfl rfl)
theorem dX5_deepest_37 : decode cX5_deepest 37 = .ok (.iload_n 3, 1) := dk_29 (dk_at dksX5_deepest_1 14 rfl rfl)
theorem dX5_deepest_38 : decode cX5_deepest 38 = .ok (.istore_n 1, 1) := dk_60 (dk_at dksX5_deepest_1 15 rfl rfl)
theorem dX5_deepest_39 : decode cX5_deepest 39 = .ok (.iinc 3 1, 3) := dk_132 3 1 (dk_at dksX5_deepest_1 16 rfl rfl)
theorem dX5_deepest_42 : decode cX5_deepest 42 = .ok (.goto (-31), 3) := dk_167 255 225 (dk_at dksX5_deepest_1 19 rfl rfl)
theorem dX5_deepest_45 : decode cX5_deepest 45 = .ok (.iload_n 1, 1) := dk_27 (dk_at dksX5_deepest_1 22 rfl rfl)
theorem dX5_deepest_46 : decode cX5_deepest 46 = .ok (.ireturn, 1) := dk_172 (dk_at dksX5_deepest_1 23 rfl rfl)
abbrev cX5_who : ByteArray := prog_19_method_58_code
def yX5_who : MethodName := ⟨RX5, "who", "(I)I"⟩
def dkwX5_who_2 : List UInt8 := [154, 0, 7, 2, 167, 0, 4, 28, 172]
abbrev dktX5_who_2 : List UInt8 := dkwX5_who_2 ++ []
def dkwX5_who_1 : List UInt8 := [182, 1, 53, 155, 0, 9, 4, 29, 120, 167, 0, 4, 3, 128, 61, 132, 3, 1, 167, 255, 224, 28]
abbrev dktX5_who_1 : List UInt8 := dkwX5_who_1 ++ dktX5_who_2
def dkwX5_who_0 : List UInt8 := [42, 3, 181, 0, 1, 3, 61, 3, 62, 29, 42, 180, 0, 33, 5, 46, 162, 0, 28, 28, 42, 29, 27]
abbrev dktX5_who_0 : List UInt8 := dkwX5_who_0 ++ dktX5_who_1
theorem dksX5_who_0 : cX5_who.data.toList.drop 0 = dktX5_who_0 := by decide +kernel
theorem dksX5_who_1 : cX5_who.data.toList.drop 23 = dktX5_who_1 := dk_seg dksX5_who_0 23 rfl rfl
theorem dksX5_who_2 : cX5_who.data.toList.drop 45 = dktX5_who_2 := dk_seg dksX5_who_1 22 rfl rfl
theorem dX5_who_0 : decode cX5_who 0 = .ok (.aload_n 0, 1) := dk_42 (dk_at dksX5_who_0 0 rfl rfl)
theorem dX5_who_1 : decode cX5_who 1 = .ok (.iconst 0, 1) := dk_3 (dk_at dksX5_who_0 1 rfl rfl)
theorem dX5_who_2 : decode cX5_who 2 = .ok (.putfield 1, 3) := dk_181 0 1 (dk_at dksX5_who_0 2 rfl rfl)
theorem dX5_who_5 : decode cX5_who 5 = .ok (.iconst 0, 1) := dk_3 (dk_at dksX5_who_0 5 rfl rfl)
theorem dX5_who_6 : decode cX5_who 6 = .ok (.istore_n 2, 1) := dk_61 (dk_at dksX5_who_0 6 rfl rfl)
theorem dX5_who_7 : decode cX5_who 7 = .ok (.iconst 0, 1) := dk_3 (dk_at dksX5_who_0 7 rfl rfl)
theorem dX5_who_8 : decode cX5_who 8 = .ok (.istore_n 3, 1) := dk_62 (dk_at dksX5_who_0 8 rfl rfl)
theorem dX5_who_9 : decode cX5_who 9 = .ok (.iload_n 3, 1) := dk_29 (dk_at dksX5_who_0 9 rfl rfl)
theorem dX5_who_10 : decode cX5_who 10 = .ok (.aload_n 0, 1) := dk_42 (dk_at dksX5_who_0 10 rfl rfl)
theorem dX5_who_11 : decode cX5_who 11 = .ok (.getfield 33, 3) := dk_180 0 33 (dk_at dksX5_who_0 11 rfl rfl)
theorem dX5_who_14 : decode cX5_who 14 = .ok (.iconst 2, 1) := dk_5 (dk_at dksX5_who_0 14 rfl rfl)
theorem dX5_who_15 : decode cX5_who 15 = .ok (.iaload, 1) := dk_46 (dk_at dksX5_who_0 15 rfl rfl)
theorem dX5_who_16 : decode cX5_who 16 = .ok (.if_icmp .ge 28, 3) := dk_162 0 28 (dk_at dksX5_who_0 16 rfl rfl)
theorem dX5_who_19 : decode cX5_who 19 = .ok (.iload_n 2, 1) := dk_28 (dk_at dksX5_who_0 19 rfl rfl)
theorem dX5_who_20 : decode cX5_who 20 = .ok (.aload_n 0, 1) := dk_42 (dk_at dksX5_who_0 20 rfl rfl)
theorem dX5_who_21 : decode cX5_who 21 = .ok (.iload_n 3, 1) := dk_29 (dk_at dksX5_who_0 21 rfl rfl)
theorem dX5_who_22 : decode cX5_who 22 = .ok (.iload_n 1, 1) := dk_27 (dk_at dksX5_who_0 22 rfl rfl)
theorem dX5_who_23 : decode cX5_who 23 = .ok (.invokevirtual 309, 3) := dk_182 1 53 (dk_at dksX5_who_1 0 rfl rfl)
theorem dX5_who_26 : decode cX5_who 26 = .ok (.ifCond .lt 9, 3) := dk_155 0 9 (dk_at dksX5_who_1 3 rfl rfl)
theorem dX5_who_29 : decode cX5_who 29 = .ok (.iconst 1, 1) := dk_4 (dk_at dksX5_who_1 6 rfl rfl)
theorem dX5_who_30 : decode cX5_who 30 = .ok (.iload_n 3, 1) := dk_29 (dk_at dksX5_who_1 7 rfl rfl)
theorem dX5_who_31 : decode cX5_who 31 = .ok (.ishl, 1) := dk_120 (dk_at dksX5_who_1 8 rfl rfl)
theorem dX5_who_32 : decode cX5_who 32 = .ok (.goto 4, 3) := dk_167 0 4 (dk_at dksX5_who_1 9 rfl rfl)
theorem dX5_who_35 : decode cX5_who 35 = .ok (.iconst 0, 1) := dk_3 (dk_at dksX5_who_1 12 rfl rfl)
theorem dX5_who_36 : decode cX5_who 36 = .ok (.ior, 1) := dk_128 (dk_at dksX5_who_1 13 rfl rfl)
theorem dX5_who_37 : decode cX5_who 37 = .ok (.istore_n 2, 1) := dk_61 (dk_at dksX5_who_1 14 rfl rfl)
theorem dX5_who_38 : decode cX5_who 38 = .ok (.iinc 3 1, 3) := dk_132 3 1 (dk_at dksX5_who_1 15 rfl rfl)
theorem dX5_who_41 : decode cX5_who 41 = .ok (.goto (-32), 3) := dk_167 255 224 (dk_at dksX5_who_1 18 rfl rfl)
theorem dX5_who_44 : decode cX5_who 44 = .ok (.iload_n 2, 1) := dk_28 (dk_at dksX5_who_1 21 rfl rfl)
theorem dX5_who_45 : decode cX5_who 45 = .ok (.ifCond .ne 7, 3) := dk_154 0 7 (dk_at dksX5_who_2 0 rfl rfl)
theorem dX5_who_48 : decode cX5_who 48 = .ok (.iconst (-1), 1) := dk_2 (dk_at dksX5_who_2 3 rfl rfl)
theorem dX5_who_49 : decode cX5_who 49 = .ok (.goto 4, 3) := dk_167 0 4 (dk_at dksX5_who_2 4 rfl rfl)
theorem dX5_who_52 : decode cX5_who 52 = .ok (.iload_n 2, 1) := dk_28 (dk_at dksX5_who_2 7 rfl rfl)
theorem dX5_who_53 : decode cX5_who 53 = .ok (.ireturn, 1) := dk_172 (dk_at dksX5_who_2 8 rfl rfl)
abbrev cX5_ageBy : ByteArray := prog_19_method_57_code
def yX5_ageBy : MethodName := ⟨RX5, "ageBy", "(II)I"⟩
def dkwX5_ageBy_1 : List UInt8 := [180, 0, 33, 16, 6, 46, 29, 100, 104, 28, 160, 0, 5, 29, 172, 132, 3, 1, 167, 255, 217, 2, 172]
abbrev dktX5_ageBy_1 : List UInt8 := dkwX5_ageBy_1 ++ []
def dkwX5_ageBy_0 : List UInt8 := [3, 62, 29, 42, 180, 0, 33, 16, 6, 46, 162, 0, 34, 42, 180, 0, 33, 16, 7, 27, 96, 46, 42]
abbrev dktX5_ageBy_0 : List UInt8 := dkwX5_ageBy_0 ++ dktX5_ageBy_1
theorem dksX5_ageBy_0 : cX5_ageBy.data.toList.drop 0 = dktX5_ageBy_0 := by decide +kernel
theorem dksX5_ageBy_1 : cX5_ageBy.data.toList.drop 23 = dktX5_ageBy_1 := dk_seg dksX5_ageBy_0 23 rfl rfl
theorem dX5_ageBy_0 : decode cX5_ageBy 0 = .ok (.iconst 0, 1) := dk_3 (dk_at dksX5_ageBy_0 0 rfl rfl)
theorem dX5_ageBy_1 : decode cX5_ageBy 1 = .ok (.istore_n 3, 1) := dk_62 (dk_at dksX5_ageBy_0 1 rfl rfl)
theorem dX5_ageBy_2 : decode cX5_ageBy 2 = .ok (.iload_n 3, 1) := dk_29 (dk_at dksX5_ageBy_0 2 rfl rfl)
theorem dX5_ageBy_3 : decode cX5_ageBy 3 = .ok (.aload_n 0, 1) := dk_42 (dk_at dksX5_ageBy_0 3 rfl rfl)
theorem dX5_ageBy_4 : decode cX5_ageBy 4 = .ok (.getfield 33, 3) := dk_180 0 33 (dk_at dksX5_ageBy_0 4 rfl rfl)
theorem dX5_ageBy_7 : decode cX5_ageBy 7 = .ok (.bipush 6, 2) := dk_16 6 (dk_at dksX5_ageBy_0 7 rfl rfl)
theorem dX5_ageBy_9 : decode cX5_ageBy 9 = .ok (.iaload, 1) := dk_46 (dk_at dksX5_ageBy_0 9 rfl rfl)
theorem dX5_ageBy_10 : decode cX5_ageBy 10 = .ok (.if_icmp .ge 34, 3) := dk_162 0 34 (dk_at dksX5_ageBy_0 10 rfl rfl)
theorem dX5_ageBy_13 : decode cX5_ageBy 13 = .ok (.aload_n 0, 1) := dk_42 (dk_at dksX5_ageBy_0 13 rfl rfl)
theorem dX5_ageBy_14 : decode cX5_ageBy 14 = .ok (.getfield 33, 3) := dk_180 0 33 (dk_at dksX5_ageBy_0 14 rfl rfl)
theorem dX5_ageBy_17 : decode cX5_ageBy 17 = .ok (.bipush 7, 2) := dk_16 7 (dk_at dksX5_ageBy_0 17 rfl rfl)
theorem dX5_ageBy_19 : decode cX5_ageBy 19 = .ok (.iload_n 1, 1) := dk_27 (dk_at dksX5_ageBy_0 19 rfl rfl)
theorem dX5_ageBy_20 : decode cX5_ageBy 20 = .ok (.iadd, 1) := dk_96 (dk_at dksX5_ageBy_0 20 rfl rfl)
theorem dX5_ageBy_21 : decode cX5_ageBy 21 = .ok (.iaload, 1) := dk_46 (dk_at dksX5_ageBy_0 21 rfl rfl)
theorem dX5_ageBy_22 : decode cX5_ageBy 22 = .ok (.aload_n 0, 1) := dk_42 (dk_at dksX5_ageBy_0 22 rfl rfl)
theorem dX5_ageBy_23 : decode cX5_ageBy 23 = .ok (.getfield 33, 3) := dk_180 0 33 (dk_at dksX5_ageBy_1 0 rfl rfl)
theorem dX5_ageBy_26 : decode cX5_ageBy 26 = .ok (.bipush 6, 2) := dk_16 6 (dk_at dksX5_ageBy_1 3 rfl rfl)
theorem dX5_ageBy_28 : decode cX5_ageBy 28 = .ok (.iaload, 1) := dk_46 (dk_at dksX5_ageBy_1 5 rfl rfl)
theorem dX5_ageBy_29 : decode cX5_ageBy 29 = .ok (.iload_n 3, 1) := dk_29 (dk_at dksX5_ageBy_1 6 rfl rfl)
theorem dX5_ageBy_30 : decode cX5_ageBy 30 = .ok (.isub, 1) := dk_100 (dk_at dksX5_ageBy_1 7 rfl rfl)
theorem dX5_ageBy_31 : decode cX5_ageBy 31 = .ok (.imul, 1) := dk_104 (dk_at dksX5_ageBy_1 8 rfl rfl)
theorem dX5_ageBy_32 : decode cX5_ageBy 32 = .ok (.iload_n 2, 1) := dk_28 (dk_at dksX5_ageBy_1 9 rfl rfl)
theorem dX5_ageBy_33 : decode cX5_ageBy 33 = .ok (.if_icmp .ne 5, 3) := dk_160 0 5 (dk_at dksX5_ageBy_1 10 rfl rfl)
theorem dX5_ageBy_36 : decode cX5_ageBy 36 = .ok (.iload_n 3, 1) := dk_29 (dk_at dksX5_ageBy_1 13 rfl rfl)
theorem dX5_ageBy_37 : decode cX5_ageBy 37 = .ok (.ireturn, 1) := dk_172 (dk_at dksX5_ageBy_1 14 rfl rfl)
theorem dX5_ageBy_38 : decode cX5_ageBy 38 = .ok (.iinc 3 1, 3) := dk_132 3 1 (dk_at dksX5_ageBy_1 15 rfl rfl)
theorem dX5_ageBy_41 : decode cX5_ageBy 41 = .ok (.goto (-39), 3) := dk_167 255 217 (dk_at dksX5_ageBy_1 18 rfl rfl)
theorem dX5_ageBy_44 : decode cX5_ageBy 44 = .ok (.iconst (-1), 1) := dk_2 (dk_at dksX5_ageBy_1 21 rfl rfl)
theorem dX5_ageBy_45 : decode cX5_ageBy 45 = .ok (.ireturn, 1) := dk_172 (dk_at dksX5_ageBy_1 22 rfl rfl)
abbrev cX5_age : ByteArray := prog_19_method_59_code
def yX5_age : MethodName := ⟨RX5, "age", "(II)I"⟩
def dkwX5_age_0 : List UInt8 := [42, 3, 181, 0, 1, 42, 27, 182, 1, 3, 153, 0, 12, 42, 27, 28, 182, 1, 53, 167, 0, 4, 2, 172]
abbrev dktX5_age_0 : List UInt8 := dkwX5_age_0 ++ []
theorem dksX5_age_0 : cX5_age.data.toList.drop 0 = dktX5_age_0 := by decide +kernel
theorem dX5_age_0 : decode cX5_age 0 = .ok (.aload_n 0, 1) := dk_42 (dk_at dksX5_age_0 0 rfl rfl)
theorem dX5_age_1 : decode cX5_age 1 = .ok (.iconst 0, 1) := dk_3 (dk_at dksX5_age_0 1 rfl rfl)
theorem dX5_age_2 : decode cX5_age 2 = .ok (.putfield 1, 3) := dk_181 0 1 (dk_at dksX5_age_0 2 rfl rfl)
theorem dX5_age_5 : decode cX5_age 5 = .ok (.aload_n 0, 1) := dk_42 (dk_at dksX5_age_0 5 rfl rfl)
theorem dX5_age_6 : decode cX5_age 6 = .ok (.iload_n 1, 1) := dk_27 (dk_at dksX5_age_0 6 rfl rfl)
theorem dX5_age_7 : decode cX5_age 7 = .ok (.invokevirtual 259, 3) := dk_182 1 3 (dk_at dksX5_age_0 7 rfl rfl)
theorem dX5_age_10 : decode cX5_age 10 = .ok (.ifCond .eq 12, 3) := dk_153 0 12 (dk_at dksX5_age_0 10 rfl rfl)
theorem dX5_age_13 : decode cX5_age 13 = .ok (.aload_n 0, 1) := dk_42 (dk_at dksX5_age_0 13 rfl rfl)
theorem dX5_age_14 : decode cX5_age 14 = .ok (.iload_n 1, 1) := dk_27 (dk_at dksX5_age_0 14 rfl rfl)
theorem dX5_age_15 : decode cX5_age 15 = .ok (.iload_n 2, 1) := dk_28 (dk_at dksX5_age_0 15 rfl rfl)
theorem dX5_age_16 : decode cX5_age 16 = .ok (.invokevirtual 309, 3) := dk_182 1 53 (dk_at dksX5_age_0 16 rfl rfl)
theorem dX5_age_19 : decode cX5_age 19 = .ok (.goto 4, 3) := dk_167 0 4 (dk_at dksX5_age_0 19 rfl rfl)
theorem dX5_age_22 : decode cX5_age 22 = .ok (.iconst (-1), 1) := dk_2 (dk_at dksX5_age_0 22 rfl rfl)
theorem dX5_age_23 : decode cX5_age 23 = .ok (.ireturn, 1) := dk_172 (dk_at dksX5_age_0 23 rfl rfl)
abbrev cX5_readings : ByteArray := prog_19_method_62_code
def yX5_readings : MethodName := ⟨RX5, "readings", "()I"⟩
def dkwX5_readings_12 : List UInt8 := [182, 1, 66, 62, 167, 255, 222, 28, 172]
abbrev dktX5_readings_12 : List UInt8 := dkwX5_readings_12 ++ []
def dkwX5_readings_11 : List UInt8 := [182, 1, 59, 153, 0, 20, 132, 2, 1, 42, 28, 4, 160, 0, 7, 4, 167, 0, 4, 3, 182, 1, 62, 42]
abbrev dktX5_readings_11 : List UInt8 := dkwX5_readings_11 ++ dktX5_readings_12
def dkwX5_readings_10 : List UInt8 := [42, 180, 0, 57, 28, 3, 79, 132, 2, 1, 167, 255, 240, 3, 61, 4, 62, 29, 153, 0, 36, 42, 27]
abbrev dktX5_readings_10 : List UInt8 := dkwX5_readings_10 ++ dktX5_readings_11
def dkwX5_readings_9 : List UInt8 := [96, 21, 4, 79, 132, 3, 1, 167, 255, 150, 132, 2, 4, 167, 255, 77, 3, 61, 28, 16, 6, 162, 0, 16]
abbrev dktX5_readings_9 : List UInt8 := dkwX5_readings_9 ++ dktX5_readings_10
def dkwX5_readings_8 : List UInt8 := [167, 0, 4, 3, 96, 54, 4, 132, 5, 1, 167, 255, 183, 42, 180, 0, 54, 16, 6, 28, 7, 108, 104, 29]
abbrev dktX5_readings_8 : List UInt8 := dkwX5_readings_8 ++ dktX5_readings_9
def dkwX5_readings_7 : List UInt8 := [21, 5, 96, 46, 16, 12, 42, 28, 4, 96, 182, 1, 56, 104, 42, 28, 182, 1, 56, 96, 160, 0, 7, 4]
abbrev dktX5_readings_7 : List UInt8 := dkwX5_readings_7 ++ dktX5_readings_8
def dkwX5_readings_6 : List UInt8 := [29, 42, 180, 0, 33, 6, 46, 162, 0, 54, 21, 4, 42, 180, 0, 33, 17, 0, 183, 16, 41, 29, 104, 96]
abbrev dktX5_readings_6 : List UInt8 := dkwX5_readings_6 ++ dktX5_readings_7
def dkwX5_readings_5 : List UInt8 := [162, 0, 106, 3, 54, 4, 3, 54, 5, 21, 5, 42, 180, 0, 33, 17, 0, 177, 29, 96, 46, 162, 0, 64]
abbrev dktX5_readings_5 : List UInt8 := dkwX5_readings_5 ++ dktX5_readings_6
def dkwX5_readings_4 : List UInt8 := [164, 0, 18, 42, 28, 6, 96, 182, 1, 56, 17, 0, 255, 159, 0, 5, 2, 172, 3, 62, 29, 16, 6]
abbrev dktX5_readings_4 : List UInt8 := dkwX5_readings_4 ++ dktX5_readings_5
def dkwX5_readings_3 : List UInt8 := [28, 4, 96, 182, 1, 56, 42, 180, 0, 33, 4, 46, 162, 0, 28, 42, 28, 6, 96, 182, 1, 56, 16, 9]
abbrev dktX5_readings_3 : List UInt8 := dkwX5_readings_3 ++ dktX5_readings_4
def dkwX5_readings_2 : List UInt8 := [61, 28, 42, 180, 0, 18, 162, 0, 177, 42, 28, 182, 1, 56, 42, 180, 0, 33, 3, 46, 162, 0, 44, 42]
abbrev dktX5_readings_2 : List UInt8 := dkwX5_readings_2 ++ dktX5_readings_3
def dkwX5_readings_1 : List UInt8 := [180, 0, 18, 7, 108, 4, 16, 8, 184, 0, 191, 154, 0, 5, 2, 172, 42, 180, 0, 18, 7, 108, 60, 3]
abbrev dktX5_readings_1 : List UInt8 := dkwX5_readings_1 ++ dktX5_readings_2
def dkwX5_readings_0 : List UInt8 := [42, 3, 181, 0, 1, 42, 17, 3, 172, 182, 0, 237, 42, 180, 0, 18, 7, 112, 154, 0, 18, 42]
abbrev dktX5_readings_0 : List UInt8 := dkwX5_readings_0 ++ dktX5_readings_1
theorem dksX5_readings_0 : cX5_readings.data.toList.drop 0 = dktX5_readings_0 := by decide +kernel
theorem dksX5_readings_1 : cX5_readings.data.toList.drop 22 = dktX5_readings_1 := dk_seg dksX5_readings_0 22 rfl rfl
theorem dksX5_readings_2 : cX5_readings.data.toList.drop 46 = dktX5_readings_2 := dk_seg dksX5_readings_1 24 rfl rfl
theorem dksX5_readings_3 : cX5_readings.data.toList.drop 70 = dktX5_readings_3 := dk_seg dksX5_readings_2 24 rfl rfl
theorem dksX5_readings_4 : cX5_readings.data.toList.drop 94 = dktX5_readings_4 := dk_seg dksX5_readings_3 24 rfl rfl
theorem dksX5_readings_5 : cX5_readings.data.toList.drop 117 = dktX5_readings_5 := dk_seg dksX5_readings_4 23 rfl rfl
theorem dksX5_readings_6 : cX5_readings.data.toList.drop 141 = dktX5_readings_6 := dk_seg dksX5_readings_5 24 rfl rfl
theorem dksX5_readings_7 : cX5_readings.data.toList.drop 165 = dktX5_readings_7 := dk_seg dksX5_readings_6 24 rfl rfl
theorem dksX5_readings_8 : cX5_readings.data.toList.drop 189 = dktX5_readings_8 := dk_seg dksX5_readings_7 24 rfl rfl
theorem dksX5_readings_9 : cX5_readings.data.toList.drop 213 = dktX5_readings_9 := dk_seg dksX5_readings_8 24 rfl rfl
theorem dksX5_readings_10 : cX5_readings.data.toList.drop 237 = dktX5_readings_10 := dk_seg dksX5_readings_9 24 rfl rfl
theorem dksX5_readings_11 : cX5_readings.data.toList.drop 260 = dktX5_readings_11 := dk_seg dksX5_readings_10 23 rfl rfl
theorem dksX5_readings_12 : cX5_readings.data.toList.drop 284 = dktX5_readings_12 := dk_seg dksX5_readings_11 24 rfl rfl
theorem dX5_readings_0 : decode cX5_readings 0 = .ok (.aload_n 0, 1) := dk_42 (dk_at dksX5_readings_0 0 rfl rfl)
theorem dX5_readings_1 : decode cX5_readings 1 = .ok (.iconst 0, 1) := dk_3 (dk_at dksX5_readings_0 1 rfl rfl)
theorem dX5_readings_2 : decode cX5_readings 2 = .ok (.putfield 1, 3) := dk_181 0 1 (dk_at dksX5_readings_0 2 rfl rfl)
theorem dX5_readings_5 : decode cX5_readings 5 = .ok (.aload_n 0, 1) := dk_42 (dk_at dksX5_readings_0 5 rfl rfl)
theorem dX5_readings_6 : decode cX5_readings 6 = .ok (.sipush 940, 3) := dk_17 3 172 (dk_at dksX5_readings_0 6 rfl rfl)
theorem dX5_readings_9 : decode cX5_readings 9 = .ok (.invokevirtual 237, 3) := dk_182 0 237 (dk_at dksX5_readings_0 9 rfl rfl)
theorem dX5_readings_12 : decode cX5_readings 12 = .ok (.aload_n 0, 1) := dk_42 (dk_at dksX5_readings_0 12 rfl rfl)
theorem dX5_readings_13 : decode cX5_readings 13 = .ok (.getfield 18, 3) := dk_180 0 18 (dk_at dksX5_readings_0 13 rfl rfl)
theorem dX5_readings_16 : decode cX5_readings 16 = .ok (.iconst 4, 1) := dk_7 (dk_at dksX5_readings_0 16 rfl rfl)
theorem dX5_readings_17 : decode cX5_readings 17 = .ok (.irem, 1) := dk_112 (dk_at dksX5_readings_0 17 rfl rfl)
theorem dX5_readings_18 : decode cX5_readings 18 = .ok (.ifCond .ne 18, 3) := dk_154 0 18 (dk_at dksX5_readings_0 18 rfl rfl)
theorem dX5_readings_21 : decode cX5_readings 21 = .ok (.aload_n 0, 1) := dk_42 (dk_at dksX5_readings_0 21 rfl rfl)
theorem dX5_readings_22 : decode cX5_readings 22 = .ok (.getfield 18, 3) := dk_180 0 18 (dk_at dksX5_readings_1 0 rfl rfl)
theorem dX5_readings_25 : decode cX5_readings 25 = .ok (.iconst 4, 1) := dk_7 (dk_at dksX5_readings_1 3 rfl rfl)
theorem dX5_readings_26 : decode cX5_readings 26 = .ok (.idiv, 1) := dk_108 (dk_at dksX5_readings_1 4 rfl rfl)
theorem dX5_readings_27 : decode cX5_readings 27 = .ok (.iconst 1, 1) := dk_4 (dk_at dksX5_readings_1 5 rfl rfl)
theorem dX5_readings_28 : decode cX5_readings 28 = .ok (.bipush 8, 2) := dk_16 8 (dk_at dksX5_readings_1 6 rfl rfl)
theorem dX5_readings_30 : decode cX5_readings 30 = .ok (.invokestatic 191, 3) := dk_184 0 191 (dk_at dksX5_readings_1 8 rfl rfl)
theorem dX5_readings_33 : decode cX5_readings 33 = .ok (.ifCond .ne 5, 3) := dk_154 0 5 (dk_at dksX5_readings_1 11 rfl rfl)
theorem dX5_readings_36 : decode cX5_readings 36 = .ok (.iconst (-1), 1) := dk_2 (dk_at dksX5_readings_1 14 rfl rfl)
theorem dX5_readings_37 : decode cX5_readings 37 = .ok (.ireturn, 1) := dk_172 (dk_at dksX5_readings_1 15 rfl rfl)
theorem dX5_readings_38 : decode cX5_readings 38 = .ok (.aload_n 0, 1) := dk_42 (dk_at dksX5_readings_1 16 rfl rfl)
theorem dX5_readings_39 : decode cX5_readings 39 = .ok (.getfield 18, 3) := dk_180 0 18 (dk_at dksX5_readings_1 17 rfl rfl)
theorem dX5_readings_42 : decode cX5_readings 42 = .ok (.iconst 4, 1) := dk_7 (dk_at dksX5_readings_1 20 rfl rfl)
theorem dX5_readings_43 : decode cX5_readings 43 = .ok (.idiv, 1) := dk_108 (dk_at dksX5_readings_1 21 rfl rfl)
theorem dX5_readings_44 : decode cX5_readings 44 = .ok (.istore_n 1, 1) := dk_60 (dk_at dksX5_readings_1 22 rfl rfl)
theorem dX5_readings_45 : decode cX5_readings 45 = .ok (.iconst 0, 1) := dk_3 (dk_at dksX5_readings_1 23 rfl rfl)
theorem dX5_readings_46 : decode cX5_readings 46 = .ok (.istore_n 2, 1) := dk_61 (dk_at dksX5_readings_2 0 rfl rfl)
theorem dX5_readings_47 : decode cX5_readings 47 = .ok (.iload_n 2, 1) := dk_28 (dk_at dksX5_readings_2 1 rfl rfl)
theorem dX5_readings_48 : decode cX5_readings 48 = .ok (.aload_n 0, 1) := dk_42 (dk_at dksX5_readings_2 2 rfl rfl)
theorem dX5_readings_49 : decode cX5_readings 49 = .ok (.getfield 18, 3) := dk_180 0 18 (dk_at dksX5_readings_2 3 rfl rfl)
theorem dX5_readings_52 : decode cX5_readings 52 = .ok (.if_icmp .ge 177, 3) := dk_162 0 177 (dk_at dksX5_readings_2 6 rfl rfl)
theorem dX5_readings_55 : decode cX5_readings 55 = .ok (.aload_n 0, 1) := dk_42 (dk_at dksX5_readings_2 9 rfl rfl)
theorem dX5_readings_56 : decode cX5_readings 56 = .ok (.iload_n 2, 1) := dk_28 (dk_at dksX5_readings_2 10 rfl rfl)
theorem dX5_readings_57 : decode cX5_readings 57 = .ok (.invokevirtual 312, 3) := dk_182 1 56 (dk_at dksX5_readings_2 11 rfl rfl)
theorem dX5_readings_60 : decode cX5_readings 60 = .ok (.aload_n 0, 1) := dk_42 (dk_at dksX5_readings_2 14 rfl rfl)
theorem dX5_readings_61 : decode cX5_readings 61 = .ok (.getfield 33, 3) := dk_180 0 33 (dk_at dksX5_readings_2 15 rfl rfl)
theorem dX5_readings_64 : decode cX5_readings 64 = .ok (.iconst 0, 1) := dk_3 (dk_at dksX5_readings_2 18 rfl rfl)
theorem dX5_readings_65 : decode cX5_readings 65 = .ok (.iaload, 1) := dk_46 (dk_at dksX5_readings_2 19 rfl rfl)
theorem dX5_readings_66 : decode cX5_readings 66 = .ok (.if_icmp .ge 44, 3) := dk_162 0 44 (dk_at dksX5_readings_2 20 rfl rfl)
theorem dX5_readings_69 : decode cX5_readings 69 = .ok (.aload_n 0, 1) := dk_42 (dk_at dksX5_readings_2 23 rfl rfl)
theorem dX5_readings_70 : decode cX5_readings 70 = .ok (.iload_n 2, 1) := dk_28 (dk_at dksX5_readings_3 0 rfl rfl)
theorem dX5_readings_71 : decode cX5_readings 71 = .ok (.iconst 1, 1) := dk_4 (dk_at dksX5_readings_3 1 rfl rfl)
theorem dX5_readings_72 : decode cX5_readings 72 = .ok (.iadd, 1) := dk_96 (dk_at dksX5_readings_3 2 rfl rfl)
theorem dX5_readings_73 : decode cX5_readings 73 = .ok (.invokevirtual 312, 3) := dk_182 1 56 (dk_at dksX5_readings_3 3 rfl rfl)
theorem dX5_readings_76 : decode cX5_readings 76 = .ok (.aload_n 0, 1) := dk_42 (dk_at dksX5_readings_3 6 rfl rfl)
theorem dX5_readings_77 : decode cX5_readings 77 = .ok (.getfield 33, 3) := dk_180 0 33 (dk_at dksX5_readings_3 7 rfl rfl)
theorem dX5_readings_80 : decode cX5_readings 80 = .ok (.iconst 1, 1) := dk_4 (dk_at dksX5_readings_3 10 rfl rfl)
theorem dX5_readings_81 : decode cX5_readings 81 = .ok (.iaload, 1) := dk_46 (dk_at dksX5_readings_3 11 rfl rfl)
theorem dX5_readings_82 : decode cX5_readings 82 = .ok (.if_icmp .ge 28, 3) := dk_162 0 28 (dk_at dksX5_readings_3 12 rfl rfl)
theorem dX5_readings_85 : decode cX5_readings 85 = .ok (.aload_n 0, 1) := dk_42 (dk_at dksX5_readings_3 15 rfl rfl)
theorem dX5_readings_86 : decode cX5_readings 86 = .ok (.iload_n 2, 1) := dk_28 (dk_at dksX5_readings_3 16 rfl rfl)
theorem dX5_readings_87 : decode cX5_readings 87 = .ok (.iconst 3, 1) := dk_6 (dk_at dksX5_readings_3 17 rfl rfl)
theorem dX5_readings_88 : decode cX5_readings 88 = .ok (.iadd, 1) := dk_96 (dk_at dksX5_readings_3 18 rfl rfl)
theorem dX5_readings_89 : decode cX5_readings 89 = .ok (.invokevirtual 312, 3) := dk_182 1 56 (dk_at dksX5_readings_3 19 rfl rfl)
theorem dX5_readings_92 : decode cX5_readings 92 = .ok (.bipush 9, 2) := dk_16 9 (dk_at dksX5_readings_3 22 rfl rfl)
theorem dX5_readings_94 : decode cX5_readings 94 = .ok (.if_icmp .le 18, 3) := dk_164 0 18 (dk_at dksX5_readings_4 0 rfl rfl)
theorem dX5_readings_97 : decode cX5_readings 97 = .ok (.aload_n 0, 1) := dk_42 (dk_at dksX5_readings_4 3 rfl rfl)
theorem dX5_readings_98 : decode cX5_readings 98 = .ok (.iload_n 2, 1) := dk_28 (dk_at dksX5_readings_4 4 rfl rfl)
theorem dX5_readings_99 : decode cX5_readings 99 = .ok (.iconst 3, 1) := dk_6 (dk_at dksX5_readings_4 5 rfl rfl)
theorem dX5_readings_100 : decode cX5_readings 100 = .ok (.iadd, 1) := dk_96 (dk_at dksX5_readings_4 6 rfl rfl)
theorem dX5_readings_101 : decode cX5_readings 101 = .ok (.invokevirtual 312, 3) := dk_182 1 56 (dk_at dksX5_readings_4 7 rfl rfl)
theorem dX5_readings_104 : decode cX5_readings 104 = .ok (.sipush 255, 3) := dk_17 0 255 (dk_at dksX5_readings_4 10 rfl rfl)
theorem dX5_readings_107 : decode cX5_readings 107 = .ok (.if_icmp .eq 5, 3) := dk_159 0 5 (dk_at dksX5_readings_4 13 rfl rfl)
theorem dX5_readings_110 : decode cX5_readings 110 = .ok (.iconst (-1), 1) := dk_2 (dk_at dksX5_readings_4 16 rfl rfl)
theorem dX5_readings_111 : decode cX5_readings 111 = .ok (.ireturn, 1) := dk_172 (dk_at dksX5_readings_4 17 rfl rfl)
theorem dX5_readings_112 : decode cX5_readings 112 = .ok (.iconst 0, 1) := dk_3 (dk_at dksX5_readings_4 18 rfl rfl)
theorem dX5_readings_113 : decode cX5_readings 113 = .ok (.istore_n 3, 1) := dk_62 (dk_at dksX5_readings_4 19 rfl rfl)
theorem dX5_readings_114 : decode cX5_readings 114 = .ok (.iload_n 3, 1) := dk_29 (dk_at dksX5_readings_4 20 rfl rfl)
theorem dX5_readings_115 : decode cX5_readings 115 = .ok (.bipush 6, 2) := dk_16 6 (dk_at dksX5_readings_4 21 rfl rfl)
theorem dX5_readings_117 : decode cX5_readings 117 = .ok (.if_icmp .ge 106, 3) := dk_162 0 106 (dk_at dksX5_readings_5 0 rfl rfl)
theorem dX5_readings_120 : decode cX5_readings 120 = .ok (.iconst 0, 1) := dk_3 (dk_at dksX5_readings_5 3 rfl rfl)
theorem dX5_readings_121 : decode cX5_readings 121 = .ok (.istore 4, 2) := dk_54 4 (dk_at dksX5_readings_5 4 rfl rfl)
theorem dX5_readings_123 : decode cX5_readings 123 = .ok (.iconst 0, 1) := dk_3 (dk_at dksX5_readings_5 6 rfl rfl)
theorem dX5_readings_124 : decode cX5_readings 124 = .ok (.istore 5, 2) := dk_54 5 (dk_at dksX5_readings_5 7 rfl rfl)
theorem dX5_readings_126 : decode cX5_readings 126 = .ok (.iload 5, 2) := dk_21 5 (dk_at dksX5_readings_5 9 rfl rfl)
theorem dX5_readings_128 : decode cX5_readings 128 = .ok (.aload_n 0, 1) := dk_42 (dk_at dksX5_readings_5 11 rfl rfl)
theorem dX5_readings_129 : decode cX5_readings 129 = .ok (.getfield 33, 3) := dk_180 0 33 (dk_at dksX5_readings_5 12 rfl rfl)
theorem dX5_readings_132 : decode cX5_readings 132 = .ok (.sipush 177, 3) := dk_17 0 177 (dk_at dksX5_readings_5 15 rfl rfl)
theorem dX5_readings_135 : decode cX5_readings 135 = .ok (.iload_n 3, 1) := dk_29 (dk_at dksX5_readings_5 18 rfl rfl)
theorem dX5_readings_136 : decode cX5_readings 136 = .ok (.iadd, 1) := dk_96 (dk_at dksX5_readings_5 19 rfl rfl)
theorem dX5_readings_137 : decode cX5_readings 137 = .ok (.iaload, 1) := dk_46 (dk_at dksX5_readings_5 20 rfl rfl)
theorem dX5_readings_138 : decode cX5_readings 138 = .ok (.if_icmp .ge 64, 3) := dk_162 0 64 (dk_at dksX5_readings_5 21 rfl rfl)
theorem dX5_readings_141 : decode cX5_readings 141 = .ok (.iload_n 3, 1) := dk_29 (dk_at dksX5_readings_6 0 rfl rfl)
theorem dX5_readings_142 : decode cX5_readings 142 = .ok (.aload_n 0, 1) := dk_42 (dk_at dksX5_readings_6 1 rfl rfl)
theorem dX5_readings_143 : decode cX5_readings 143 = .ok (.getfield 33, 3) := dk_180 0 33 (dk_at dksX5_readings_6 2 rfl rfl)
theorem dX5_readings_146 : decode cX5_readings 146 = .ok (.iconst 3, 1) := dk_6 (dk_at dksX5_readings_6 5 rfl rfl)
theorem dX5_readings_147 : decode cX5_readings 147 = .ok (.iaload, 1) := dk_46 (dk_at dksX5_readings_6 6 rfl rfl)
theorem dX5_readings_148 : decode cX5_readings 148 = .ok (.if_icmp .ge 54, 3) := dk_162 0 54 (dk_at dksX5_readings_6 7 rfl rfl)
theorem dX5_readings_151 : decode cX5_readings 151 = .ok (.iload 4, 2) := dk_21 4 (dk_at dksX5_readings_6 10 rfl rfl)
theorem dX5_readings_153 : decode cX5_readings 153 = .ok (.aload_n 0, 1) := dk_42 (dk_at dksX5_readings_6 12 rfl rfl)
theorem dX5_readings_154 : decode cX5_readings 154 = .ok (.getfield 33, 3) := dk_180 0 33 (dk_at dksX5_readings_6 13 rfl rfl)
theorem dX5_readings_157 : decode cX5_readings 157 = .ok (.sipush 183, 3) := dk_17 0 183 (dk_at dksX5_readings_6 16 rfl rfl)
theorem dX5_readings_160 : decode cX5_readings 160 = .ok (.bipush 41, 2) := dk_16 41 (dk_at dksX5_readings_6 19 rfl rfl)
theorem dX5_readings_162 : decode cX5_readings 162 = .ok (.iload_n 3, 1) := dk_29 (dk_at dksX5_readings_6 21 rfl rfl)
theorem dX5_readings_163 : decode cX5_readings 163 = .ok (.imul, 1) := dk_104 (dk_at dksX5_readings_6 22 rfl rfl)
theorem dX5_readings_164 : decode cX5_readings 164 = .ok (.iadd, 1) := dk_96 (dk_at dksX5_readings_6 23 rfl rfl)
theorem dX5_readings_165 : decode cX5_readings 165 = .ok (.iload 5, 2) := dk_21 5 (dk_at dksX5_readings_7 0 rfl rfl)
theorem dX5_readings_167 : decode cX5_readings 167 = .ok (.iadd, 1) := dk_96 (dk_at dksX5_readings_7 2 rfl rfl)
theorem dX5_readings_168 : decode cX5_readings 168 = .ok (.iaload, 1) := dk_46 (dk_at dksX5_readings_7 3 rfl rfl)
theorem dX5_readings_169 : decode cX5_readings 169 = .ok (.bipush 12, 2) := dk_16 12 (dk_at dksX5_readings_7 4 rfl rfl)
theorem dX5_readings_171 : decode cX5_readings 171 = .ok (.aload_n 0, 1) := dk_42 (dk_at dksX5_readings_7 6 rfl rfl)
theorem dX5_readings_172 : decode cX5_readings 172 = .ok (.iload_n 2, 1) := dk_28 (dk_at dksX5_readings_7 7 rfl rfl)
theorem dX5_readings_173 : decode cX5_readings 173 = .ok (.iconst 1, 1) := dk_4 (dk_at dksX5_readings_7 8 rfl rfl)
theorem dX5_readings_174 : decode cX5_readings 174 = .ok (.iadd, 1) := dk_96 (dk_at dksX5_readings_7 9 rfl rfl)
theorem dX5_readings_175 : decode cX5_readings 175 = .ok (.invokevirtual 312, 3) := dk_182 1 56 (dk_at dksX5_readings_7 10 rfl rfl)
theorem dX5_readings_178 : decode cX5_readings 178 = .ok (.imul, 1) := dk_104 (dk_at dksX5_readings_7 13 rfl rfl)
theorem dX5_readings_179 : decode cX5_readings 179 = .ok (.aload_n 0, 1) := dk_42 (dk_at dksX5_readings_7 14 rfl rfl)
theorem dX5_readings_180 : decode cX5_readings 180 = .ok (.iload_n 2, 1) := dk_28 (dk_at dksX5_readings_7 15 rfl rfl)
theorem dX5_readings_181 : decode cX5_readings 181 = .ok (.invokevirtual 312, 3) := dk_182 1 56 (dk_at dksX5_readings_7 16 rfl rfl)
theorem dX5_readings_184 : decode cX5_readings 184 = .ok (.iadd, 1) := dk_96 (dk_at dksX5_readings_7 19 rfl rfl)
theorem dX5_readings_185 : decode cX5_readings 185 = .ok (.if_icmp .ne 7, 3) := dk_160 0 7 (dk_at dksX5_readings_7 20 rfl rfl)
theorem dX5_readings_188 : decode cX5_readings 188 = .ok (.iconst 1, 1) := dk_4 (dk_at dksX5_readings_7 23 rfl rfl)
theorem dX5_readings_189 : decode cX5_readings 189 = .ok (.goto 4, 3) := dk_167 0 4 (dk_at dksX5_readings_8 0 rfl rfl)
theorem dX5_readings_192 : decode cX5_readings 192 = .ok (.iconst 0, 1) := dk_3 (dk_at dksX5_readings_8 3 rfl rfl)
theorem dX5_readings_193 : decode cX5_readings 193 = .ok (.iadd, 1) := dk_96 (dk_at dksX5_readings_8 4 rfl rfl)
theorem dX5_readings_194 : decode cX5_readings 194 = .ok (.istore 4, 2) := dk_54 4 (dk_at dksX5_readings_8 5 rfl rfl)
theorem dX5_readings_196 : decode cX5_readings 196 = .ok (.iinc 5 1, 3) := dk_132 5 1 (dk_at dksX5_readings_8 7 rfl rfl)
theorem dX5_readings_199 : decode cX5_readings 199 = .ok (.goto (-73), 3) := dk_167 255 183 (dk_at dksX5_readings_8 10 rfl rfl)
theorem dX5_readings_202 : decode cX5_readings 202 = .ok (.aload_n 0, 1) := dk_42 (dk_at dksX5_readings_8 13 rfl rfl)
theorem dX5_readings_203 : decode cX5_readings 203 = .ok (.getfield 54, 3) := dk_180 0 54 (dk_at dksX5_readings_8 14 rfl rfl)
theorem dX5_readings_206 : decode cX5_readings 206 = .ok (.bipush 6, 2) := dk_16 6 (dk_at dksX5_readings_8 17 rfl rfl)
theorem dX5_readings_208 : decode cX5_readings 208 = .ok (.iload_n 2, 1) := dk_28 (dk_at dksX5_readings_8 19 rfl rfl)
theorem dX5_readings_209 : decode cX5_readings 209 = .ok (.iconst 4, 1) := dk_7 (dk_at dksX5_readings_8 20 rfl rfl)
theorem dX5_readings_210 : decode cX5_readings 210 = .ok (.idiv, 1) := dk_108 (dk_at dksX5_readings_8 21 rfl rfl)
theorem dX5_readings_211 : decode cX5_readings 211 = .ok (.imul, 1) := dk_104 (dk_at dksX5_readings_8 22 rfl rfl)
theorem dX5_readings_212 : decode cX5_readings 212 = .ok (.iload_n 3, 1) := dk_29 (dk_at dksX5_readings_8 23 rfl rfl)
theorem dX5_readings_213 : decode cX5_readings 213 = .ok (.iadd, 1) := dk_96 (dk_at dksX5_readings_9 0 rfl rfl)
theorem dX5_readings_214 : decode cX5_readings 214 = .ok (.iload 4, 2) := dk_21 4 (dk_at dksX5_readings_9 1 rfl rfl)
theorem dX5_readings_216 : decode cX5_readings 216 = .ok (.iastore, 1) := dk_79 (dk_at dksX5_readings_9 3 rfl rfl)
theorem dX5_readings_217 : decode cX5_readings 217 = .ok (.iinc 3 1, 3) := dk_132 3 1 (dk_at dksX5_readings_9 4 rfl rfl)
theorem dX5_readings_220 : decode cX5_readings 220 = .ok (.goto (-106), 3) := dk_167 255 150 (dk_at dksX5_readings_9 7 rfl rfl)
theorem dX5_readings_223 : decode cX5_readings 223 = .ok (.iinc 2 4, 3) := dk_132 2 4 (dk_at dksX5_readings_9 10 rfl rfl)
theorem dX5_readings_226 : decode cX5_readings 226 = .ok (.goto (-179), 3) := dk_167 255 77 (dk_at dksX5_readings_9 13 rfl rfl)
theorem dX5_readings_229 : decode cX5_readings 229 = .ok (.iconst 0, 1) := dk_3 (dk_at dksX5_readings_9 16 rfl rfl)
theorem dX5_readings_230 : decode cX5_readings 230 = .ok (.istore_n 2, 1) := dk_61 (dk_at dksX5_readings_9 17 rfl rfl)
theorem dX5_readings_231 : decode cX5_readings 231 = .ok (.iload_n 2, 1) := dk_28 (dk_at dksX5_readings_9 18 rfl rfl)
theorem dX5_readings_232 : decode cX5_readings 232 = .ok (.bipush 6, 2) := dk_16 6 (dk_at dksX5_readings_9 19 rfl rfl)
theorem dX5_readings_234 : decode cX5_readings 234 = .ok (.if_icmp .ge 16, 3) := dk_162 0 16 (dk_at dksX5_readings_9 21 rfl rfl)
theorem dX5_readings_237 : decode cX5_readings 237 = .ok (.aload_n 0, 1) := dk_42 (dk_at dksX5_readings_10 0 rfl rfl)
theorem dX5_readings_238 : decode cX5_readings 238 = .ok (.getfield 57, 3) := dk_180 0 57 (dk_at dksX5_readings_10 1 rfl rfl)
theorem dX5_readings_241 : decode cX5_readings 241 = .ok (.iload_n 2, 1) := dk_28 (dk_at dksX5_readings_10 4 rfl rfl)
theorem dX5_readings_242 : decode cX5_readings 242 = .ok (.iconst 0, 1) := dk_3 (dk_at dksX5_readings_10 5 rfl rfl)
theorem dX5_readings_243 : decode cX5_readings 243 = .ok (.iastore, 1) := dk_79 (dk_at dksX5_readings_10 6 rfl rfl)
theorem dX5_readings_244 : decode cX5_readings 244 = .ok (.iinc 2 1, 3) := dk_132 2 1 (dk_at dksX5_readings_10 7 rfl rfl)
theorem dX5_readings_247 : decode cX5_readings 247 = .ok (.goto (-16), 3) := dk_167 255 240 (dk_at dksX5_readings_10 10 rfl rfl)
theorem dX5_readings_250 : decode cX5_readings 250 = .ok (.iconst 0, 1) := dk_3 (dk_at dksX5_readings_10 13 rfl rfl)
theorem dX5_readings_251 : decode cX5_readings 251 = .ok (.istore_n 2, 1) := dk_61 (dk_at dksX5_readings_10 14 rfl rfl)
theorem dX5_readings_252 : decode cX5_readings 252 = .ok (.iconst 1, 1) := dk_4 (dk_at dksX5_readings_10 15 rfl rfl)
theorem dX5_readings_253 : decode cX5_readings 253 = .ok (.istore_n 3, 1) := dk_62 (dk_at dksX5_readings_10 16 rfl rfl)
theorem dX5_readings_254 : decode cX5_readings 254 = .ok (.iload_n 3, 1) := dk_29 (dk_at dksX5_readings_10 17 rfl rfl)
theorem dX5_readings_255 : decode cX5_readings 255 = .ok (.ifCond .eq 36, 3) := dk_153 0 36 (dk_at dksX5_readings_10 18 rfl rfl)
theorem dX5_readings_258 : decode cX5_readings 258 = .ok (.aload_n 0, 1) := dk_42 (dk_at dksX5_readings_10 21 rfl rfl)
theorem dX5_readings_259 : decode cX5_readings 259 = .ok (.iload_n 1, 1) := dk_27 (dk_at dksX5_readings_10 22 rfl rfl)
theorem dX5_readings_260 : decode cX5_readings 260 = .ok (.invokevirtual 315, 3) := dk_182 1 59 (dk_at dksX5_readings_11 0 rfl rfl)
theorem dX5_readings_263 : decode cX5_readings 263 = .ok (.ifCond .eq 20, 3) := dk_153 0 20 (dk_at dksX5_readings_11 3 rfl rfl)
theorem dX5_readings_266 : decode cX5_readings 266 = .ok (.iinc 2 1, 3) := dk_132 2 1 (dk_at dksX5_readings_11 6 rfl rfl)
theorem dX5_readings_269 : decode cX5_readings 269 = .ok (.aload_n 0, 1) := dk_42 (dk_at dksX5_readings_11 9 rfl rfl)
theorem dX5_readings_270 : decode cX5_readings 270 = .ok (.iload_n 2, 1) := dk_28 (dk_at dksX5_readings_11 10 rfl rfl)
theorem dX5_readings_271 : decode cX5_readings 271 = .ok (.iconst 1, 1) := dk_4 (dk_at dksX5_readings_11 11 rfl rfl)
theorem dX5_readings_272 : decode cX5_readings 272 = .ok (.if_icmp .ne 7, 3) := dk_160 0 7 (dk_at dksX5_readings_11 12 rfl rfl)
theorem dX5_readings_275 : decode cX5_readings 275 = .ok (.iconst 1, 1) := dk_4 (dk_at dksX5_readings_11 15 rfl rfl)
theorem dX5_readings_276 : decode cX5_readings 276 = .ok (.goto 4, 3) := dk_167 0 4 (dk_at dksX5_readings_11 16 rfl rfl)
theorem dX5_readings_279 : decode cX5_readings 279 = .ok (.iconst 0, 1) := dk_3 (dk_at dksX5_readings_11 19 rfl rfl)
theorem dX5_readings_280 : decode cX5_readings 280 = .ok (.invokevirtual 318, 3) := dk_182 1 62 (dk_at dksX5_readings_11 20 rfl rfl)
theorem dX5_readings_283 : decode cX5_readings 283 = .ok (.aload_n 0, 1) := dk_42 (dk_at dksX5_readings_11 23 rfl rfl)
theorem dX5_readings_284 : decode cX5_readings 284 = .ok (.invokevirtual 322, 3) := dk_182 1 66 (dk_at dksX5_readings_12 0 rfl rfl)
theorem dX5_readings_287 : decode cX5_readings 287 = .ok (.istore_n 3, 1) := dk_62 (dk_at dksX5_readings_12 3 rfl rfl)
theorem dX5_readings_288 : decode cX5_readings 288 = .ok (.goto (-34), 3) := dk_167 255 222 (dk_at dksX5_readings_12 4 rfl rfl)
theorem dX5_readings_291 : decode cX5_readings 291 = .ok (.iload_n 2, 1) := dk_28 (dk_at dksX5_readings_12 7 rfl rfl)
theorem dX5_readings_292 : decode cX5_readings 292 = .ok (.ireturn, 1) := dk_172 (dk_at dksX5_readings_12 8 rfl rfl)
abbrev cX5_octet : ByteArray := prog_19_method_9_code
def yX5_octet : MethodName := ⟨RX5, "octet", "(I)I"⟩
def dkwX5_octet_0 : List UInt8 := [42, 180, 0, 14, 27, 51, 17, 0, 255, 126, 172]
abbrev dktX5_octet_0 : List UInt8 := dkwX5_octet_0 ++ []
theorem dksX5_octet_0 : cX5_octet.data.toList.drop 0 = dktX5_octet_0 := by decide +kernel
theorem dX5_octet_0 : decode cX5_octet 0 = .ok (.aload_n 0, 1) := dk_42 (dk_at dksX5_octet_0 0 rfl rfl)
theorem dX5_octet_1 : decode cX5_octet 1 = .ok (.getfield 14, 3) := dk_180 0 14 (dk_at dksX5_octet_0 1 rfl rfl)
theorem dX5_octet_4 : decode cX5_octet 4 = .ok (.iload_n 1, 1) := dk_27 (dk_at dksX5_octet_0 4 rfl rfl)
theorem dX5_octet_5 : decode cX5_octet 5 = .ok (.baload, 1) := dk_51 (dk_at dksX5_octet_0 5 rfl rfl)
theorem dX5_octet_6 : decode cX5_octet 6 = .ok (.sipush 255, 3) := dk_17 0 255 (dk_at dksX5_octet_0 6 rfl rfl)
theorem dX5_octet_9 : decode cX5_octet 9 = .ok (.iand, 1) := dk_126 (dk_at dksX5_octet_0 9 rfl rfl)
theorem dX5_octet_10 : decode cX5_octet 10 = .ok (.ireturn, 1) := dk_172 (dk_at dksX5_octet_0 10 rfl rfl)
abbrev cX5_isReading : ByteArray := prog_19_method_60_code
def yX5_isReading : MethodName := ⟨RX5, "isReading", "(I)Z"⟩
def dkwX5_isReading_7 : List UInt8 := [172, 132, 2, 1, 167, 255, 91, 4, 172]
abbrev dktX5_isReading_7 : List UInt8 := dkwX5_isReading_7 ++ []
def dkwX5_isReading_6 : List UInt8 := [182, 1, 56, 17, 0, 255, 159, 0, 19, 42, 7, 28, 104, 6, 96, 182, 1, 56, 21, 4, 159, 0, 5, 3]
abbrev dktX5_isReading_6 : List UInt8 := dkwX5_isReading_6 ++ dktX5_isReading_7
def dkwX5_isReading_5 : List UInt8 := [167, 255, 154, 29, 42, 7, 28, 104, 5, 96, 182, 1, 56, 160, 0, 32, 42, 7, 28, 104, 6, 96]
abbrev dktX5_isReading_5 : List UInt8 := dkwX5_isReading_5 ++ dktX5_isReading_6
def dkwX5_isReading_4 : List UInt8 := [42, 180, 0, 33, 16, 13, 42, 180, 0, 57, 21, 5, 46, 96, 4, 100, 46, 54, 4, 132, 5, 1]
abbrev dktX5_isReading_4 : List UInt8 := dkwX5_isReading_4 ++ dktX5_isReading_5
def dkwX5_isReading_3 : List UInt8 := [16, 7, 42, 180, 0, 57, 21, 5, 46, 96, 4, 100, 46, 104, 42, 180, 0, 33, 16, 6, 46, 104, 96, 62]
abbrev dktX5_isReading_3 : List UInt8 := dkwX5_isReading_3 ++ dktX5_isReading_4
def dkwX5_isReading_2 : List UInt8 := [46, 154, 0, 6, 167, 0, 63, 29, 42, 180, 0, 54, 16, 6, 28, 104, 21, 5, 96, 46, 42, 180, 0, 33]
abbrev dktX5_isReading_2 : List UInt8 := dkwX5_isReading_2 ++ dktX5_isReading_3
def dkwX5_isReading_1 : List UInt8 := [162, 0, 97, 42, 180, 0, 57, 21, 5, 46, 153, 0, 81, 42, 180, 0, 54, 16, 6, 28, 104, 21, 5, 96]
abbrev dktX5_isReading_1 : List UInt8 := dkwX5_isReading_1 ++ dktX5_isReading_2
def dkwX5_isReading_0 : List UInt8 := [3, 61, 28, 27, 162, 0, 166, 3, 62, 2, 54, 4, 3, 54, 5, 21, 5, 42, 180, 0, 33, 6, 46]
abbrev dktX5_isReading_0 : List UInt8 := dkwX5_isReading_0 ++ dktX5_isReading_1
theorem dksX5_isReading_0 : cX5_isReading.data.toList.drop 0 = dktX5_isReading_0 := by decide +kernel
theorem dksX5_isReading_1 : cX5_isReading.data.toList.drop 23 = dktX5_isReading_1 := dk_seg dksX5_isReading_0 23 rfl rfl
theorem dksX5_isReading_2 : cX5_isReading.data.toList.drop 47 = dktX5_isReading_2 := dk_seg dksX5_isReading_1 24 rfl rfl
theorem dksX5_isReading_3 : cX5_isReading.data.toList.drop 71 = dktX5_isReading_3 := dk_seg dksX5_isReading_2 24 rfl rfl
theorem dksX5_isReading_4 : cX5_isReading.data.toList.drop 95 = dktX5_isReading_4 := dk_seg dksX5_isReading_3 24 rfl rfl
theorem dksX5_isReading_5 : cX5_isReading.data.toList.drop 117 = dktX5_isReading_5 := dk_seg dksX5_isReading_4 22 rfl rfl
theorem dksX5_isReading_6 : cX5_isReading.data.toList.drop 139 = dktX5_isReading_6 := dk_seg dksX5_isReading_5 22 rfl rfl
theorem dksX5_isReading_7 : cX5_isReading.data.toList.drop 163 = dktX5_isReading_7 := dk_seg dksX5_isReading_6 24 rfl rfl
theorem dX5_isReading_0 : decode cX5_isReading 0 = .ok (.iconst 0, 1) := dk_3 (dk_at dksX5_isReading_0 0 rfl rfl)
theorem dX5_isReading_1 : decode cX5_isReading 1 = .ok (.istore_n 2, 1) := dk_61 (dk_at dksX5_isReading_0 1 rfl rfl)
theorem dX5_isReading_2 : decode cX5_isReading 2 = .ok (.iload_n 2, 1) := dk_28 (dk_at dksX5_isReading_0 2 rfl rfl)
theorem dX5_isReading_3 : decode cX5_isReading 3 = .ok (.iload_n 1, 1) := dk_27 (dk_at dksX5_isReading_0 3 rfl rfl)
theorem dX5_isReading_4 : decode cX5_isReading 4 = .ok (.if_icmp .ge 166, 3) := dk_162 0 166 (dk_at dksX5_isReading_0 4 rfl rfl)
theorem dX5_isReading_7 : decode cX5_isReading 7 = .ok (.iconst 0, 1) := dk_3 (dk_at dksX5_isReading_0 7 rfl rfl)
theorem dX5_isReading_8 : decode cX5_isReading 8 = .ok (.istore_n 3, 1) := dk_62 (dk_at dksX5_isReading_0 8 rfl rfl)
theorem dX5_isReading_9 : decode cX5_isReading 9 = .ok (.iconst (-1), 1) := dk_2 (dk_at dksX5_isReading_0 9 rfl rfl)
theorem dX5_isReading_10 : decode cX5_isReading 10 = .ok (.istore 4, 2) := dk_54 4 (dk_at dksX5_isReading_0 10 rfl rfl)
theorem dX5_isReading_12 : decode cX5_isReading 12 = .ok (.iconst 0, 1) := dk_3 (dk_at dksX5_isReading_0 12 rfl rfl)
theorem dX5_isReading_13 : decode cX5_isReading 13 = .ok (.istore 5, 2) := dk_54 5 (dk_at dksX5_isReading_0 13 rfl rfl)
theorem dX5_isReading_15 : decode cX5_isReading 15 = .ok (.iload 5, 2) := dk_21 5 (dk_at dksX5_isReading_0 15 rfl rfl)
theorem dX5_isReading_17 : decode cX5_isReading 17 = .ok (.aload_n 0, 1) := dk_42 (dk_at dksX5_isReading_0 17 rfl rfl)
theorem dX5_isReading_18 : decode cX5_isReading 18 = .ok (.getfield 33, 3) := dk_180 0 33 (dk_at dksX5_isReading_0 18 rfl rfl)
theorem dX5_isReading_21 : decode cX5_isReading 21 = .ok (.iconst 3, 1) := dk_6 (dk_at dksX5_isReading_0 21 rfl rfl)
theorem dX5_isReading_22 : decode cX5_isReading 22 = .ok (.iaload, 1) := dk_46 (dk_at dksX5_isReading_0 22 rfl rfl)
theorem dX5_isReading_23 : decode cX5_isReading 23 = .ok (.if_icmp .ge 97, 3) := dk_162 0 97 (dk_at dksX5_isReading_1 0 rfl rfl)
theorem dX5_isReading_26 : decode cX5_isReading 26 = .ok (.aload_n 0, 1) := dk_42 (dk_at dksX5_isReading_1 3 rfl rfl)
theorem dX5_isReading_27 : decode cX5_isReading 27 = .ok (.getfield 57, 3) := dk_180 0 57 (dk_at dksX5_isReading_1 4 rfl rfl)
theorem dX5_isReading_30 : decode cX5_isReading 30 = .ok (.iload 5, 2) := dk_21 5 (dk_at dksX5_isReading_1 7 rfl rfl)
theorem dX5_isReading_32 : decode cX5_isReading 32 = .ok (.iaload, 1) := dk_46 (dk_at dksX5_isReading_1 9 rfl rfl)
theorem dX5_isReading_33 : decode cX5_isReading 33 = .ok (.ifCond .eq 81, 3) := dk_153 0 81 (dk_at dksX5_isReading_1 10 rfl rfl)
theorem dX5_isReading_36 : decode cX5_isReading 36 = .ok (.aload_n 0, 1) := dk_42 (dk_at dksX5_isReading_1 13 rfl rfl)
theorem dX5_isReading_37 : decode cX5_isReading 37 = .ok (.getfield 54, 3) := dk_180 0 54 (dk_at dksX5_isReading_1 14 rfl rfl)
theorem dX5_isReading_40 : decode cX5_isReading 40 = .ok (.bipush 6, 2) := dk_16 6 (dk_at dksX5_isReading_1 17 rfl rfl)
theorem dX5_isReading_42 : decode cX5_isReading 42 = .ok (.iload_n 2, 1) := dk_28 (dk_at dksX5_isReading_1 19 rfl rfl)
theorem dX5_isReading_43 : decode cX5_isReading 43 = .ok (.imul, 1) := dk_104 (dk_at dksX5_isReading_1 20 rfl rfl)
theorem dX5_isReading_44 : decode cX5_isReading 44 = .ok (.iload 5, 2) := dk_21 5 (dk_at dksX5_isReading_1 21 rfl rfl)
theorem dX5_isReading_46 : decode cX5_isReading 46 = .ok (.iadd, 1) := dk_96 (dk_at dksX5_isReading_1 23 rfl rfl)
theorem dX5_isReading_47 : decode cX5_isReading 47 = .ok (.iaload, 1) := dk_46 (dk_at dksX5_isReading_2 0 rfl rfl)
theorem dX5_isReading_48 : decode cX5_isReading 48 = .ok (.ifCond .ne 6, 3) := dk_154 0 6 (dk_at dksX5_isReading_2 1 rfl rfl)
theorem dX5_isReading_51 : decode cX5_isReading 51 = .ok (.goto 63, 3) := dk_167 0 63 (dk_at dksX5_isReading_2 4 rfl rfl)
theorem dX5_isReading_54 : decode cX5_isReading 54 = .ok (.iload_n 3, 1) := dk_29 (dk_at dksX5_isReading_2 7 rfl rfl)
theorem dX5_isReading_55 : decode cX5_isReading 55 = .ok (.aload_n 0, 1) := dk_42 (dk_at dksX5_isReading_2 8 rfl rfl)
theorem dX5_isReading_56 : decode cX5_isReading 56 = .ok (.getfield 54, 3) := dk_180 0 54 (dk_at dksX5_isReading_2 9 rfl rfl)
theorem dX5_isReading_59 : decode cX5_isReading 59 = .ok (.bipush 6, 2) := dk_16 6 (dk_at dksX5_isReading_2 12 rfl rfl)
theorem dX5_isReading_61 : decode cX5_isReading 61 = .ok (.iload_n 2, 1) := dk_28 (dk_at dksX5_isReading_2 14 rfl rfl)
theorem dX5_isReading_62 : decode cX5_isReading 62 = .ok (.imul, 1) := dk_104 (dk_at dksX5_isReading_2 15 rfl rfl)
theorem dX5_isReading_63 : decode cX5_isReading 63 = .ok (.iload 5, 2) := dk_21 5 (dk_at dksX5_isReading_2 16 rfl rfl)
theorem dX5_isReading_65 : decode cX5_isReading 65 = .ok (.iadd, 1) := dk_96 (dk_at dksX5_isReading_2 18 rfl rfl)
theorem dX5_isReading_66 : decode cX5_isReading 66 = .ok (.iaload, 1) := dk_46 (dk_at dksX5_isReading_2 19 rfl rfl)
theorem dX5_isReading_67 : decode cX5_isReading 67 = .ok (.aload_n 0, 1) := dk_42 (dk_at dksX5_isReading_2 20 rfl rfl)
theorem dX5_isReading_68 : decode cX5_isReading 68 = .ok (.getfield 33, 3) := dk_180 0 33 (dk_at dksX5_isReading_2 21 rfl rfl)
theorem dX5_isReading_71 : decode cX5_isReading 71 = .ok (.bipush 7, 2) := dk_16 7 (dk_at dksX5_isReading_3 0 rfl rfl)
theorem dX5_isReading_73 : decode cX5_isReading 73 = .ok (.aload_n 0, 1) := dk_42 (dk_at dksX5_isReading_3 2 rfl rfl)
theorem dX5_isReading_74 : decode cX5_isReading 74 = .ok (.getfield 57, 3) := dk_180 0 57 (dk_at dksX5_isReading_3 3 rfl rfl)
theorem dX5_isReading_77 : decode cX5_isReading 77 = .ok (.iload 5, 2) := dk_21 5 (dk_at dksX5_isReading_3 6 rfl rfl)
theorem dX5_isReading_79 : decode cX5_isReading 79 = .ok (.iaload, 1) := dk_46 (dk_at dksX5_isReading_3 8 rfl rfl)
theorem dX5_isReading_80 : decode cX5_isReading 80 = .ok (.iadd, 1) := dk_96 (dk_at dksX5_isReading_3 9 rfl rfl)
theorem dX5_isReading_81 : decode cX5_isReading 81 = .ok (.iconst 1, 1) := dk_4 (dk_at dksX5_isReading_3 10 rfl rfl)
theorem dX5_isReading_82 : decode cX5_isReading 82 = .ok (.isub, 1) := dk_100 (dk_at dksX5_isReading_3 11 rfl rfl)
theorem dX5_isReading_83 : decode cX5_isReading 83 = .ok (.iaload, 1) := dk_46 (dk_at dksX5_isReading_3 12 rfl rfl)
theorem dX5_isReading_84 : decode cX5_isReading 84 = .ok (.imul, 1) := dk_104 (dk_at dksX5_isReading_3 13 rfl rfl)
theorem dX5_isReading_85 : decode cX5_isReading 85 = .ok (.aload_n 0, 1) := dk_42 (dk_at dksX5_isReading_3 14 rfl rfl)
theorem dX5_isReading_86 : decode cX5_isReading 86 = .ok (.getfield 33, 3) := dk_180 0 33 (dk_at dksX5_isReading_3 15 rfl rfl)
theorem dX5_isReading_89 : decode cX5_isReading 89 = .ok (.bipush 6, 2) := dk_16 6 (dk_at dksX5_isReading_3 18 rfl rfl)
theorem dX5_isReading_91 : decode cX5_isReading 91 = .ok (.iaload, 1) := dk_46 (dk_at dksX5_isReading_3 20 rfl rfl)
theorem dX5_isReading_92 : decode cX5_isReading 92 = .ok (.imul, 1) := dk_104 (dk_at dksX5_isReading_3 21 rfl rfl)
theorem dX5_isReading_93 : decode cX5_isReading 93 = .ok (.iadd, 1) := dk_96 (dk_at dksX5_isReading_3 22 rfl rfl)
theorem dX5_isReading_94 : decode cX5_isReading 94 = .ok (.istore_n 3, 1) := dk_62 (dk_at dksX5_isReading_3 23 rfl rfl)
theorem dX5_isReading_95 : decode cX5_isReading 95 = .ok (.aload_n 0, 1) := dk_42 (dk_at dksX5_isReading_4 0 rfl rfl)
theorem dX5_isReading_96 : decode cX5_isReading 96 = .ok (.getfield 33, 3) := dk_180 0 33 (dk_at dksX5_isReading_4 1 rfl rfl)
theorem dX5_isReading_99 : decode cX5_isReading 99 = .ok (.bipush 13, 2) := dk_16 13 (dk_at dksX5_isReading_4 4 rfl rfl)
theorem dX5_isReading_101 : decode cX5_isReading 101 = .ok (.aload_n 0, 1) := dk_42 (dk_at dksX5_isReading_4 6 rfl rfl)
theorem dX5_isReading_102 : decode cX5_isReading 102 = .ok (.getfield 57, 3) := dk_180 0 57 (dk_at dksX5_isReading_4 7 rfl rfl)
theorem dX5_isReading_105 : decode cX5_isReading 105 = .ok (.iload 5, 2) := dk_21 5 (dk_at dksX5_isReading_4 10 rfl rfl)
theorem dX5_isReading_107 : decode cX5_isReading 107 = .ok (.iaload, 1) := dk_46 (dk_at dksX5_isReading_4 12 rfl rfl)
theorem dX5_isReading_108 : decode cX5_isReading 108 = .ok (.iadd, 1) := dk_96 (dk_at dksX5_isReading_4 13 rfl rfl)
theorem dX5_isReading_109 : decode cX5_isReading 109 = .ok (.iconst 1, 1) := dk_4 (dk_at dksX5_isReading_4 14 rfl rfl)
theorem dX5_isReading_110 : decode cX5_isReading 110 = .ok (.isub, 1) := dk_100 (dk_at dksX5_isReading_4 15 rfl rfl)
theorem dX5_isReading_111 : decode cX5_isReading 111 = .ok (.iaload, 1) := dk_46 (dk_at dksX5_isReading_4 16 rfl rfl)
theorem dX5_isReading_112 : decode cX5_isReading 112 = .ok (.istore 4, 2) := dk_54 4 (dk_at dksX5_isReading_4 17 rfl rfl)
theorem dX5_isReading_114 : decode cX5_isReading 114 = .ok (.iinc 5 1, 3) := dk_132 5 1 (dk_at dksX5_isReading_4 19 rfl rfl)
theorem dX5_isReading_117 : decode cX5_isReading 117 = .ok (.goto (-102), 3) := dk_167 255 154 (dk_at dksX5_isReading_5 0 rfl rfl)
theorem dX5_isReading_120 : decode cX5_isReading 120 = .ok (.iload_n 3, 1) := dk_29 (dk_at dksX5_isReading_5 3 rfl rfl)
theorem dX5_isReading_121 : decode cX5_isReading 121 = .ok (.aload_n 0, 1) := dk_42 (dk_at dksX5_isReading_5 4 rfl rfl)
theorem dX5_isReading_122 : decode cX5_isReading 122 = .ok (.iconst 4, 1) := dk_7 (dk_at dksX5_isReading_5 5 rfl rfl)
theorem dX5_isReading_123 : decode cX5_isReading 123 = .ok (.iload_n 2, 1) := dk_28 (dk_at dksX5_isReading_5 6 rfl rfl)
theorem dX5_isReading_124 : decode cX5_isReading 124 = .ok (.imul, 1) := dk_104 (dk_at dksX5_isReading_5 7 rfl rfl)
theorem dX5_isReading_125 : decode cX5_isReading 125 = .ok (.iconst 2, 1) := dk_5 (dk_at dksX5_isReading_5 8 rfl rfl)
theorem dX5_isReading_126 : decode cX5_isReading 126 = .ok (.iadd, 1) := dk_96 (dk_at dksX5_isReading_5 9 rfl rfl)
theorem dX5_isReading_127 : decode cX5_isReading 127 = .ok (.invokevirtual 312, 3) := dk_182 1 56 (dk_at dksX5_isReading_5 10 rfl rfl)
theorem dX5_isReading_130 : decode cX5_isReading 130 = .ok (.if_icmp .ne 32, 3) := dk_160 0 32 (dk_at dksX5_isReading_5 13 rfl rfl)
theorem dX5_isReading_133 : decode cX5_isReading 133 = .ok (.aload_n 0, 1) := dk_42 (dk_at dksX5_isReading_5 16 rfl rfl)
theorem dX5_isReading_134 : decode cX5_isReading 134 = .ok (.iconst 4, 1) := dk_7 (dk_at dksX5_isReading_5 17 rfl rfl)
theorem dX5_isReading_135 : decode cX5_isReading 135 = .ok (.iload_n 2, 1) := dk_28 (dk_at dksX5_isReading_5 18 rfl rfl)
theorem dX5_isReading_136 : decode cX5_isReading 136 = .ok (.imul, 1) := dk_104 (dk_at dksX5_isReading_5 19 rfl rfl)
theorem dX5_isReading_137 : decode cX5_isReading 137 = .ok (.iconst 3, 1) := dk_6 (dk_at dksX5_isReading_5 20 rfl rfl)
theorem dX5_isReading_138 : decode cX5_isReading 138 = .ok (.iadd, 1) := dk_96 (dk_at dksX5_isReading_5 21 rfl rfl)
theorem dX5_isReading_139 : decode cX5_isReading 139 = .ok (.invokevirtual 312, 3) := dk_182 1 56 (dk_at dksX5_isReading_6 0 rfl rfl)
theorem dX5_isReading_142 : decode cX5_isReading 142 = .ok (.sipush 255, 3) := dk_17 0 255 (dk_at dksX5_isReading_6 3 rfl rfl)
theorem dX5_isReading_145 : decode cX5_isReading 145 = .ok (.if_icmp .eq 19, 3) := dk_159 0 19 (dk_at dksX5_isReading_6 6 rfl rfl)
theorem dX5_isReading_148 : decode cX5_isReading 148 = .ok (.aload_n 0, 1) := dk_42 (dk_at dksX5_isReading_6 9 rfl rfl)
theorem dX5_isReading_149 : decode cX5_isReading 149 = .ok (.iconst 4, 1) := dk_7 (dk_at dksX5_isReading_6 10 rfl rfl)
theorem dX5_isReading_150 : decode cX5_isReading 150 = .ok (.iload_n 2, 1) := dk_28 (dk_at dksX5_isReading_6 11 rfl rfl)
theorem dX5_isReading_151 : decode cX5_isReading 151 = .ok (.imul, 1) := dk_104 (dk_at dksX5_isReading_6 12 rfl rfl)
theorem dX5_isReading_152 : decode cX5_isReading 152 = .ok (.iconst 3, 1) := dk_6 (dk_at dksX5_isReading_6 13 rfl rfl)
theorem dX5_isReading_153 : decode cX5_isReading 153 = .ok (.iadd, 1) := dk_96 (dk_at dksX5_isReading_6 14 rfl rfl)
theorem dX5_isReading_154 : decode cX5_isReading 154 = .ok (.invokevirtual 312, 3) := dk_182 1 56 (dk_at dksX5_isReading_6 15 rfl rfl)
theorem dX5_isReading_157 : decode cX5_isReading 157 = .ok (.iload 4, 2) := dk_21 4 (dk_at dksX5_isReading_6 18 rfl rfl)
theorem dX5_isReading_159 : decode cX5_isReading 159 = .ok (.if_icmp .eq 5, 3) := dk_159 0 5 (dk_at dksX5_isReading_6 20 rfl rfl)
theorem dX5_isReading_162 : decode cX5_isReading 162 = .ok (.iconst 0, 1) := dk_3 (dk_at dksX5_isReading_6 23 rfl rfl)
theorem dX5_isReading_163 : decode cX5_isReading 163 = .ok (.ireturn, 1) := dk_172 (dk_at dksX5_isReading_7 0 rfl rfl)
theorem dX5_isReading_164 : decode cX5_isReading 164 = .ok (.iinc 2 1, 3) := dk_132 2 1 (dk_at dksX5_isReading_7 1 rfl rfl)
theorem dX5_isReading_167 : decode cX5_isReading 167 = .ok (.goto (-165), 3) := dk_167 255 91 (dk_at dksX5_isReading_7 4 rfl rfl)
theorem dX5_isReading_170 : decode cX5_isReading 170 = .ok (.iconst 1, 1) := dk_4 (dk_at dksX5_isReading_7 7 rfl rfl)
theorem dX5_isReading_171 : decode cX5_isReading 171 = .ok (.ireturn, 1) := dk_172 (dk_at dksX5_isReading_7 8 rfl rfl)
abbrev cX5_reads : ByteArray := prog_19_method_63_code
def yX5_reads : MethodName := ⟨RX5, "reads", "(Z)V"⟩
def dkwX5_reads_6 : List UInt8 := [42, 180, 0, 33, 6, 46, 181, 0, 66, 177]
abbrev dktX5_reads_6 : List UInt8 := dkwX5_reads_6 ++ []
def dkwX5_reads_5 : List UInt8 := [132, 4, 1, 167, 255, 237, 27, 154, 0, 11, 29, 42, 180, 1, 69, 162, 0, 8, 42, 29, 181, 1, 69, 42]
abbrev dktX5_reads_5 : List UInt8 := dkwX5_reads_5 ++ dktX5_reads_6
def dkwX5_reads_4 : List UInt8 := [167, 255, 166, 3, 62, 4, 54, 4, 21, 4, 16, 7, 162, 0, 18, 29, 28, 21, 4, 122, 4, 126, 96, 62]
abbrev dktX5_reads_4 : List UInt8 := dkwX5_reads_4 ++ dktX5_reads_5
def dkwX5_reads_3 : List UInt8 := [42, 180, 0, 57, 29, 46, 4, 100, 159, 0, 11, 42, 180, 0, 63, 29, 16, 254, 79, 132, 3, 1]
abbrev dktX5_reads_3 : List UInt8 := dkwX5_reads_3 ++ dktX5_reads_4
def dkwX5_reads_2 : List UInt8 := [46, 4, 100, 79, 42, 180, 0, 63, 29, 42, 180, 0, 57, 29, 46, 4, 100, 79, 42, 180, 0, 63, 29, 46]
abbrev dktX5_reads_2 : List UInt8 := dkwX5_reads_2 ++ dktX5_reads_3
def dkwX5_reads_1 : List UInt8 := [4, 42, 180, 0, 57, 29, 46, 120, 128, 61, 27, 153, 0, 31, 42, 180, 0, 60, 29, 42, 180, 0, 57, 29]
abbrev dktX5_reads_1 : List UInt8 := dkwX5_reads_1 ++ dktX5_reads_2
def dkwX5_reads_0 : List UInt8 := [3, 61, 3, 62, 29, 42, 180, 0, 33, 6, 46, 162, 0, 86, 42, 180, 0, 57, 29, 46, 158, 0, 14, 28]
abbrev dktX5_reads_0 : List UInt8 := dkwX5_reads_0 ++ dktX5_reads_1
theorem dksX5_reads_0 : cX5_reads.data.toList.drop 0 = dktX5_reads_0 := by decide +kernel
theorem dksX5_reads_1 : cX5_reads.data.toList.drop 24 = dktX5_reads_1 := dk_seg dksX5_reads_0 24 rfl rfl
theorem dksX5_reads_2 : cX5_reads.data.toList.drop 48 = dktX5_reads_2 := dk_seg dksX5_reads_1 24 rfl rfl
theorem dksX5_reads_3 : cX5_reads.data.toList.drop 72 = dktX5_reads_3 := dk_seg dksX5_reads_2 24 rfl rfl
theorem dksX5_reads_4 : cX5_reads.data.toList.drop 94 = dktX5_reads_4 := dk_seg dksX5_reads_3 22 rfl rfl
theorem dksX5_reads_5 : cX5_reads.data.toList.drop 118 = dktX5_reads_5 := dk_seg dksX5_reads_4 24 rfl rfl
theorem dksX5_reads_6 : cX5_reads.data.toList.drop 142 = dktX5_reads_6 := dk_seg dksX5_reads_5 24 rfl rfl
theorem dX5_reads_0 : decode cX5_reads 0 = .ok (.iconst 0, 1) := dk_3 (dk_at dksX5_reads_0 0 rfl rfl)
theorem dX5_reads_1 : decode cX5_reads 1 = .ok (.istore_n 2, 1) := dk_61 (dk_at dksX5_reads_0 1 rfl rfl)
theorem dX5_reads_2 : decode cX5_reads 2 = .ok (.iconst 0, 1) := dk_3 (dk_at dksX5_reads_0 2 rfl rfl)
theorem dX5_reads_3 : decode cX5_reads 3 = .ok (.istore_n 3, 1) := dk_62 (dk_at dksX5_reads_0 3 rfl rfl)
theorem dX5_reads_4 : decode cX5_reads 4 = .ok (.iload_n 3, 1) := dk_29 (dk_at dksX5_reads_0 4 rfl rfl)
theorem dX5_reads_5 : decode cX5_reads 5 = .ok (.aload_n 0, 1) := dk_42 (dk_at dksX5_reads_0 5 rfl rfl)
theorem dX5_reads_6 : decode cX5_reads 6 = .ok (.getfield 33, 3) := dk_180 0 33 (dk_at dksX5_reads_0 6 rfl rfl)
theorem dX5_reads_9 : decode cX5_reads 9 = .ok (.iconst 3, 1) := dk_6 (dk_at dksX5_reads_0 9 rfl rfl)
theorem dX5_reads_10 : decode cX5_reads 10 = .ok (.iaload, 1) := dk_46 (dk_at dksX5_reads_0 10 rfl rfl)
theorem dX5_reads_11 : decode cX5_reads 11 = .ok (.if_icmp .ge 86, 3) := dk_162 0 86 (dk_at dksX5_reads_0 11 rfl rfl)
theorem dX5_reads_14 : decode cX5_reads 14 = .ok (.aload_n 0, 1) := dk_42 (dk_at dksX5_reads_0 14 rfl rfl)
theorem dX5_reads_15 : decode cX5_reads 15 = .ok (.getfield 57, 3) := dk_180 0 57 (dk_at dksX5_reads_0 15 rfl rfl)
theorem dX5_reads_18 : decode cX5_reads 18 = .ok (.iload_n 3, 1) := dk_29 (dk_at dksX5_reads_0 18 rfl rfl)
theorem dX5_reads_19 : decode cX5_reads 19 = .ok (.iaload, 1) := dk_46 (dk_at dksX5_reads_0 19 rfl rfl)
theorem dX5_reads_20 : decode cX5_reads 20 = .ok (.ifCond .le 14, 3) := dk_158 0 14 (dk_at dksX5_reads_0 20 rfl rfl)
theorem dX5_reads_23 : decode cX5_reads 23 = .ok (.iload_n 2, 1) := dk_28 (dk_at dksX5_reads_0 23 rfl rfl)
theorem dX5_reads_24 : decode cX5_reads 24 = .ok (.iconst 1, 1) := dk_4 (dk_at dksX5_reads_1 0 rfl rfl)
theorem dX5_reads_25 : decode cX5_reads 25 = .ok (.aload_n 0, 1) := dk_42 (dk_at dksX5_reads_1 1 rfl rfl)
theorem dX5_reads_26 : decode cX5_reads 26 = .ok (.getfield 57, 3) := dk_180 0 57 (dk_at dksX5_reads_1 2 rfl rfl)
theorem dX5_reads_29 : decode cX5_reads 29 = .ok (.iload_n 3, 1) := dk_29 (dk_at dksX5_reads_1 5 rfl rfl)
theorem dX5_reads_30 : decode cX5_reads 30 = .ok (.iaload, 1) := dk_46 (dk_at dksX5_reads_1 6 rfl rfl)
theorem dX5_reads_31 : decode cX5_reads 31 = .ok (.ishl, 1) := dk_120 (dk_at dksX5_reads_1 7 rfl rfl)
theorem dX5_reads_32 : decode cX5_reads 32 = .ok (.ior, 1) := dk_128 (dk_at dksX5_reads_1 8 rfl rfl)
theorem dX5_reads_33 : decode cX5_reads 33 = .ok (.istore_n 2, 1) := dk_61 (dk_at dksX5_reads_1 9 rfl rfl)
theorem dX5_reads_34 : decode cX5_reads 34 = .ok (.iload_n 1, 1) := dk_27 (dk_at dksX5_reads_1 10 rfl rfl)
theorem dX5_reads_35 : decode cX5_reads 35 = .ok (.ifCond .eq 31, 3) := dk_153 0 31 (dk_at dksX5_reads_1 11 rfl rfl)
theorem dX5_reads_38 : decode cX5_reads 38 = .ok (.aload_n 0, 1) := dk_42 (dk_at dksX5_reads_1 14 rfl rfl)
theorem dX5_reads_39 : decode cX5_reads 39 = .ok (.getfield 60, 3) := dk_180 0 60 (dk_at dksX5_reads_1 15 rfl rfl)
theorem dX5_reads_42 : decode cX5_reads 42 = .ok (.iload_n 3, 1) := dk_29 (dk_at dksX5_reads_1 18 rfl rfl)
theorem dX5_reads_43 : decode cX5_reads 43 = .ok (.aload_n 0, 1) := dk_42 (dk_at dksX5_reads_1 19 rfl rfl)
theorem dX5_reads_44 : decode cX5_reads 44 = .ok (.getfield 57, 3) := dk_180 0 57 (dk_at dksX5_reads_1 20 rfl rfl)
theorem dX5_reads_47 : decode cX5_reads 47 = .ok (.iload_n 3, 1) := dk_29 (dk_at dksX5_reads_1 23 rfl rfl)
theorem dX5_reads_48 : decode cX5_reads 48 = .ok (.iaload, 1) := dk_46 (dk_at dksX5_reads_2 0 rfl rfl)
theorem dX5_reads_49 : decode cX5_reads 49 = .ok (.iconst 1, 1) := dk_4 (dk_at dksX5_reads_2 1 rfl rfl)
theorem dX5_reads_50 : decode cX5_reads 50 = .ok (.isub, 1) := dk_100 (dk_at dksX5_reads_2 2 rfl rfl)
theorem dX5_reads_51 : decode cX5_reads 51 = .ok (.iastore, 1) := dk_79 (dk_at dksX5_reads_2 3 rfl rfl)
theorem dX5_reads_52 : decode cX5_reads 52 = .ok (.aload_n 0, 1) := dk_42 (dk_at dksX5_reads_2 4 rfl rfl)
theorem dX5_reads_53 : decode cX5_reads 53 = .ok (.getfield 63, 3) := dk_180 0 63 (dk_at dksX5_reads_2 5 rfl rfl)
theorem dX5_reads_56 : decode cX5_reads 56 = .ok (.iload_n 3, 1) := dk_29 (dk_at dksX5_reads_2 8 rfl rfl)
theorem dX5_reads_57 : decode cX5_reads 57 = .ok (.aload_n 0, 1) := dk_42 (dk_at dksX5_reads_2 9 rfl rfl)
theorem dX5_reads_58 : decode cX5_reads 58 = .ok (.getfield 57, 3) := dk_180 0 57 (dk_at dksX5_reads_2 10 rfl rfl)
theorem dX5_reads_61 : decode cX5_reads 61 = .ok (.iload_n 3, 1) := dk_29 (dk_at dksX5_reads_2 13 rfl rfl)
theorem dX5_reads_62 : decode cX5_reads 62 = .ok (.iaload, 1) := dk_46 (dk_at dksX5_reads_2 14 rfl rfl)
theorem dX5_reads_63 : decode cX5_reads 63 = .ok (.iconst 1, 1) := dk_4 (dk_at dksX5_reads_2 15 rfl rfl)
theorem dX5_reads_64 : decode cX5_reads 64 = .ok (.isub, 1) := dk_100 (dk_at dksX5_reads_2 16 rfl rfl)
theorem dX5_reads_65 : decode cX5_reads 65 = .ok (.iastore, 1) := dk_79 (dk_at dksX5_reads_2 17 rfl rfl)
theorem dX5_reads_66 : decode cX5_reads 66 = .ok (.aload_n 0, 1) := dk_42 (dk_at dksX5_reads_2 18 rfl rfl)
theorem dX5_reads_67 : decode cX5_reads 67 = .ok (.getfield 63, 3) := dk_180 0 63 (dk_at dksX5_reads_2 19 rfl rfl)
theorem dX5_reads_70 : decode cX5_reads 70 = .ok (.iload_n 3, 1) := dk_29 (dk_at dksX5_reads_2 22 rfl rfl)
theorem dX5_reads_71 : decode cX5_reads 71 = .ok (.iaload, 1) := dk_46 (dk_at dksX5_reads_2 23 rfl rfl)
theorem dX5_reads_72 : decode cX5_reads 72 = .ok (.aload_n 0, 1) := dk_42 (dk_at dksX5_reads_3 0 rfl rfl)
theorem dX5_reads_73 : decode cX5_reads 73 = .ok (.getfield 57, 3) := dk_180 0 57 (dk_at dksX5_reads_3 1 rfl rfl)
theorem dX5_reads_76 : decode cX5_reads 76 = .ok (.iload_n 3, 1) := dk_29 (dk_at dksX5_reads_3 4 rfl rfl)
theorem dX5_reads_77 : decode cX5_reads 77 = .ok (.iaload, 1) := dk_46 (dk_at dksX5_reads_3 5 rfl rfl)
theorem dX5_reads_78 : decode cX5_reads 78 = .ok (.iconst 1, 1) := dk_4 (dk_at dksX5_reads_3 6 rfl rfl)
theorem dX5_reads_79 : decode cX5_reads 79 = .ok (.isub, 1) := dk_100 (dk_at dksX5_reads_3 7 rfl rfl)
theorem dX5_reads_80 : decode cX5_reads 80 = .ok (.if_icmp .eq 11, 3) := dk_159 0 11 (dk_at dksX5_reads_3 8 rfl rfl)
theorem dX5_reads_83 : decode cX5_reads 83 = .ok (.aload_n 0, 1) := dk_42 (dk_at dksX5_reads_3 11 rfl rfl)
theorem dX5_reads_84 : decode cX5_reads 84 = .ok (.getfield 63, 3) := dk_180 0 63 (dk_at dksX5_reads_3 12 rfl rfl)
theorem dX5_reads_87 : decode cX5_reads 87 = .ok (.iload_n 3, 1) := dk_29 (dk_at dksX5_reads_3 15 rfl rfl)
theorem dX5_reads_88 : decode cX5_reads 88 = .ok (.bipush (-2), 2) := dk_16 254 (dk_at dksX5_reads_3 16 rfl rfl)
theorem dX5_reads_90 : decode cX5_reads 90 = .ok (.iastore, 1) := dk_79 (dk_at dksX5_reads_3 18 rfl rfl)
theorem dX5_reads_91 : decode cX5_reads 91 = .ok (.iinc 3 1, 3) := dk_132 3 1 (dk_at dksX5_reads_3 19 rfl rfl)
theorem dX5_reads_94 : decode cX5_reads 94 = .ok (.goto (-90), 3) := dk_167 255 166 (dk_at dksX5_reads_4 0 rfl rfl)
theorem dX5_reads_97 : decode cX5_reads 97 = .ok (.iconst 0, 1) := dk_3 (dk_at dksX5_reads_4 3 rfl rfl)
theorem dX5_reads_98 : decode cX5_reads 98 = .ok (.istore_n 3, 1) := dk_62 (dk_at dksX5_reads_4 4 rfl rfl)
theorem dX5_reads_99 : decode cX5_reads 99 = .ok (.iconst 1, 1) := dk_4 (dk_at dksX5_reads_4 5 rfl rfl)
theorem dX5_reads_100 : decode cX5_reads 100 = .ok (.istore 4, 2) := dk_54 4 (dk_at dksX5_reads_4 6 rfl rfl)
theorem dX5_reads_102 : decode cX5_reads 102 = .ok (.iload 4, 2) := dk_21 4 (dk_at dksX5_reads_4 8 rfl rfl)
theorem dX5_reads_104 : decode cX5_reads 104 = .ok (.bipush 7, 2) := dk_16 7 (dk_at dksX5_reads_4 10 rfl rfl)
theorem dX5_reads_106 : decode cX5_reads 106 = .ok (.if_icmp .ge 18, 3) := dk_162 0 18 (dk_at dksX5_reads_4 12 rfl rfl)
theorem dX5_reads_109 : decode cX5_reads 109 = .ok (.iload_n 3, 1) := dk_29 (dk_at dksX5_reads_4 15 rfl rfl)
theorem dX5_reads_110 : decode cX5_reads 110 = .ok (.iload_n 2, 1) := dk_28 (dk_at dksX5_reads_4 16 rfl rfl)
theorem dX5_reads_111 : decode cX5_reads 111 = .ok (.iload 4, 2) := dk_21 4 (dk_at dksX5_reads_4 17 rfl rfl)
theorem dX5_reads_113 : decode cX5_reads 113 = .ok (.ishr, 1) := dk_122 (dk_at dksX5_reads_4 19 rfl rfl)
theorem dX5_reads_114 : decode cX5_reads 114 = .ok (.iconst 1, 1) := dk_4 (dk_at dksX5_reads_4 20 rfl rfl)
theorem dX5_reads_115 : decode cX5_reads 115 = .ok (.iand, 1) := dk_126 (dk_at dksX5_reads_4 21 rfl rfl)
theorem dX5_reads_116 : decode cX5_reads 116 = .ok (.iadd, 1) := dk_96 (dk_at dksX5_reads_4 22 rfl rfl)
theorem dX5_reads_117 : decode cX5_reads 117 = .ok (.istore_n 3, 1) := dk_62 (dk_at dksX5_reads_4 23 rfl rfl)
theorem dX5_reads_118 : decode cX5_reads 118 = .ok (.iinc 4 1, 3) := dk_132 4 1 (dk_at dksX5_reads_5 0 rfl rfl)
theorem dX5_reads_121 : decode cX5_reads 121 = .ok (.goto (-19), 3) := dk_167 255 237 (dk_at dksX5_reads_5 3 rfl rfl)
theorem dX5_reads_124 : decode cX5_reads 124 = .ok (.iload_n 1, 1) := dk_27 (dk_at dksX5_reads_5 6 rfl rfl)
theorem dX5_reads_125 : decode cX5_reads 125 = .ok (.ifCond .ne 11, 3) := dk_154 0 11 (dk_at dksX5_reads_5 7 rfl rfl)
theorem dX5_reads_128 : decode cX5_reads 128 = .ok (.iload_n 3, 1) := dk_29 (dk_at dksX5_reads_5 10 rfl rfl)
theorem dX5_reads_129 : decode cX5_reads 129 = .ok (.aload_n 0, 1) := dk_42 (dk_at dksX5_reads_5 11 rfl rfl)
theorem dX5_reads_130 : decode cX5_reads 130 = .ok (.getfield 325, 3) := dk_180 1 69 (dk_at dksX5_reads_5 12 rfl rfl)
theorem dX5_reads_133 : decode cX5_reads 133 = .ok (.if_icmp .ge 8, 3) := dk_162 0 8 (dk_at dksX5_reads_5 15 rfl rfl)
theorem dX5_reads_136 : decode cX5_reads 136 = .ok (.aload_n 0, 1) := dk_42 (dk_at dksX5_reads_5 18 rfl rfl)
theorem dX5_reads_137 : decode cX5_reads 137 = .ok (.iload_n 3, 1) := dk_29 (dk_at dksX5_reads_5 19 rfl rfl)
theorem dX5_reads_138 : decode cX5_reads 138 = .ok (.putfield 325, 3) := dk_181 1 69 (dk_at dksX5_reads_5 20 rfl rfl)
theorem dX5_reads_141 : decode cX5_reads 141 = .ok (.aload_n 0, 1) := dk_42 (dk_at dksX5_reads_5 23 rfl rfl)
theorem dX5_reads_142 : decode cX5_reads 142 = .ok (.aload_n 0, 1) := dk_42 (dk_at dksX5_reads_6 0 rfl rfl)
theorem dX5_reads_143 : decode cX5_reads 143 = .ok (.getfield 33, 3) := dk_180 0 33 (dk_at dksX5_reads_6 1 rfl rfl)
theorem dX5_reads_146 : decode cX5_reads 146 = .ok (.iconst 3, 1) := dk_6 (dk_at dksX5_reads_6 4 rfl rfl)
theorem dX5_reads_147 : decode cX5_reads 147 = .ok (.iaload, 1) := dk_46 (dk_at dksX5_reads_6 5 rfl rfl)
theorem dX5_reads_148 : decode cX5_reads 148 = .ok (.putfield 66, 3) := dk_181 0 66 (dk_at dksX5_reads_6 6 rfl rfl)
theorem dX5_reads_151 : decode cX5_reads 151 = .ok (.return_, 1) := dk_177 (dk_at dksX5_reads_6 9 rfl rfl)
abbrev cX5_nextReading : ByteArray := prog_19_method_61_code
def yX5_nextReading : MethodName := ⟨RX5, "nextReading", "()Z"⟩
def dkwX5_nextReading_2 : List UInt8 := [132, 1, 255, 167, 255, 215, 3, 172]
abbrev dktX5_nextReading_2 : List UInt8 := dkwX5_nextReading_2 ++ []
def dkwX5_nextReading_1 : List UInt8 := [46, 162, 0, 15, 42, 180, 0, 57, 27, 92, 46, 4, 96, 79, 4, 172, 42, 180, 0, 57, 27, 3, 79]
abbrev dktX5_nextReading_1 : List UInt8 := dkwX5_nextReading_1 ++ dktX5_nextReading_2
def dkwX5_nextReading_0 : List UInt8 := [42, 180, 0, 33, 6, 46, 4, 100, 60, 27, 155, 0, 43, 42, 180, 0, 57, 27, 46, 42, 180, 0, 33, 5]
abbrev dktX5_nextReading_0 : List UInt8 := dkwX5_nextReading_0 ++ dktX5_nextReading_1
theorem dksX5_nextReading_0 : cX5_nextReading.data.toList.drop 0 = dktX5_nextReading_0 := by decide +kernel
theorem dksX5_nextReading_1 : cX5_nextReading.data.toList.drop 24 = dktX5_nextReading_1 := dk_seg dksX5_nextReading_0 24 rfl rfl
theorem dksX5_nextReading_2 : cX5_nextReading.data.toList.drop 47 = dktX5_nextReading_2 := dk_seg dksX5_nextReading_1 23 rfl rfl
theorem dX5_nextReading_0 : decode cX5_nextReading 0 = .ok (.aload_n 0, 1) := dk_42 (dk_at dksX5_nextReading_0 0 rfl rfl)
theorem dX5_nextReading_1 : decode cX5_nextReading 1 = .ok (.getfield 33, 3) := dk_180 0 33 (dk_at dksX5_nextReading_0 1 rfl rfl)
theorem dX5_nextReading_4 : decode cX5_nextReading 4 = .ok (.iconst 3, 1) := dk_6 (dk_at dksX5_nextReading_0 4 rfl rfl)
theorem dX5_nextReading_5 : decode cX5_nextReading 5 = .ok (.iaload, 1) := dk_46 (dk_at dksX5_nextReading_0 5 rfl rfl)
theorem dX5_nextReading_6 : decode cX5_nextReading 6 = .ok (.iconst 1, 1) := dk_4 (dk_at dksX5_nextReading_0 6 rfl rfl)
theorem dX5_nextReading_7 : decode cX5_nextReading 7 = .ok (.isub, 1) := dk_100 (dk_at dksX5_nextReading_0 7 rfl rfl)
theorem dX5_nextReading_8 : decode cX5_nextReading 8 = .ok (.istore_n 1, 1) := dk_60 (dk_at dksX5_nextReading_0 8 rfl rfl)
theorem dX5_nextReading_9 : decode cX5_nextReading 9 = .ok (.iload_n 1, 1) := dk_27 (dk_at dksX5_nextReading_0 9 rfl rfl)
theorem dX5_nextReading_10 : decode cX5_nextReading 10 = .ok (.ifCond .lt 43, 3) := dk_155 0 43 (dk_at dksX5_nextReading_0 10 rfl rfl)
theorem dX5_nextReading_13 : decode cX5_nextReading 13 = .ok (.aload_n 0, 1) := dk_42 (dk_at dksX5_nextReading_0 13 rfl rfl)
theorem dX5_nextReading_14 : decode cX5_nextReading 14 = .ok (.getfield 57, 3) := dk_180 0 57 (dk_at dksX5_nextReading_0 14 rfl rfl)
theorem dX5_nextReading_17 : decode cX5_nextReading 17 = .ok (.iload_n 1, 1) := dk_27 (dk_at dksX5_nextReading_0 17 rfl rfl)
theorem dX5_nextReading_18 : decode cX5_nextReading 18 = .ok (.iaload, 1) := dk_46 (dk_at dksX5_nextReading_0 18 rfl rfl)
theorem dX5_nextReading_19 : decode cX5_nextReading 19 = .ok (.aload_n 0, 1) := dk_42 (dk_at dksX5_nextReading_0 19 rfl rfl)
theorem dX5_nextReading_20 : decode cX5_nextReading 20 = .ok (.getfield 33, 3) := dk_180 0 33 (dk_at dksX5_nextReading_0 20 rfl rfl)
theorem dX5_nextReading_23 : decode cX5_nextReading 23 = .ok (.iconst 2, 1) := dk_5 (dk_at dksX5_nextReading_0 23 rfl rfl)
theorem dX5_nextReading_24 : decode cX5_nextReading 24 = .ok (.iaload, 1) := dk_46 (dk_at dksX5_nextReading_1 0 rfl rfl)
theorem dX5_nextReading_25 : decode cX5_nextReading 25 = .ok (.if_icmp .ge 15, 3) := dk_162 0 15 (dk_at dksX5_nextReading_1 1 rfl rfl)
theorem dX5_nextReading_28 : decode cX5_nextReading 28 = .ok (.aload_n 0, 1) := dk_42 (dk_at dksX5_nextReading_1 4 rfl rfl)
theorem dX5_nextReading_29 : decode cX5_nextReading 29 = .ok (.getfield 57, 3) := dk_180 0 57 (dk_at dksX5_nextReading_1 5 rfl rfl)
theorem dX5_nextReading_32 : decode cX5_nextReading 32 = .ok (.iload_n 1, 1) := dk_27 (dk_at dksX5_nextReading_1 8 rfl rfl)
theorem dX5_nextReading_33 : decode cX5_nextReading 33 = .ok (.dup2, 1) := dk_92 (dk_at dksX5_nextReading_1 9 rfl rfl)
theorem dX5_nextReading_34 : decode cX5_nextReading 34 = .ok (.iaload, 1) := dk_46 (dk_at dksX5_nextReading_1 10 rfl rfl)
theorem dX5_nextReading_35 : decode cX5_nextReading 35 = .ok (.iconst 1, 1) := dk_4 (dk_at dksX5_nextReading_1 11 rfl rfl)
theorem dX5_nextReading_36 : decode cX5_nextReading 36 = .ok (.iadd, 1) := dk_96 (dk_at dksX5_nextReading_1 12 rfl rfl)
theorem dX5_nextReading_37 : decode cX5_nextReading 37 = .ok (.iastore, 1) := dk_79 (dk_at dksX5_nextReading_1 13 rfl rfl)
theorem dX5_nextReading_38 : decode cX5_nextReading 38 = .ok (.iconst 1, 1) := dk_4 (dk_at dksX5_nextReading_1 14 rfl rfl)
theorem dX5_nextReading_39 : decode cX5_nextReading 39 = .ok (.ireturn, 1) := dk_172 (dk_at dksX5_nextReading_1 15 rfl rfl)
theorem dX5_nextReading_40 : decode cX5_nextReading 40 = .ok (.aload_n 0, 1) := dk_42 (dk_at dksX5_nextReading_1 16 rfl rfl)
theorem dX5_nextReading_41 : decode cX5_nextReading 41 = .ok (.getfield 57, 3) := dk_180 0 57 (dk_at dksX5_nextReading_1 17 rfl rfl)
theorem dX5_nextReading_44 : decode cX5_nextReading 44 = .ok (.iload_n 1, 1) := dk_27 (dk_at dksX5_nextReading_1 20 rfl rfl)
theorem dX5_nextReading_45 : decode cX5_nextReading 45 = .ok (.iconst 0, 1) := dk_3 (dk_at dksX5_nextReading_1 21 rfl rfl)
theorem dX5_nextReading_46 : decode cX5_nextReading 46 = .ok (.iastore, 1) := dk_79 (dk_at dksX5_nextReading_1 22 rfl rfl)
theorem dX5_nextReading_47 : decode cX5_nextReading 47 = .ok (.iinc 1 (-1), 3) := dk_132 1 255 (dk_at dksX5_nextReading_2 0 rfl rfl)
theorem dX5_nextReading_50 : decode cX5_nextReading 50 = .ok (.goto (-41), 3) := dk_167 255 215 (dk_at dksX5_nextReading_2 3 rfl rfl)
theorem dX5_nextReading_53 : decode cX5_nextReading 53 = .ok (.iconst 0, 1) := dk_3 (dk_at dksX5_nextReading_2 6 rfl rfl)
theorem dX5_nextReading_54 : decode cX5_nextReading 54 = .ok (.ireturn, 1) := dk_172 (dk_at dksX5_nextReading_2 7 rfl rfl)
abbrev cX5_read : ByteArray := prog_19_method_64_code
def yX5_read : MethodName := ⟨RX5, "read", "(II)I"⟩
def dkwX5_read_2 : List UInt8 := [46, 167, 0, 5, 16, 253, 172]
abbrev dktX5_read_2 : List UInt8 := dkwX5_read_2 ++ []
def dkwX5_read_1 : List UInt8 := [184, 0, 191, 153, 0, 25, 28, 154, 0, 12, 42, 180, 0, 60, 27, 46, 167, 0, 14, 42, 180, 0, 63, 27]
abbrev dktX5_read_1 : List UInt8 := dkwX5_read_1 ++ dktX5_read_2
def dkwX5_read_0 : List UInt8 := [42, 3, 181, 0, 1, 27, 3, 42, 180, 0, 66, 4, 100, 184, 0, 191, 153, 0, 34, 28, 3, 4]
abbrev dktX5_read_0 : List UInt8 := dkwX5_read_0 ++ dktX5_read_1
theorem dksX5_read_0 : cX5_read.data.toList.drop 0 = dktX5_read_0 := by decide +kernel
theorem dksX5_read_1 : cX5_read.data.toList.drop 22 = dktX5_read_1 := dk_seg dksX5_read_0 22 rfl rfl
theorem dksX5_read_2 : cX5_read.data.toList.drop 46 = dktX5_read_2 := dk_seg dksX5_read_1 24 rfl rfl
theorem dX5_read_0 : decode cX5_read 0 = .ok (.aload_n 0, 1) := dk_42 (dk_at dksX5_read_0 0 rfl rfl)
theorem dX5_read_1 : decode cX5_read 1 = .ok (.iconst 0, 1) := dk_3 (dk_at dksX5_read_0 1 rfl rfl)
theorem dX5_read_2 : decode cX5_read 2 = .ok (.putfield 1, 3) := dk_181 0 1 (dk_at dksX5_read_0 2 rfl rfl)
theorem dX5_read_5 : decode cX5_read 5 = .ok (.iload_n 1, 1) := dk_27 (dk_at dksX5_read_0 5 rfl rfl)
theorem dX5_read_6 : decode cX5_read 6 = .ok (.iconst 0, 1) := dk_3 (dk_at dksX5_read_0 6 rfl rfl)
theorem dX5_read_7 : decode cX5_read 7 = .ok (.aload_n 0, 1) := dk_42 (dk_at dksX5_read_0 7 rfl rfl)
theorem dX5_read_8 : decode cX5_read 8 = .ok (.getfield 66, 3) := dk_180 0 66 (dk_at dksX5_read_0 8 rfl rfl)
theorem dX5_read_11 : decode cX5_read 11 = .ok (.iconst 1, 1) := dk_4 (dk_at dksX5_read_0 11 rfl rfl)
theorem dX5_read_12 : decode cX5_read 12 = .ok (.isub, 1) := dk_100 (dk_at dksX5_read_0 12 rfl rfl)
theorem dX5_read_13 : decode cX5_read 13 = .ok (.invokestatic 191, 3) := dk_184 0 191 (dk_at dksX5_read_0 13 rfl rfl)
theorem dX5_read_16 : decode cX5_read 16 = .ok (.ifCond .eq 34, 3) := dk_153 0 34 (dk_at dksX5_read_0 16 rfl rfl)
theorem dX5_read_19 : decode cX5_read 19 = .ok (.iload_n 2, 1) := dk_28 (dk_at dksX5_read_0 19 rfl rfl)
theorem dX5_read_20 : decode cX5_read 20 = .ok (.iconst 0, 1) := dk_3 (dk_at dksX5_read_0 20 rfl rfl)
theorem dX5_read_21 : decode cX5_read 21 = .ok (.iconst 1, 1) := dk_4 (dk_at dksX5_read_0 21 rfl rfl)
theorem dX5_read_22 : decode cX5_read 22 = .ok (.invokestatic 191, 3) := dk_184 0 191 (dk_at dksX5_read_1 0 rfl rfl)
theorem dX5_read_25 : decode cX5_read 25 = .ok (.ifCond .eq 25, 3) := dk_153 0 25 (dk_at dksX5_read_1 3 rfl rfl)
theorem dX5_read_28 : decode cX5_read 28 = .ok (.iload_n 2, 1) := dk_28 (dk_at dksX5_read_1 6 rfl rfl)
theorem dX5_read_29 : decode cX5_read 29 = .ok (.ifCond .ne 12, 3) := dk_154 0 12 (dk_at dksX5_read_1 7 rfl rfl)
theorem dX5_read_32 : decode cX5_read 32 = .ok (.aload_n 0, 1) := dk_42 (dk_at dksX5_read_1 10 rfl rfl)
theorem dX5_read_33 : decode cX5_read 33 = .ok (.getfield 60, 3) := dk_180 0 60 (dk_at dksX5_read_1 11 rfl rfl)
theorem dX5_read_36 : decode cX5_read 36 = .ok (.iload_n 1, 1) := dk_27 (dk_at dksX5_read_1 14 rfl rfl)
theorem dX5_read_37 : decode cX5_read 37 = .ok (.iaload, 1) := dk_46 (dk_at dksX5_read_1 15 rfl rfl)
theorem dX5_read_38 : decode cX5_read 38 = .ok (.goto 14, 3) := dk_167 0 14 (dk_at dksX5_read_1 16 rfl rfl)
theorem dX5_read_41 : decode cX5_read 41 = .ok (.aload_n 0, 1) := dk_42 (dk_at dksX5_read_1 19 rfl rfl)
theorem dX5_read_42 : decode cX5_read 42 = .ok (.getfield 63, 3) := dk_180 0 63 (dk_at dksX5_read_1 20 rfl rfl)
theorem dX5_read_45 : decode cX5_read 45 = .ok (.iload_n 1, 1) := dk_27 (dk_at dksX5_read_1 23 rfl rfl)
theorem dX5_read_46 : decode cX5_read 46 = .ok (.iaload, 1) := dk_46 (dk_at dksX5_read_2 0 rfl rfl)
theorem dX5_read_47 : decode cX5_read 47 = .ok (.goto 5, 3) := dk_167 0 5 (dk_at dksX5_read_2 1 rfl rfl)
theorem dX5_read_50 : decode cX5_read 50 = .ok (.bipush (-3), 2) := dk_16 253 (dk_at dksX5_read_2 4 rfl rfl)
theorem dX5_read_52 : decode cX5_read 52 = .ok (.ireturn, 1) := dk_172 (dk_at dksX5_read_2 6 rfl rfl)
abbrev cX5_fewest : ByteArray := prog_19_method_65_code
def yX5_fewest : MethodName := ⟨RX5, "fewest", "()I"⟩
def dkwX5_fewest_0 : List UInt8 := [42, 3, 181, 0, 1, 42, 180, 0, 66, 155, 0, 10, 42, 180, 1, 69, 167, 0, 4, 2, 172]
abbrev dktX5_fewest_0 : List UInt8 := dkwX5_fewest_0 ++ []
theorem dksX5_fewest_0 : cX5_fewest.data.toList.drop 0 = dktX5_fewest_0 := by decide +kernel
theorem dX5_fewest_0 : decode cX5_fewest 0 = .ok (.aload_n 0, 1) := dk_42 (dk_at dksX5_fewest_0 0 rfl rfl)
theorem dX5_fewest_1 : decode cX5_fewest 1 = .ok (.iconst 0, 1) := dk_3 (dk_at dksX5_fewest_0 1 rfl rfl)
theorem dX5_fewest_2 : decode cX5_fewest 2 = .ok (.putfield 1, 3) := dk_181 0 1 (dk_at dksX5_fewest_0 2 rfl rfl)
theorem dX5_fewest_5 : decode cX5_fewest 5 = .ok (.aload_n 0, 1) := dk_42 (dk_at dksX5_fewest_0 5 rfl rfl)
theorem dX5_fewest_6 : decode cX5_fewest 6 = .ok (.getfield 66, 3) := dk_180 0 66 (dk_at dksX5_fewest_0 6 rfl rfl)
theorem dX5_fewest_9 : decode cX5_fewest 9 = .ok (.ifCond .lt 10, 3) := dk_155 0 10 (dk_at dksX5_fewest_0 9 rfl rfl)
theorem dX5_fewest_12 : decode cX5_fewest 12 = .ok (.aload_n 0, 1) := dk_42 (dk_at dksX5_fewest_0 12 rfl rfl)
theorem dX5_fewest_13 : decode cX5_fewest 13 = .ok (.getfield 325, 3) := dk_180 1 69 (dk_at dksX5_fewest_0 13 rfl rfl)
theorem dX5_fewest_16 : decode cX5_fewest 16 = .ok (.goto 4, 3) := dk_167 0 4 (dk_at dksX5_fewest_0 16 rfl rfl)
theorem dX5_fewest_19 : decode cX5_fewest 19 = .ok (.iconst (-1), 1) := dk_2 (dk_at dksX5_fewest_0 19 rfl rfl)
theorem dX5_fewest_20 : decode cX5_fewest 20 = .ok (.ireturn, 1) := dk_172 (dk_at dksX5_fewest_0 20 rfl rfl)
abbrev cX5_sign_2 : ByteArray := prog_19_method_69_code
def yX5_sign_2 : MethodName := ⟨RX5, "sign", "(III)I"⟩
def dkwX5_sign_2_1 : List UInt8 := [21, 4, 17, 3, 232, 108, 172]
abbrev dktX5_sign_2_1 : List UInt8 := dkwX5_sign_2_1 ++ []
def dkwX5_sign_2_0 : List UInt8 := [42, 3, 181, 0, 1, 42, 27, 28, 29, 182, 1, 79, 54, 4, 21, 4, 156, 0, 7, 2, 167, 0, 9]
abbrev dktX5_sign_2_0 : List UInt8 := dkwX5_sign_2_0 ++ dktX5_sign_2_1
theorem dksX5_sign_2_0 : cX5_sign_2.data.toList.drop 0 = dktX5_sign_2_0 := by decide +kernel
theorem dksX5_sign_2_1 : cX5_sign_2.data.toList.drop 23 = dktX5_sign_2_1 := dk_seg dksX5_sign_2_0 23 rfl rfl
theorem dX5_sign_2_0 : decode cX5_sign_2 0 = .ok (.aload_n 0, 1) := dk_42 (dk_at dksX5_sign_2_0 0 rfl rfl)
theorem dX5_sign_2_1 : decode cX5_sign_2 1 = .ok (.iconst 0, 1) := dk_3 (dk_at dksX5_sign_2_0 1 rfl rfl)
theorem dX5_sign_2_2 : decode cX5_sign_2 2 = .ok (.putfield 1, 3) := dk_181 0 1 (dk_at dksX5_sign_2_0 2 rfl rfl)
theorem dX5_sign_2_5 : decode cX5_sign_2 5 = .ok (.aload_n 0, 1) := dk_42 (dk_at dksX5_sign_2_0 5 rfl rfl)
theorem dX5_sign_2_6 : decode cX5_sign_2 6 = .ok (.iload_n 1, 1) := dk_27 (dk_at dksX5_sign_2_0 6 rfl rfl)
theorem dX5_sign_2_7 : decode cX5_sign_2 7 = .ok (.iload_n 2, 1) := dk_28 (dk_at dksX5_sign_2_0 7 rfl rfl)
theorem dX5_sign_2_8 : decode cX5_sign_2 8 = .ok (.iload_n 3, 1) := dk_29 (dk_at dksX5_sign_2_0 8 rfl rfl)
theorem dX5_sign_2_9 : decode cX5_sign_2 9 = .ok (.invokevirtual 335, 3) := dk_182 1 79 (dk_at dksX5_sign_2_0 9 rfl rfl)
theorem dX5_sign_2_12 : decode cX5_sign_2 12 = .ok (.istore 4, 2) := dk_54 4 (dk_at dksX5_sign_2_0 12 rfl rfl)
theorem dX5_sign_2_14 : decode cX5_sign_2 14 = .ok (.iload 4, 2) := dk_21 4 (dk_at dksX5_sign_2_0 14 rfl rfl)
theorem dX5_sign_2_16 : decode cX5_sign_2 16 = .ok (.ifCond .ge 7, 3) := dk_156 0 7 (dk_at dksX5_sign_2_0 16 rfl rfl)
theorem dX5_sign_2_19 : decode cX5_sign_2 19 = .ok (.iconst (-1), 1) := dk_2 (dk_at dksX5_sign_2_0 19 rfl rfl)
theorem dX5_sign_2_20 : decode cX5_sign_2 20 = .ok (.goto 9, 3) := dk_167 0 9 (dk_at dksX5_sign_2_0 20 rfl rfl)
theorem dX5_sign_2_23 : decode cX5_sign_2 23 = .ok (.iload 4, 2) := dk_21 4 (dk_at dksX5_sign_2_1 0 rfl rfl)
theorem dX5_sign_2_25 : decode cX5_sign_2 25 = .ok (.sipush 1000, 3) := dk_17 3 232 (dk_at dksX5_sign_2_1 2 rfl rfl)
theorem dX5_sign_2_28 : decode cX5_sign_2 28 = .ok (.idiv, 1) := dk_108 (dk_at dksX5_sign_2_1 5 rfl rfl)
theorem dX5_sign_2_29 : decode cX5_sign_2 29 = .ok (.ireturn, 1) := dk_172 (dk_at dksX5_sign_2_1 6 rfl rfl)
abbrev cX5_crosses : ByteArray := prog_19_method_68_code
def yX5_crosses : MethodName := ⟨RX5, "crosses", "(III)I"⟩
def dkwX5_crosses_11 : List UInt8 := [2, 172]
abbrev dktX5_crosses_11 : List UInt8 := dkwX5_crosses_11 ++ []
def dkwX5_crosses_10 : List UInt8 := [167, 255, 121, 42, 180, 0, 69, 29, 46, 19, 1, 72, 162, 0, 12, 42, 180, 0, 69, 29, 46, 167, 0, 4]
abbrev dktX5_crosses_10 : List UInt8 := dkwX5_crosses_10 ++ dktX5_crosses_11
def dkwX5_crosses_9 : List UInt8 := [180, 0, 69, 21, 7, 21, 8, 79, 4, 54, 4, 132, 6, 1, 167, 255, 152, 132, 5, 1, 167, 255, 135]
abbrev dktX5_crosses_9 : List UInt8 := dkwX5_crosses_9 ++ dktX5_crosses_10
def dkwX5_crosses_8 : List UInt8 := [104, 96, 4, 96, 54, 8, 21, 8, 42, 180, 0, 69, 21, 7, 46, 161, 0, 6, 167, 0, 15, 42]
abbrev dktX5_crosses_8 : List UInt8 := dkwX5_crosses_8 ++ dktX5_crosses_9
def dkwX5_crosses_7 : List UInt8 := [4, 160, 0, 6, 167, 0, 53, 42, 180, 0, 69, 21, 5, 46, 17, 3, 232, 42, 27, 21, 7, 182, 1, 73]
abbrev dktX5_crosses_7 : List UInt8 := dkwX5_crosses_7 ++ dktX5_crosses_8
def dkwX5_crosses_6 : List UInt8 := [21, 5, 21, 6, 182, 1, 76, 54, 7, 21, 7, 155, 0, 70, 42, 180, 0, 33, 16, 25, 21, 7, 96, 46]
abbrev dktX5_crosses_6 : List UInt8 := dkwX5_crosses_6 ++ dktX5_crosses_7
def dkwX5_crosses_5 : List UInt8 := [3, 54, 6, 21, 6, 7, 162, 0, 104, 42, 180, 0, 69, 21, 5, 46, 19, 1, 72, 162, 0, 91, 42]
abbrev dktX5_crosses_5 : List UInt8 := dkwX5_crosses_5 ++ dktX5_crosses_6
def dkwX5_crosses_4 : List UInt8 := [104, 79, 4, 54, 4, 21, 4, 153, 0, 136, 3, 54, 4, 3, 54, 5, 21, 5, 17, 0, 144, 162, 0, 119]
abbrev dktX5_crosses_4 : List UInt8 := dkwX5_crosses_4 ++ dktX5_crosses_5
def dkwX5_crosses_3 : List UInt8 := [19, 1, 72, 79, 132, 4, 1, 167, 255, 235, 42, 180, 0, 69, 28, 17, 3, 232, 42, 27, 28, 182, 1, 73]
abbrev dktX5_crosses_3 : List UInt8 := dkwX5_crosses_3 ++ dktX5_crosses_4
def dkwX5_crosses_2 : List UInt8 := [160, 0, 5, 2, 172, 3, 54, 4, 21, 4, 17, 0, 144, 162, 0, 19, 42, 180, 0, 69, 21, 4]
abbrev dktX5_crosses_2 : List UInt8 := dkwX5_crosses_2 ++ dktX5_crosses_3
def dkwX5_crosses_1 : List UInt8 := [42, 180, 0, 33, 16, 25, 28, 96, 46, 4, 159, 0, 16, 42, 180, 0, 33, 16, 25, 29, 96, 46, 4]
abbrev dktX5_crosses_1 : List UInt8 := dkwX5_crosses_1 ++ dktX5_crosses_2
def dkwX5_crosses_0 : List UInt8 := [42, 27, 182, 1, 3, 153, 0, 45, 42, 28, 182, 1, 10, 153, 0, 37, 42, 29, 182, 1, 10, 153, 0, 29]
abbrev dktX5_crosses_0 : List UInt8 := dkwX5_crosses_0 ++ dktX5_crosses_1
theorem dksX5_crosses_0 : cX5_crosses.data.toList.drop 0 = dktX5_crosses_0 := by decide +kernel
theorem dksX5_crosses_1 : cX5_crosses.data.toList.drop 24 = dktX5_crosses_1 := dk_seg dksX5_crosses_0 24 rfl rfl
theorem dksX5_crosses_2 : cX5_crosses.data.toList.drop 47 = dktX5_crosses_2 := dk_seg dksX5_crosses_1 23 rfl rfl
theorem dksX5_crosses_3 : cX5_crosses.data.toList.drop 69 = dktX5_crosses_3 := dk_seg dksX5_crosses_2 22 rfl rfl
theorem dksX5_crosses_4 : cX5_crosses.data.toList.drop 93 = dktX5_crosses_4 := dk_seg dksX5_crosses_3 24 rfl rfl
theorem dksX5_crosses_5 : cX5_crosses.data.toList.drop 117 = dktX5_crosses_5 := dk_seg dksX5_crosses_4 24 rfl rfl
theorem dksX5_crosses_6 : cX5_crosses.data.toList.drop 140 = dktX5_crosses_6 := dk_seg dksX5_crosses_5 23 rfl rfl
theorem dksX5_crosses_7 : cX5_crosses.data.toList.drop 164 = dktX5_crosses_7 := dk_seg dksX5_crosses_6 24 rfl rfl
theorem dksX5_crosses_8 : cX5_crosses.data.toList.drop 188 = dktX5_crosses_8 := dk_seg dksX5_crosses_7 24 rfl rfl
theorem dksX5_crosses_9 : cX5_crosses.data.toList.drop 210 = dktX5_crosses_9 := dk_seg dksX5_crosses_8 22 rfl rfl
theorem dksX5_crosses_10 : cX5_crosses.data.toList.drop 233 = dktX5_crosses_10 := dk_seg dksX5_crosses_9 23 rfl rfl
theorem dksX5_crosses_11 : cX5_crosses.data.toList.drop 257 = dktX5_crosses_11 := dk_seg dksX5_crosses_10 24 rfl rfl
theorem dX5_crosses_0 : decode cX5_crosses 0 = .ok (.aload_n 0, 1) := dk_42 (dk_at dksX5_crosses_0 0 rfl rfl)
theorem dX5_crosses_1 : decode cX5_crosses 1 = .ok (.iload_n 1, 1) := dk_27 (dk_at dksX5_crosses_0 1 rfl rfl)
theorem dX5_crosses_2 : decode cX5_crosses 2 = .ok (.invokevirtual 259, 3) := dk_182 1 3 (dk_at dksX5_crosses_0 2 rfl rfl)
theorem dX5_crosses_5 : decode cX5_crosses 5 = .ok (.ifCond .eq 45, 3) := dk_153 0 45 (dk_at dksX5_crosses_0 5 rfl rfl)
theorem dX5_crosses_8 : decode cX5_crosses 8 = .ok (.aload_n 0, 1) := dk_42 (dk_at dksX5_crosses_0 8 rfl rfl)
theorem dX5_crosses_9 : decode cX5_crosses 9 = .ok (.iload_n 2, 1) := dk_28 (dk_at dksX5_crosses_0 9 rfl rfl)
theorem dX5_crosses_10 : decode cX5_crosses 10 = .ok (.invokevirtual 266, 3) := dk_182 1 10 (dk_at dksX5_crosses_0 10 rfl rfl)
theorem dX5_crosses_13 : decode cX5_crosses 13 = .ok (.ifCond .eq 37, 3) := dk_153 0 37 (dk_at dksX5_crosses_0 13 rfl rfl)
theorem dX5_crosses_16 : decode cX5_crosses 16 = .ok (.aload_n 0, 1) := dk_42 (dk_at dksX5_crosses_0 16 rfl rfl)
theorem dX5_crosses_17 : decode cX5_crosses 17 = .ok (.iload_n 3, 1) := dk_29 (dk_at dksX5_crosses_0 17 rfl rfl)
theorem dX5_crosses_18 : decode cX5_crosses 18 = .ok (.invokevirtual 266, 3) := dk_182 1 10 (dk_at dksX5_crosses_0 18 rfl rfl)
theorem dX5_crosses_21 : decode cX5_crosses 21 = .ok (.ifCond .eq 29, 3) := dk_153 0 29 (dk_at dksX5_crosses_0 21 rfl rfl)
theorem dX5_crosses_24 : decode cX5_crosses 24 = .ok (.aload_n 0, 1) := dk_42 (dk_at dksX5_crosses_1 0 rfl rfl)
theorem dX5_crosses_25 : decode cX5_crosses 25 = .ok (.getfield 33, 3) := dk_180 0 33 (dk_at dksX5_crosses_1 1 rfl rfl)
theorem dX5_crosses_28 : decode cX5_crosses 28 = .ok (.bipush 25, 2) := dk_16 25 (dk_at dksX5_crosses_1 4 rfl rfl)
theorem dX5_crosses_30 : decode cX5_crosses 30 = .ok (.iload_n 2, 1) := dk_28 (dk_at dksX5_crosses_1 6 rfl rfl)
theorem dX5_crosses_31 : decode cX5_crosses 31 = .ok (.iadd, 1) := dk_96 (dk_at dksX5_crosses_1 7 rfl rfl)
theorem dX5_crosses_32 : decode cX5_crosses 32 = .ok (.iaload, 1) := dk_46 (dk_at dksX5_crosses_1 8 rfl rfl)
theorem dX5_crosses_33 : decode cX5_crosses 33 = .ok (.iconst 1, 1) := dk_4 (dk_at dksX5_crosses_1 9 rfl rfl)
theorem dX5_crosses_34 : decode cX5_crosses 34 = .ok (.if_icmp .eq 16, 3) := dk_159 0 16 (dk_at dksX5_crosses_1 10 rfl rfl)
theorem dX5_crosses_37 : decode cX5_crosses 37 = .ok (.aload_n 0, 1) := dk_42 (dk_at dksX5_crosses_1 13 rfl rfl)
theorem dX5_crosses_38 : decode cX5_crosses 38 = .ok (.getfield 33, 3) := dk_180 0 33 (dk_at dksX5_crosses_1 14 rfl rfl)
theorem dX5_crosses_41 : decode cX5_crosses 41 = .ok (.bipush 25, 2) := dk_16 25 (dk_at dksX5_crosses_1 17 rfl rfl)
theorem dX5_crosses_43 : decode cX5_crosses 43 = .ok (.iload_n 3, 1) := dk_29 (dk_at dksX5_crosses_1 19 rfl rfl)
theorem dX5_crosses_44 : decode cX5_crosses 44 = .ok (.iadd, 1) := dk_96 (dk_at dksX5_crosses_1 20 rfl rfl)
theorem dX5_crosses_45 : decode cX5_crosses 45 = .ok (.iaload, 1) := dk_46 (dk_at dksX5_crosses_1 21 rfl rfl)
theorem dX5_crosses_46 : decode cX5_crosses 46 = .ok (.iconst 1, 1) := dk_4 (dk_at dksX5_crosses_1 22 rfl rfl)
theorem dX5_crosses_47 : decode cX5_crosses 47 = .ok (.if_icmp .ne 5, 3) := dk_160 0 5 (dk_at dksX5_crosses_2 0 rfl rfl)
theorem dX5_crosses_50 : decode cX5_crosses 50 = .ok (.iconst (-1), 1) := dk_2 (dk_at dksX5_crosses_2 3 rfl rfl)
theorem dX5_crosses_51 : decode cX5_crosses 51 = .ok (.ireturn, 1) := dk_172 (dk_at dksX5_crosses_2 4 rfl rfl)
theorem dX5_crosses_52 : decode cX5_crosses 52 = .ok (.iconst 0, 1) := dk_3 (dk_at dksX5_crosses_2 5 rfl rfl)
theorem dX5_crosses_53 : decode cX5_crosses 53 = .ok (.istore 4, 2) := dk_54 4 (dk_at dksX5_crosses_2 6 rfl rfl)
theorem dX5_crosses_55 : decode cX5_crosses 55 = .ok (.iload 4, 2) := dk_21 4 (dk_at dksX5_crosses_2 8 rfl rfl)
theorem dX5_crosses_57 : decode cX5_crosses 57 = .ok (.sipush 144, 3) := dk_17 0 144 (dk_at dksX5_crosses_2 10 rfl rfl)
theorem dX5_crosses_60 : decode cX5_crosses 60 = .ok (.if_icmp .ge 19, 3) := dk_162 0 19 (dk_at dksX5_crosses_2 13 rfl rfl)
theorem dX5_crosses_63 : decode cX5_crosses 63 = .ok (.aload_n 0, 1) := dk_42 (dk_at dksX5_crosses_2 16 rfl rfl)
theorem dX5_crosses_64 : decode cX5_crosses 64 = .ok (.getfield 69, 3) := dk_180 0 69 (dk_at dksX5_crosses_2 17 rfl rfl)
theorem dX5_crosses_67 : decode cX5_crosses 67 = .ok (.iload 4, 2) := dk_21 4 (dk_at dksX5_crosses_2 20 rfl rfl)
theorem dX5_crosses_69 : decode cX5_crosses 69 = .ok (.ldc_w 328, 3) := dk_19 1 72 (dk_at dksX5_crosses_3 0 rfl rfl)
theorem dX5_crosses_72 : decode cX5_crosses 72 = .ok (.iastore, 1) := dk_79 (dk_at dksX5_crosses_3 3 rfl rfl)
theorem dX5_crosses_73 : decode cX5_crosses 73 = .ok (.iinc 4 1, 3) := dk_132 4 1 (dk_at dksX5_crosses_3 4 rfl rfl)
theorem dX5_crosses_76 : decode cX5_crosses 76 = .ok (.goto (-21), 3) := dk_167 255 235 (dk_at dksX5_crosses_3 7 rfl rfl)
theorem dX5_crosses_79 : decode cX5_crosses 79 = .ok (.aload_n 0, 1) := dk_42 (dk_at dksX5_crosses_3 10 rfl rfl)
theorem dX5_crosses_80 : decode cX5_crosses 80 = .ok (.getfield 69, 3) := dk_180 0 69 (dk_at dksX5_crosses_3 11 rfl rfl)
theorem dX5_crosses_83 : decode cX5_crosses 83 = .ok (.iload_n 2, 1) := dk_28 (dk_at dksX5_crosses_3 14 rfl rfl)
theorem dX5_crosses_84 : decode cX5_crosses 84 = .ok (.sipush 1000, 3) := dk_17 3 232 (dk_at dksX5_crosses_3 15 rfl rfl)
theorem dX5_crosses_87 : decode cX5_crosses 87 = .ok (.aload_n 0, 1) := dk_42 (dk_at dksX5_crosses_3 18 rfl rfl)
theorem dX5_crosses_88 : decode cX5_crosses 88 = .ok (.iload_n 1, 1) := dk_27 (dk_at dksX5_crosses_3 19 rfl rfl)
theorem dX5_crosses_89 : decode cX5_crosses 89 = .ok (.iload_n 2, 1) := dk_28 (dk_at dksX5_crosses_3 20 rfl rfl)
theorem dX5_crosses_90 : decode cX5_crosses 90 = .ok (.invokevirtual 329, 3) := dk_182 1 73 (dk_at dksX5_crosses_3 21 rfl rfl)
theorem dX5_crosses_93 : decode cX5_crosses 93 = .ok (.imul, 1) := dk_104 (dk_at dksX5_crosses_4 0 rfl rfl)
theorem dX5_crosses_94 : decode cX5_crosses 94 = .ok (.iastore, 1) := dk_79 (dk_at dksX5_crosses_4 1 rfl rfl)
theorem dX5_crosses_95 : decode cX5_crosses 95 = .ok (.iconst 1, 1) := dk_4 (dk_at dksX5_crosses_4 2 rfl rfl)
theorem dX5_crosses_96 : decode cX5_crosses 96 = .ok (.istore 4, 2) := dk_54 4 (dk_at dksX5_crosses_4 3 rfl rfl)
theorem dX5_crosses_98 : decode cX5_crosses 98 = .ok (.iload 4, 2) := dk_21 4 (dk_at dksX5_crosses_4 5 rfl rfl)
theorem dX5_crosses_100 : decode cX5_crosses 100 = .ok (.ifCond .eq 136, 3) := dk_153 0 136 (dk_at dksX5_crosses_4 7 rfl rfl)
theorem dX5_crosses_103 : decode cX5_crosses 103 = .ok (.iconst 0, 1) := dk_3 (dk_at dksX5_crosses_4 10 rfl rfl)
theorem dX5_crosses_104 : decode cX5_crosses 104 = .ok (.istore 4, 2) := dk_54 4 (dk_at dksX5_crosses_4 11 rfl rfl)
theorem dX5_crosses_106 : decode cX5_crosses 106 = .ok (.iconst 0, 1) := dk_3 (dk_at dksX5_crosses_4 13 rfl rfl)
theorem dX5_crosses_107 : decode cX5_crosses 107 = .ok (.istore 5, 2) := dk_54 5 (dk_at dksX5_crosses_4 14 rfl rfl)
theorem dX5_crosses_109 : decode cX5_crosses 109 = .ok (.iload 5, 2) := dk_21 5 (dk_at dksX5_crosses_4 16 rfl rfl)
theorem dX5_crosses_111 : decode cX5_crosses 111 = .ok (.sipush 144, 3) := dk_17 0 144 (dk_at dksX5_crosses_4 18 rfl rfl)
theorem dX5_crosses_114 : decode cX5_crosses 114 = .ok (.if_icmp .ge 119, 3) := dk_162 0 119 (dk_at dksX5_crosses_4 21 rfl rfl)
theorem dX5_crosses_117 : decode cX5_crosses 117 = .ok (.iconst 0, 1) := dk_3 (dk_at dksX5_crosses_5 0 rfl rfl)
theorem dX5_crosses_118 : decode cX5_crosses 118 = .ok (.istore 6, 2) := dk_54 6 (dk_at dksX5_crosses_5 1 rfl rfl)
theorem dX5_crosses_120 : decode cX5_crosses 120 = .ok (.iload 6, 2) := dk_21 6 (dk_at dksX5_crosses_5 3 rfl rfl)
theorem dX5_crosses_122 : decode cX5_crosses 122 = .ok (.iconst 4, 1) := dk_7 (dk_at dksX5_crosses_5 5 rfl rfl)
theorem dX5_crosses_123 : decode cX5_crosses 123 = .ok (.if_icmp .ge 104, 3) := dk_162 0 104 (dk_at dksX5_crosses_5 6 rfl rfl)
theorem dX5_crosses_126 : decode cX5_crosses 126 = .ok (.aload_n 0, 1) := dk_42 (dk_at dksX5_crosses_5 9 rfl rfl)
theorem dX5_crosses_127 : decode cX5_crosses 127 = .ok (.getfield 69, 3) := dk_180 0 69 (dk_at dksX5_crosses_5 10 rfl rfl)
theorem dX5_crosses_130 : decode cX5_crosses 130 = .ok (.iload 5, 2) := dk_21 5 (dk_at dksX5_crosses_5 13 rfl rfl)
theorem dX5_crosses_132 : decode cX5_crosses 132 = .ok (.iaload, 1) := dk_46 (dk_at dksX5_crosses_5 15 rfl rfl)
theorem dX5_crosses_133 : decode cX5_crosses 133 = .ok (.ldc_w 328, 3) := dk_19 1 72 (dk_at dksX5_crosses_5 16 rfl rfl)
theorem dX5_crosses_136 : decode cX5_crosses 136 = .ok (.if_icmp .ge 91, 3) := dk_162 0 91 (dk_at dksX5_crosses_5 19 rfl rfl)
theorem dX5_crosses_139 : decode cX5_crosses 139 = .ok (.aload_n 0, 1) := dk_42 (dk_at dksX5_crosses_5 22 rfl rfl)
theorem dX5_crosses_140 : decode cX5_crosses 140 = .ok (.iload 5, 2) := dk_21 5 (dk_at dksX5_crosses_6 0 rfl rfl)
theorem dX5_crosses_142 : decode cX5_crosses 142 = .ok (.iload 6, 2) := dk_21 6 (dk_at dksX5_crosses_6 2 rfl rfl)
theorem dX5_crosses_144 : decode cX5_crosses 144 = .ok (.invokevirtual 332, 3) := dk_182 1 76 (dk_at dksX5_crosses_6 4 rfl rfl)
theorem dX5_crosses_147 : decode cX5_crosses 147 = .ok (.istore 7, 2) := dk_54 7 (dk_at dksX5_crosses_6 7 rfl rfl)
theorem dX5_crosses_149 : decode cX5_crosses 149 = .ok (.iload 7, 2) := dk_21 7 (dk_at dksX5_crosses_6 9 rfl rfl)
theorem dX5_crosses_151 : decode cX5_crosses 151 = .ok (.ifCond .lt 70, 3) := dk_155 0 70 (dk_at dksX5_crosses_6 11 rfl rfl)
theorem dX5_crosses_154 : decode cX5_crosses 154 = .ok (.aload_n 0, 1) := dk_42 (dk_at dksX5_crosses_6 14 rfl rfl)
theorem dX5_crosses_155 : decode cX5_crosses 155 = .ok (.getfield 33, 3) := dk_180 0 33 (dk_at dksX5_crosses_6 15 rfl rfl)
theorem dX5_crosses_158 : decode cX5_crosses 158 = .ok (.bipush 25, 2) := dk_16 25 (dk_at dksX5_crosses_6 18 rfl rfl)
theorem dX5_crosses_160 : decode cX5_crosses 160 = .ok (.iload 7, 2) := dk_21 7 (dk_at dksX5_crosses_6 20 rfl rfl)
theorem dX5_crosses_162 : decode cX5_crosses 162 = .ok (.iadd, 1) := dk_96 (dk_at dksX5_crosses_6 22 rfl rfl)
theorem dX5_crosses_163 : decode cX5_crosses 163 = .ok (.iaload, 1) := dk_46 (dk_at dksX5_crosses_6 23 rfl rfl)
theorem dX5_crosses_164 : decode cX5_crosses 164 = .ok (.iconst 1, 1) := dk_4 (dk_at dksX5_crosses_7 0 rfl rfl)
theorem dX5_crosses_165 : decode cX5_crosses 165 = .ok (.if_icmp .ne 6, 3) := dk_160 0 6 (dk_at dksX5_crosses_7 1 rfl rfl)
theorem dX5_crosses_168 : decode cX5_crosses 168 = .ok (.goto 53, 3) := dk_167 0 53 (dk_at dksX5_crosses_7 4 rfl rfl)
theorem dX5_crosses_171 : decode cX5_crosses 171 = .ok (.aload_n 0, 1) := dk_42 (dk_at dksX5_crosses_7 7 rfl rfl)
theorem dX5_crosses_172 : decode cX5_crosses 172 = .ok (.getfield 69, 3) := dk_180 0 69 (dk_at dksX5_crosses_7 8 rfl rfl)
theorem dX5_crosses_175 : decode cX5_crosses 175 = .ok (.iload 5, 2) := dk_21 5 (dk_at dksX5_crosses_7 11 rfl rfl)
theorem dX5_crosses_177 : decode cX5_crosses 177 = .ok (.iaload, 1) := dk_46 (dk_at dksX5_crosses_7 13 rfl rfl)
theorem dX5_crosses_178 : decode cX5_crosses 178 = .ok (.sipush 1000, 3) := dk_17 3 232 (dk_at dksX5_crosses_7 14 rfl rfl)
theorem dX5_crosses_181 : decode cX5_crosses 181 = .ok (.aload_n 0, 1) := dk_42 (dk_at dksX5_crosses_7 17 rfl rfl)
theorem dX5_crosses_182 : decode cX5_crosses 182 = .ok (.iload_n 1, 1) := dk_27 (dk_at dksX5_crosses_7 18 rfl rfl)
theorem dX5_crosses_183 : decode cX5_crosses 183 = .ok (.iload 7, 2) := dk_21 7 (dk_at dksX5_crosses_7 19 rfl rfl)
theorem dX5_crosses_185 : decode cX5_crosses 185 = .ok (.invokevirtual 329, 3) := dk_182 1 73 (dk_at dksX5_crosses_7 21 rfl rfl)
theorem dX5_crosses_188 : decode cX5_crosses 188 = .ok (.imul, 1) := dk_104 (dk_at dksX5_crosses_8 0 rfl rfl)
theorem dX5_crosses_189 : decode cX5_crosses 189 = .ok (.iadd, 1) := dk_96 (dk_at dksX5_crosses_8 1 rfl rfl)
theorem dX5_crosses_190 : decode cX5_crosses 190 = .ok (.iconst 1, 1) := dk_4 (dk_at dksX5_crosses_8 2 rfl rfl)
theorem dX5_crosses_191 : decode cX5_crosses 191 = .ok (.iadd, 1) := dk_96 (dk_at dksX5_crosses_8 3 rfl rfl)
theorem dX5_crosses_192 : decode cX5_crosses 192 = .ok (.istore 8, 2) := dk_54 8 (dk_at dksX5_crosses_8 4 rfl rfl)
theorem dX5_crosses_194 : decode cX5_crosses 194 = .ok (.iload 8, 2) := dk_21 8 (dk_at dksX5_crosses_8 6 rfl rfl)
theorem dX5_crosses_196 : decode cX5_crosses 196 = .ok (.aload_n 0, 1) := dk_42 (dk_at dksX5_crosses_8 8 rfl rfl)
theorem dX5_crosses_197 : decode cX5_crosses 197 = .ok (.getfield 69, 3) := dk_180 0 69 (dk_at dksX5_crosses_8 9 rfl rfl)
theorem dX5_crosses_200 : decode cX5_crosses 200 = .ok (.iload 7, 2) := dk_21 7 (dk_at dksX5_crosses_8 12 rfl rfl)
theorem dX5_crosses_202 : decode cX5_crosses 202 = .ok (.iaload, 1) := dk_46 (dk_at dksX5_crosses_8 14 rfl rfl)
theorem dX5_crosses_203 : decode cX5_crosses 203 = .ok (.if_icmp .lt 6, 3) := dk_161 0 6 (dk_at dksX5_crosses_8 15 rfl rfl)
theorem dX5_crosses_206 : decode cX5_crosses 206 = .ok (.goto 15, 3) := dk_167 0 15 (dk_at dksX5_crosses_8 18 rfl rfl)
theorem dX5_crosses_209 : decode cX5_crosses 209 = .ok (.aload_n 0, 1) := dk_42 (dk_at dksX5_crosses_8 21 rfl rfl)
theorem dX5_crosses_210 : decode cX5_crosses 210 = .ok (.getfield 69, 3) := dk_180 0 69 (dk_at dksX5_crosses_9 0 rfl rfl)
theorem dX5_crosses_213 : decode cX5_crosses 213 = .ok (.iload 7, 2) := dk_21 7 (dk_at dksX5_crosses_9 3 rfl rfl)
theorem dX5_crosses_215 : decode cX5_crosses 215 = .ok (.iload 8, 2) := dk_21 8 (dk_at dksX5_crosses_9 5 rfl rfl)
theorem dX5_crosses_217 : decode cX5_crosses 217 = .ok (.iastore, 1) := dk_79 (dk_at dksX5_crosses_9 7 rfl rfl)
theorem dX5_crosses_218 : decode cX5_crosses 218 = .ok (.iconst 1, 1) := dk_4 (dk_at dksX5_crosses_9 8 rfl rfl)
theorem dX5_crosses_219 : decode cX5_crosses 219 = .ok (.istore 4, 2) := dk_54 4 (dk_at dksX5_crosses_9 9 rfl rfl)
theorem dX5_crosses_221 : decode cX5_crosses 221 = .ok (.iinc 6 1, 3) := dk_132 6 1 (dk_at dksX5_crosses_9 11 rfl rfl)
theorem dX5_crosses_224 : decode cX5_crosses 224 = .ok (.goto (-104), 3) := dk_167 255 152 (dk_at dksX5_crosses_9 14 rfl rfl)
theorem dX5_crosses_227 : decode cX5_crosses 227 = .ok (.iinc 5 1, 3) := dk_132 5 1 (dk_at dksX5_crosses_9 17 rfl rfl)
theorem dX5_crosses_230 : decode cX5_crosses 230 = .ok (.goto (-121), 3) := dk_167 255 135 (dk_at dksX5_crosses_9 20 rfl rfl)
theorem dX5_crosses_233 : decode cX5_crosses 233 = .ok (.goto (-135), 3) := dk_167 255 121 (dk_at dksX5_crosses_10 0 rfl rfl)
theorem dX5_crosses_236 : decode cX5_crosses 236 = .ok (.aload_n 0, 1) := dk_42 (dk_at dksX5_crosses_10 3 rfl rfl)
theorem dX5_crosses_237 : decode cX5_crosses 237 = .ok (.getfield 69, 3) := dk_180 0 69 (dk_at dksX5_crosses_10 4 rfl rfl)
theorem dX5_crosses_240 : decode cX5_crosses 240 = .ok (.iload_n 3, 1) := dk_29 (dk_at dksX5_crosses_10 7 rfl rfl)
theorem dX5_crosses_241 : decode cX5_crosses 241 = .ok (.iaload, 1) := dk_46 (dk_at dksX5_crosses_10 8 rfl rfl)
theorem dX5_crosses_242 : decode cX5_crosses 242 = .ok (.ldc_w 328, 3) := dk_19 1 72 (dk_at dksX5_crosses_10 9 rfl rfl)
theorem dX5_crosses_245 : decode cX5_crosses 245 = .ok (.if_icmp .ge 12, 3) := dk_162 0 12 (dk_at dksX5_crosses_10 12 rfl rfl)
theorem dX5_crosses_248 : decode cX5_crosses 248 = .ok (.aload_n 0, 1) := dk_42 (dk_at dksX5_crosses_10 15 rfl rfl)
theorem dX5_crosses_249 : decode cX5_crosses 249 = .ok (.getfield 69, 3) := dk_180 0 69 (dk_at dksX5_crosses_10 16 rfl rfl)
theorem dX5_crosses_252 : decode cX5_crosses 252 = .ok (.iload_n 3, 1) := dk_29 (dk_at dksX5_crosses_10 19 rfl rfl)
theorem dX5_crosses_253 : decode cX5_crosses 253 = .ok (.iaload, 1) := dk_46 (dk_at dksX5_crosses_10 20 rfl rfl)
theorem dX5_crosses_254 : decode cX5_crosses 254 = .ok (.goto 4, 3) := dk_167 0 4 (dk_at dksX5_crosses_10 21 rfl rfl)
theorem dX5_crosses_257 : decode cX5_crosses 257 = .ok (.iconst (-1), 1) := dk_2 (dk_at dksX5_crosses_11 0 rfl rfl)
theorem dX5_crosses_258 : decode cX5_crosses 258 = .ok (.ireturn, 1) := dk_172 (dk_at dksX5_crosses_11 1 rfl rfl)
abbrev cX5_signOf : ByteArray := prog_19_method_67_code
def yX5_signOf : MethodName := ⟨RX5, "signOf", "(II)I"⟩
def dkwX5_signOf_2 : List UInt8 := [180, 0, 33, 16, 7, 27, 96, 46, 172]
abbrev dktX5_signOf_2 : List UInt8 := dkwX5_signOf_2 ++ []
def dkwX5_signOf_1 : List UInt8 := [104, 96, 4, 96, 46, 42, 180, 0, 33, 16, 13, 27, 96, 46, 160, 0, 7, 3, 167, 0, 12, 42]
abbrev dktX5_signOf_1 : List UInt8 := dkwX5_signOf_1 ++ dktX5_signOf_2
def dkwX5_signOf_0 : List UInt8 := [42, 180, 0, 33, 17, 1, 180, 7, 28, 104, 96, 46, 158, 0, 33, 42, 180, 0, 33, 17, 1, 180, 7, 28]
abbrev dktX5_signOf_0 : List UInt8 := dkwX5_signOf_0 ++ dktX5_signOf_1
theorem dksX5_signOf_0 : cX5_signOf.data.toList.drop 0 = dktX5_signOf_0 := by decide +kernel
theorem dksX5_signOf_1 : cX5_signOf.data.toList.drop 24 = dktX5_signOf_1 := dk_seg dksX5_signOf_0 24 rfl rfl
theorem dksX5_signOf_2 : cX5_signOf.data.toList.drop 46 = dktX5_signOf_2 := dk_seg dksX5_signOf_1 22 rfl rfl
theorem dX5_signOf_0 : decode cX5_signOf 0 = .ok (.aload_n 0, 1) := dk_42 (dk_at dksX5_signOf_0 0 rfl rfl)
theorem dX5_signOf_1 : decode cX5_signOf 1 = .ok (.getfield 33, 3) := dk_180 0 33 (dk_at dksX5_signOf_0 1 rfl rfl)
theorem dX5_signOf_4 : decode cX5_signOf 4 = .ok (.sipush 436, 3) := dk_17 1 180 (dk_at dksX5_signOf_0 4 rfl rfl)
theorem dX5_signOf_7 : decode cX5_signOf 7 = .ok (.iconst 4, 1) := dk_7 (dk_at dksX5_signOf_0 7 rfl rfl)
theorem dX5_signOf_8 : decode cX5_signOf 8 = .ok (.iload_n 2, 1) := dk_28 (dk_at dksX5_signOf_0 8 rfl rfl)
theorem dX5_signOf_9 : decode cX5_signOf 9 = .ok (.imul, 1) := dk_104 (dk_at dksX5_signOf_0 9 rfl rfl)
theorem dX5_signOf_10 : decode cX5_signOf 10 = .ok (.iadd, 1) := dk_96 (dk_at dksX5_signOf_0 10 rfl rfl)
theorem dX5_signOf_11 : decode cX5_signOf 11 = .ok (.iaload, 1) := dk_46 (dk_at dksX5_signOf_0 11 rfl rfl)
theorem dX5_signOf_12 : decode cX5_signOf 12 = .ok (.ifCond .le 33, 3) := dk_158 0 33 (dk_at dksX5_signOf_0 12 rfl rfl)
theorem dX5_signOf_15 : decode cX5_signOf 15 = .ok (.aload_n 0, 1) := dk_42 (dk_at dksX5_signOf_0 15 rfl rfl)
theorem dX5_signOf_16 : decode cX5_signOf 16 = .ok (.getfield 33, 3) := dk_180 0 33 (dk_at dksX5_signOf_0 16 rfl rfl)
theorem dX5_signOf_19 : decode cX5_signOf 19 = .ok (.sipush 436, 3) := dk_17 1 180 (dk_at dksX5_signOf_0 19 rfl rfl)
theorem dX5_signOf_22 : decode cX5_signOf 22 = .ok (.iconst 4, 1) := dk_7 (dk_at dksX5_signOf_0 22 rfl rfl)
theorem dX5_signOf_23 : decode cX5_signOf 23 = .ok (.iload_n 2, 1) := dk_28 (dk_at dksX5_signOf_0 23 rfl rfl)
theorem dX5_signOf_24 : decode cX5_signOf 24 = .ok (.imul, 1) := dk_104 (dk_at dksX5_signOf_1 0 rfl rfl)
theorem dX5_signOf_25 : decode cX5_signOf 25 = .ok (.iadd, 1) := dk_96 (dk_at dksX5_signOf_1 1 rfl rfl)
theorem dX5_signOf_26 : decode cX5_signOf 26 = .ok (.iconst 1, 1) := dk_4 (dk_at dksX5_signOf_1 2 rfl rfl)
theorem dX5_signOf_27 : decode cX5_signOf 27 = .ok (.iadd, 1) := dk_96 (dk_at dksX5_signOf_1 3 rfl rfl)
theorem dX5_signOf_28 : decode cX5_signOf 28 = .ok (.iaload, 1) := dk_46 (dk_at dksX5_signOf_1 4 rfl rfl)
theorem dX5_signOf_29 : decode cX5_signOf 29 = .ok (.aload_n 0, 1) := dk_42 (dk_at dksX5_signOf_1 5 rfl rfl)
theorem dX5_signOf_30 : decode cX5_signOf 30 = .ok (.getfield 33, 3) := dk_180 0 33 (dk_at dksX5_signOf_1 6 rfl rfl)
theorem dX5_signOf_33 : decode cX5_signOf 33 = .ok (.bipush 13, 2) := dk_16 13 (dk_at dksX5_signOf_1 9 rfl rfl)
theorem dX5_signOf_35 : decode cX5_signOf 35 = .ok (.iload_n 1, 1) := dk_27 (dk_at dksX5_signOf_1 11 rfl rfl)
theorem dX5_signOf_36 : decode cX5_signOf 36 = .ok (.iadd, 1) := dk_96 (dk_at dksX5_signOf_1 12 rfl rfl)
theorem dX5_signOf_37 : decode cX5_signOf 37 = .ok (.iaload, 1) := dk_46 (dk_at dksX5_signOf_1 13 rfl rfl)
theorem dX5_signOf_38 : decode cX5_signOf 38 = .ok (.if_icmp .ne 7, 3) := dk_160 0 7 (dk_at dksX5_signOf_1 14 rfl rfl)
theorem dX5_signOf_41 : decode cX5_signOf 41 = .ok (.iconst 0, 1) := dk_3 (dk_at dksX5_signOf_1 17 rfl rfl)
theorem dX5_signOf_42 : decode cX5_signOf 42 = .ok (.goto 12, 3) := dk_167 0 12 (dk_at dksX5_signOf_1 18 rfl rfl)
theorem dX5_signOf_45 : decode cX5_signOf 45 = .ok (.aload_n 0, 1) := dk_42 (dk_at dksX5_signOf_1 21 rfl rfl)
theorem dX5_signOf_46 : decode cX5_signOf 46 = .ok (.getfield 33, 3) := dk_180 0 33 (dk_at dksX5_signOf_2 0 rfl rfl)
theorem dX5_signOf_49 : decode cX5_signOf 49 = .ok (.bipush 7, 2) := dk_16 7 (dk_at dksX5_signOf_2 3 rfl rfl)
theorem dX5_signOf_51 : decode cX5_signOf 51 = .ok (.iload_n 1, 1) := dk_27 (dk_at dksX5_signOf_2 5 rfl rfl)
theorem dX5_signOf_52 : decode cX5_signOf 52 = .ok (.iadd, 1) := dk_96 (dk_at dksX5_signOf_2 6 rfl rfl)
theorem dX5_signOf_53 : decode cX5_signOf 53 = .ok (.iaload, 1) := dk_46 (dk_at dksX5_signOf_2 7 rfl rfl)
theorem dX5_signOf_54 : decode cX5_signOf 54 = .ok (.ireturn, 1) := dk_172 (dk_at dksX5_signOf_2 8 rfl rfl)
abbrev cX5_beside : ByteArray := prog_19_method_66_code
def yX5_beside : MethodName := ⟨RX5, "beside", "(II)I"⟩
def dkwX5_beside_0 : List UInt8 := [27, 28, 42, 180, 0, 33, 3, 46, 42, 180, 0, 33, 4, 46, 184, 0, 233, 172]
abbrev dktX5_beside_0 : List UInt8 := dkwX5_beside_0 ++ []
theorem dksX5_beside_0 : cX5_beside.data.toList.drop 0 = dktX5_beside_0 := by decide +kernel
theorem dX5_beside_0 : decode cX5_beside 0 = .ok (.iload_n 1, 1) := dk_27 (dk_at dksX5_beside_0 0 rfl rfl)
theorem dX5_beside_1 : decode cX5_beside 1 = .ok (.iload_n 2, 1) := dk_28 (dk_at dksX5_beside_0 1 rfl rfl)
theorem dX5_beside_2 : decode cX5_beside 2 = .ok (.aload_n 0, 1) := dk_42 (dk_at dksX5_beside_0 2 rfl rfl)
theorem dX5_beside_3 : decode cX5_beside 3 = .ok (.getfield 33, 3) := dk_180 0 33 (dk_at dksX5_beside_0 3 rfl rfl)
theorem dX5_beside_6 : decode cX5_beside 6 = .ok (.iconst 0, 1) := dk_3 (dk_at dksX5_beside_0 6 rfl rfl)
theorem dX5_beside_7 : decode cX5_beside 7 = .ok (.iaload, 1) := dk_46 (dk_at dksX5_beside_0 7 rfl rfl)
theorem dX5_beside_8 : decode cX5_beside 8 = .ok (.aload_n 0, 1) := dk_42 (dk_at dksX5_beside_0 8 rfl rfl)
theorem dX5_beside_9 : decode cX5_beside 9 = .ok (.getfield 33, 3) := dk_180 0 33 (dk_at dksX5_beside_0 9 rfl rfl)
theorem dX5_beside_12 : decode cX5_beside 12 = .ok (.iconst 1, 1) := dk_4 (dk_at dksX5_beside_0 12 rfl rfl)
theorem dX5_beside_13 : decode cX5_beside 13 = .ok (.iaload, 1) := dk_46 (dk_at dksX5_beside_0 13 rfl rfl)
theorem dX5_beside_14 : decode cX5_beside 14 = .ok (.invokestatic 233, 3) := dk_184 0 233 (dk_at dksX5_beside_0 14 rfl rfl)
theorem dX5_beside_17 : decode cX5_beside 17 = .ok (.ireturn, 1) := dk_172 (dk_at dksX5_beside_0 17 rfl rfl)
abbrev cX5_steps : ByteArray := prog_19_method_70_code
def yX5_steps : MethodName := ⟨RX5, "steps", "(III)I"⟩
def dkwX5_steps_1 : List UInt8 := [21, 4, 17, 3, 232, 112, 172]
abbrev dktX5_steps_1 : List UInt8 := dkwX5_steps_1 ++ []
def dkwX5_steps_0 : List UInt8 := [42, 3, 181, 0, 1, 42, 27, 28, 29, 182, 1, 79, 54, 4, 21, 4, 156, 0, 7, 2, 167, 0, 9]
abbrev dktX5_steps_0 : List UInt8 := dkwX5_steps_0 ++ dktX5_steps_1
theorem dksX5_steps_0 : cX5_steps.data.toList.drop 0 = dktX5_steps_0 := by decide +kernel
theorem dksX5_steps_1 : cX5_steps.data.toList.drop 23 = dktX5_steps_1 := dk_seg dksX5_steps_0 23 rfl rfl
theorem dX5_steps_0 : decode cX5_steps 0 = .ok (.aload_n 0, 1) := dk_42 (dk_at dksX5_steps_0 0 rfl rfl)
theorem dX5_steps_1 : decode cX5_steps 1 = .ok (.iconst 0, 1) := dk_3 (dk_at dksX5_steps_0 1 rfl rfl)
theorem dX5_steps_2 : decode cX5_steps 2 = .ok (.putfield 1, 3) := dk_181 0 1 (dk_at dksX5_steps_0 2 rfl rfl)
theorem dX5_steps_5 : decode cX5_steps 5 = .ok (.aload_n 0, 1) := dk_42 (dk_at dksX5_steps_0 5 rfl rfl)
theorem dX5_steps_6 : decode cX5_steps 6 = .ok (.iload_n 1, 1) := dk_27 (dk_at dksX5_steps_0 6 rfl rfl)
theorem dX5_steps_7 : decode cX5_steps 7 = .ok (.iload_n 2, 1) := dk_28 (dk_at dksX5_steps_0 7 rfl rfl)
theorem dX5_steps_8 : decode cX5_steps 8 = .ok (.iload_n 3, 1) := dk_29 (dk_at dksX5_steps_0 8 rfl rfl)
theorem dX5_steps_9 : decode cX5_steps 9 = .ok (.invokevirtual 335, 3) := dk_182 1 79 (dk_at dksX5_steps_0 9 rfl rfl)
theorem dX5_steps_12 : decode cX5_steps 12 = .ok (.istore 4, 2) := dk_54 4 (dk_at dksX5_steps_0 12 rfl rfl)
theorem dX5_steps_14 : decode cX5_steps 14 = .ok (.iload 4, 2) := dk_21 4 (dk_at dksX5_steps_0 14 rfl rfl)
theorem dX5_steps_16 : decode cX5_steps 16 = .ok (.ifCond .ge 7, 3) := dk_156 0 7 (dk_at dksX5_steps_0 16 rfl rfl)
theorem dX5_steps_19 : decode cX5_steps 19 = .ok (.iconst (-1), 1) := dk_2 (dk_at dksX5_steps_0 19 rfl rfl)
theorem dX5_steps_20 : decode cX5_steps 20 = .ok (.goto 9, 3) := dk_167 0 9 (dk_at dksX5_steps_0 20 rfl rfl)
theorem dX5_steps_23 : decode cX5_steps 23 = .ok (.iload 4, 2) := dk_21 4 (dk_at dksX5_steps_1 0 rfl rfl)
theorem dX5_steps_25 : decode cX5_steps 25 = .ok (.sipush 1000, 3) := dk_17 3 232 (dk_at dksX5_steps_1 2 rfl rfl)
theorem dX5_steps_28 : decode cX5_steps 28 = .ok (.irem, 1) := dk_112 (dk_at dksX5_steps_1 5 rfl rfl)
theorem dX5_steps_29 : decode cX5_steps 29 = .ok (.ireturn, 1) := dk_172 (dk_at dksX5_steps_1 6 rfl rfl)
abbrev cX5_walk : ByteArray := prog_19_method_72_code
def yX5_walk : MethodName := ⟨RX5, "walk", "()I"⟩
def dkwX5_walk_15 : List UInt8 := [2, 172]
abbrev dktX5_walk_15 : List UInt8 := dkwX5_walk_15 ++ []
def dkwX5_walk_14 : List UInt8 := [180, 0, 40, 6, 28, 104, 5, 96, 46, 96, 79, 42, 180, 0, 72, 6, 27, 79, 132, 2, 1, 167, 255, 23]
abbrev dktX5_walk_14 : List UInt8 := dkwX5_walk_14 ++ dktX5_walk_15
def dkwX5_walk_13 : List UInt8 := [92, 46, 42, 180, 0, 40, 6, 28, 104, 4, 96, 46, 96, 79, 42, 180, 0, 72, 5, 92, 46, 42]
abbrev dktX5_walk_13 : List UInt8 := dkwX5_walk_13 ++ dktX5_walk_14
def dkwX5_walk_12 : List UInt8 := [54, 4, 21, 4, 158, 0, 15, 42, 180, 0, 72, 3, 21, 4, 79, 28, 4, 96, 172, 42, 180, 0, 72, 4]
abbrev dktX5_walk_12 : List UInt8 := dkwX5_walk_12 ++ dktX5_walk_13
def dkwX5_walk_11 : List UInt8 := [46, 4, 160, 0, 24, 29, 42, 180, 0, 40, 6, 28, 104, 6, 100, 46, 5, 96, 7, 112, 160, 0, 6, 6]
abbrev dktX5_walk_11 : List UInt8 := dkwX5_walk_11 ++ dktX5_walk_12
def dkwX5_walk_10 : List UInt8 := [164, 0, 6, 5, 54, 4, 21, 4, 154, 0, 42, 28, 158, 0, 38, 42, 180, 0, 40, 6, 28, 104, 5, 96]
abbrev dktX5_walk_10 : List UInt8 := dkwX5_walk_10 ++ dktX5_walk_11
def dkwX5_walk_9 : List UInt8 := [180, 0, 33, 16, 19, 42, 180, 1, 82, 96, 46, 42, 180, 0, 40, 6, 28, 104, 5, 96, 46, 104]
abbrev dktX5_walk_9 : List UInt8 := dkwX5_walk_9 ++ dktX5_walk_10
def dkwX5_walk_8 : List UInt8 := [132, 5, 1, 167, 255, 202, 21, 4, 154, 0, 42, 42, 180, 0, 40, 6, 28, 104, 4, 96, 46, 42]
abbrev dktX5_walk_8 : List UInt8 := dkwX5_walk_8 ++ dktX5_walk_9
def dkwX5_walk_7 : List UInt8 := [155, 0, 16, 42, 180, 0, 33, 16, 25, 27, 96, 46, 4, 160, 0, 7, 4, 167, 0, 4, 3, 54, 4]
abbrev dktX5_walk_7 : List UInt8 := dkwX5_walk_7 ++ dktX5_walk_8
def dkwX5_walk_6 : List UInt8 := [6, 28, 104, 4, 96, 46, 162, 0, 45, 21, 4, 154, 0, 40, 42, 27, 29, 182, 1, 76, 60, 27]
abbrev dktX5_walk_6 : List UInt8 := dkwX5_walk_6 ++ dktX5_walk_7
def dkwX5_walk_5 : List UInt8 := [162, 0, 231, 42, 180, 0, 40, 6, 28, 104, 46, 62, 3, 54, 4, 3, 54, 5, 21, 5, 42, 180, 0, 40]
abbrev dktX5_walk_5 : List UInt8 := dkwX5_walk_5 ++ dktX5_walk_6
def dkwX5_walk_4 : List UInt8 := [79, 3, 172, 42, 180, 1, 85, 60, 42, 180, 0, 72, 6, 27, 79, 3, 61, 28, 42, 180, 1, 88]
abbrev dktX5_walk_4 : List UInt8 := dkwX5_walk_4 ++ dktX5_walk_5
def dkwX5_walk_3 : List UInt8 := [2, 79, 42, 180, 0, 33, 16, 25, 42, 180, 1, 85, 96, 46, 4, 160, 0, 12, 42, 180, 0, 72, 3, 4]
abbrev dktX5_walk_3 : List UInt8 := dkwX5_walk_3 ++ dktX5_walk_4
def dkwX5_walk_2 : List UInt8 := [60, 27, 6, 162, 0, 16, 42, 180, 0, 72, 27, 3, 79, 132, 1, 1, 167, 255, 241, 42, 180, 0, 72, 6]
abbrev dktX5_walk_2 : List UInt8 := dkwX5_walk_2 ++ dktX5_walk_3
def dkwX5_walk_1 : List UInt8 := [182, 0, 188, 42, 182, 1, 91, 154, 0, 11, 16, 254, 42, 180, 0, 179, 100, 172, 42, 4, 181, 1, 94, 3]
abbrev dktX5_walk_1 : List UInt8 := dkwX5_walk_1 ++ dktX5_walk_2
def dkwX5_walk_0 : List UInt8 := [42, 3, 181, 0, 1, 42, 17, 1, 44, 182, 0, 237, 42, 3, 181, 0, 176, 42, 3, 181, 1, 88, 42]
abbrev dktX5_walk_0 : List UInt8 := dkwX5_walk_0 ++ dktX5_walk_1
theorem dksX5_walk_0 : cX5_walk.data.toList.drop 0 = dktX5_walk_0 := by decide +kernel
theorem dksX5_walk_1 : cX5_walk.data.toList.drop 23 = dktX5_walk_1 := dk_seg dksX5_walk_0 23 rfl rfl
theorem dksX5_walk_2 : cX5_walk.data.toList.drop 47 = dktX5_walk_2 := dk_seg dksX5_walk_1 24 rfl rfl
theorem dksX5_walk_3 : cX5_walk.data.toList.drop 71 = dktX5_walk_3 := dk_seg dksX5_walk_2 24 rfl rfl
theorem dksX5_walk_4 : cX5_walk.data.toList.drop 95 = dktX5_walk_4 := dk_seg dksX5_walk_3 24 rfl rfl
theorem dksX5_walk_5 : cX5_walk.data.toList.drop 117 = dktX5_walk_5 := dk_seg dksX5_walk_4 22 rfl rfl
theorem dksX5_walk_6 : cX5_walk.data.toList.drop 141 = dktX5_walk_6 := dk_seg dksX5_walk_5 24 rfl rfl
theorem dksX5_walk_7 : cX5_walk.data.toList.drop 163 = dktX5_walk_7 := dk_seg dksX5_walk_6 22 rfl rfl
theorem dksX5_walk_8 : cX5_walk.data.toList.drop 186 = dktX5_walk_8 := dk_seg dksX5_walk_7 23 rfl rfl
theorem dksX5_walk_9 : cX5_walk.data.toList.drop 208 = dktX5_walk_9 := dk_seg dksX5_walk_8 22 rfl rfl
theorem dksX5_walk_10 : cX5_walk.data.toList.drop 230 = dktX5_walk_10 := dk_seg dksX5_walk_9 22 rfl rfl
theorem dksX5_walk_11 : cX5_walk.data.toList.drop 254 = dktX5_walk_11 := dk_seg dksX5_walk_10 24 rfl rfl
theorem dksX5_walk_12 : cX5_walk.data.toList.drop 278 = dktX5_walk_12 := dk_seg dksX5_walk_11 24 rfl rfl
theorem dksX5_walk_13 : cX5_walk.data.toList.drop 302 = dktX5_walk_13 := dk_seg dksX5_walk_12 24 rfl rfl
theorem dksX5_walk_14 : cX5_walk.data.toList.drop 324 = dktX5_walk_14 := dk_seg dksX5_walk_13 22 rfl rfl
theorem dksX5_walk_15 : cX5_walk.data.toList.drop 348 = dktX5_walk_15 := dk_seg dksX5_walk_14 24 rfl rfl
theorem dX5_walk_0 : decode cX5_walk 0 = .ok (.aload_n 0, 1) := dk_42 (dk_at dksX5_walk_0 0 rfl rfl)
theorem dX5_walk_1 : decode cX5_walk 1 = .ok (.iconst 0, 1) := dk_3 (dk_at dksX5_walk_0 1 rfl rfl)
theorem dX5_walk_2 : decode cX5_walk 2 = .ok (.putfield 1, 3) := dk_181 0 1 (dk_at dksX5_walk_0 2 rfl rfl)
theorem dX5_walk_5 : decode cX5_walk 5 = .ok (.aload_n 0, 1) := dk_42 (dk_at dksX5_walk_0 5 rfl rfl)
theorem dX5_walk_6 : decode cX5_walk 6 = .ok (.sipush 300, 3) := dk_17 1 44 (dk_at dksX5_walk_0 6 rfl rfl)
theorem dX5_walk_9 : decode cX5_walk 9 = .ok (.invokevirtual 237, 3) := dk_182 0 237 (dk_at dksX5_walk_0 9 rfl rfl)
theorem dX5_walk_12 : decode cX5_walk 12 = .ok (.aload_n 0, 1) := dk_42 (dk_at dksX5_walk_0 12 rfl rfl)
theorem dX5_walk_13 : decode cX5_walk 13 = .ok (.iconst 0, 1) := dk_3 (dk_at dksX5_walk_0 13 rfl rfl)
theorem dX5_walk_14 : decode cX5_walk 14 = .ok (.putfield 176, 3) := dk_181 0 176 (dk_at dksX5_walk_0 14 rfl rfl)
theorem dX5_walk_17 : decode cX5_walk 17 = .ok (.aload_n 0, 1) := dk_42 (dk_at dksX5_walk_0 17 rfl rfl)
theorem dX5_walk_18 : decode cX5_walk 18 = .ok (.iconst 0, 1) := dk_3 (dk_at dksX5_walk_0 18 rfl rfl)
theorem dX5_walk_19 : decode cX5_walk 19 = .ok (.putfield 344, 3) := dk_181 1 88 (dk_at dksX5_walk_0 19 rfl rfl)
theorem dX5_walk_22 : decode cX5_walk 22 = .ok (.aload_n 0, 1) := dk_42 (dk_at dksX5_walk_0 22 rfl rfl)
theorem dX5_walk_23 : decode cX5_walk 23 = .ok (.invokevirtual 188, 3) := dk_182 0 188 (dk_at dksX5_walk_1 0 rfl rfl)
theorem dX5_walk_26 : decode cX5_walk 26 = .ok (.aload_n 0, 1) := dk_42 (dk_at dksX5_walk_1 3 rfl rfl)
theorem dX5_walk_27 : decode cX5_walk 27 = .ok (.invokevirtual 347, 3) := dk_182 1 91 (dk_at dksX5_walk_1 4 rfl rfl)
theorem dX5_walk_30 : decode cX5_walk 30 = .ok (.ifCond .ne 11, 3) := dk_154 0 11 (dk_at dksX5_walk_1 7 rfl rfl)
theorem dX5_walk_33 : decode cX5_walk 33 = .ok (.bipush (-2), 2) := dk_16 254 (dk_at dksX5_walk_1 10 rfl rfl)
theorem dX5_walk_35 : decode cX5_walk 35 = .ok (.aload_n 0, 1) := dk_42 (dk_at dksX5_walk_1 12 rfl rfl)
theorem dX5_walk_36 : decode cX5_walk 36 = .ok (.getfield 179, 3) := dk_180 0 179 (dk_at dksX5_walk_1 13 rfl rfl)
theorem dX5_walk_39 : decode cX5_walk 39 = .ok (.isub, 1) := dk_100 (dk_at dksX5_walk_1 16 rfl rfl)
theorem dX5_walk_40 : decode cX5_walk 40 = .ok (.ireturn, 1) := dk_172 (dk_at dksX5_walk_1 17 rfl rfl)
theorem dX5_walk_41 : decode cX5_walk 41 = .ok (.aload_n 0, 1) := dk_42 (dk_at dksX5_walk_1 18 rfl rfl)
theorem dX5_walk_42 : decode cX5_walk 42 = .ok (.iconst 1, 1) := dk_4 (dk_at dksX5_walk_1 19 rfl rfl)
theorem dX5_walk_43 : decode cX5_walk 43 = .ok (.putfield 350, 3) := dk_181 1 94 (dk_at dksX5_walk_1 20 rfl rfl)
theorem dX5_walk_46 : decode cX5_walk 46 = .ok (.iconst 0, 1) := dk_3 (dk_at dksX5_walk_1 23 rfl rfl)
theorem dX5_walk_47 : decode cX5_walk 47 = .ok (.istore_n 1, 1) := dk_60 (dk_at dksX5_walk_2 0 rfl rfl)
theorem dX5_walk_48 : decode cX5_walk 48 = .ok (.iload_n 1, 1) := dk_27 (dk_at dksX5_walk_2 1 rfl rfl)
theorem dX5_walk_49 : decode cX5_walk 49 = .ok (.iconst 3, 1) := dk_6 (dk_at dksX5_walk_2 2 rfl rfl)
theorem dX5_walk_50 : decode cX5_walk 50 = .ok (.if_icmp .ge 16, 3) := dk_162 0 16 (dk_at dksX5_walk_2 3 rfl rfl)
theorem dX5_walk_53 : decode cX5_walk 53 = .ok (.aload_n 0, 1) := dk_42 (dk_at dksX5_walk_2 6 rfl rfl)
theorem dX5_walk_54 : decode cX5_walk 54 = .ok (.getfield 72, 3) := dk_180 0 72 (dk_at dksX5_walk_2 7 rfl rfl)
theorem dX5_walk_57 : decode cX5_walk 57 = .ok (.iload_n 1, 1) := dk_27 (dk_at dksX5_walk_2 10 rfl rfl)
theorem dX5_walk_58 : decode cX5_walk 58 = .ok (.iconst 0, 1) := dk_3 (dk_at dksX5_walk_2 11 rfl rfl)
theorem dX5_walk_59 : decode cX5_walk 59 = .ok (.iastore, 1) := dk_79 (dk_at dksX5_walk_2 12 rfl rfl)
theorem dX5_walk_60 : decode cX5_walk 60 = .ok (.iinc 1 1, 3) := dk_132 1 1 (dk_at dksX5_walk_2 13 rfl rfl)
theorem dX5_walk_63 : decode cX5_walk 63 = .ok (.goto (-15), 3) := dk_167 255 241 (dk_at dksX5_walk_2 16 rfl rfl)
theorem dX5_walk_66 : decode cX5_walk 66 = .ok (.aload_n 0, 1) := dk_42 (dk_at dksX5_walk_2 19 rfl rfl)
theorem dX5_walk_67 : decode cX5_walk 67 = .ok (.getfield 72, 3) := dk_180 0 72 (dk_at dksX5_walk_2 20 rfl rfl)
theorem dX5_walk_70 : decode cX5_walk 70 = .ok (.iconst 3, 1) := dk_6 (dk_at dksX5_walk_2 23 rfl rfl)
theorem dX5_walk_71 : decode cX5_walk 71 = .ok (.iconst (-1), 1) := dk_2 (dk_at dksX5_walk_3 0 rfl rfl)
theorem dX5_walk_72 : decode cX5_walk 72 = .ok (.iastore, 1) := dk_79 (dk_at dksX5_walk_3 1 rfl rfl)
theorem dX5_walk_73 : decode cX5_walk 73 = .ok (.aload_n 0, 1) := dk_42 (dk_at dksX5_walk_3 2 rfl rfl)
theorem dX5_walk_74 : decode cX5_walk 74 = .ok (.getfield 33, 3) := dk_180 0 33 (dk_at dksX5_walk_3 3 rfl rfl)
theorem dX5_walk_77 : decode cX5_walk 77 = .ok (.bipush 25, 2) := dk_16 25 (dk_at dksX5_walk_3 6 rfl rfl)
theorem dX5_walk_79 : decode cX5_walk 79 = .ok (.aload_n 0, 1) := dk_42 (dk_at dksX5_walk_3 8 rfl rfl)
theorem dX5_walk_80 : decode cX5_walk 80 = .ok (.getfield 341, 3) := dk_180 1 85 (dk_at dksX5_walk_3 9 rfl rfl)
theorem dX5_walk_83 : decode cX5_walk 83 = .ok (.iadd, 1) := dk_96 (dk_at dksX5_walk_3 12 rfl rfl)
theorem dX5_walk_84 : decode cX5_walk 84 = .ok (.iaload, 1) := dk_46 (dk_at dksX5_walk_3 13 rfl rfl)
theorem dX5_walk_85 : decode cX5_walk 85 = .ok (.iconst 1, 1) := dk_4 (dk_at dksX5_walk_3 14 rfl rfl)
theorem dX5_walk_86 : decode cX5_walk 86 = .ok (.if_icmp .ne 12, 3) := dk_160 0 12 (dk_at dksX5_walk_3 15 rfl rfl)
theorem dX5_walk_89 : decode cX5_walk 89 = .ok (.aload_n 0, 1) := dk_42 (dk_at dksX5_walk_3 18 rfl rfl)
theorem dX5_walk_90 : decode cX5_walk 90 = .ok (.getfield 72, 3) := dk_180 0 72 (dk_at dksX5_walk_3 19 rfl rfl)
theorem dX5_walk_93 : decode cX5_walk 93 = .ok (.iconst 0, 1) := dk_3 (dk_at dksX5_walk_3 22 rfl rfl)
theorem dX5_walk_94 : decode cX5_walk 94 = .ok (.iconst 1, 1) := dk_4 (dk_at dksX5_walk_3 23 rfl rfl)
theorem dX5_walk_95 : decode cX5_walk 95 = .ok (.iastore, 1) := dk_79 (dk_at dksX5_walk_4 0 rfl rfl)
theorem dX5_walk_96 : decode cX5_walk 96 = .ok (.iconst 0, 1) := dk_3 (dk_at dksX5_walk_4 1 rfl rfl)
theorem dX5_walk_97 : decode cX5_walk 97 = .ok (.ireturn, 1) := dk_172 (dk_at dksX5_walk_4 2 rfl rfl)
theorem dX5_walk_98 : decode cX5_walk 98 = .ok (.aload_n 0, 1) := dk_42 (dk_at dksX5_walk_4 3 rfl rfl)
theorem dX5_walk_99 : decode cX5_walk 99 = .ok (.getfield 341, 3) := dk_180 1 85 (dk_at dksX5_walk_4 4 rfl rfl)
theorem dX5_walk_102 : decode cX5_walk 102 = .ok (.istore_n 1, 1) := dk_60 (dk_at dksX5_walk_4 7 rfl rfl)
theorem dX5_walk_103 : decode cX5_walk 103 = .ok (.aload_n 0, 1) := dk_42 (dk_at dksX5_walk_4 8 rfl rfl)
theorem dX5_walk_104 : decode cX5_walk 104 = .ok (.getfield 72, 3) := dk_180 0 72 (dk_at dksX5_walk_4 9 rfl rfl)
theorem dX5_walk_107 : decode cX5_walk 107 = .ok (.iconst 3, 1) := dk_6 (dk_at dksX5_walk_4 12 rfl rfl)
theorem dX5_walk_108 : decode cX5_walk 108 = .ok (.iload_n 1, 1) := dk_27 (dk_at dksX5_walk_4 13 rfl rfl)
theorem dX5_walk_109 : decode cX5_walk 109 = .ok (.iastore, 1) := dk_79 (dk_at dksX5_walk_4 14 rfl rfl)
theorem dX5_walk_110 : decode cX5_walk 110 = .ok (.iconst 0, 1) := dk_3 (dk_at dksX5_walk_4 15 rfl rfl)
theorem dX5_walk_111 : decode cX5_walk 111 = .ok (.istore_n 2, 1) := dk_61 (dk_at dksX5_walk_4 16 rfl rfl)
theorem dX5_walk_112 : decode cX5_walk 112 = .ok (.iload_n 2, 1) := dk_28 (dk_at dksX5_walk_4 17 rfl rfl)
theorem dX5_walk_113 : decode cX5_walk 113 = .ok (.aload_n 0, 1) := dk_42 (dk_at dksX5_walk_4 18 rfl rfl)
theorem dX5_walk_114 : decode cX5_walk 114 = .ok (.getfield 344, 3) := dk_180 1 88 (dk_at dksX5_walk_4 19 rfl rfl)
theorem dX5_walk_117 : decode cX5_walk 117 = .ok (.if_icmp .ge 231, 3) := dk_162 0 231 (dk_at dksX5_walk_5 0 rfl rfl)
theorem dX5_walk_120 : decode cX5_walk 120 = .ok (.aload_n 0, 1) := dk_42 (dk_at dksX5_walk_5 3 rfl rfl)
theorem dX5_walk_121 : decode cX5_walk 121 = .ok (.getfield 40, 3) := dk_180 0 40 (dk_at dksX5_walk_5 4 rfl rfl)
theorem dX5_walk_124 : decode cX5_walk 124 = .ok (.iconst 3, 1) := dk_6 (dk_at dksX5_walk_5 7 rfl rfl)
theorem dX5_walk_125 : decode cX5_walk 125 = .ok (.iload_n 2, 1) := dk_28 (dk_at dksX5_walk_5 8 rfl rfl)
theorem dX5_walk_126 : decode cX5_walk 126 = .ok (.imul, 1) := dk_104 (dk_at dksX5_walk_5 9 rfl rfl)
theorem dX5_walk_127 : decode cX5_walk 127 = .ok (.iaload, 1) := dk_46 (dk_at dksX5_walk_5 10 rfl rfl)
theorem dX5_walk_128 : decode cX5_walk 128 = .ok (.istore_n 3, 1) := dk_62 (dk_at dksX5_walk_5 11 rfl rfl)
theorem dX5_walk_129 : decode cX5_walk 129 = .ok (.iconst 0, 1) := dk_3 (dk_at dksX5_walk_5 12 rfl rfl)
theorem dX5_walk_130 : decode cX5_walk 130 = .ok (.istore 4, 2) := dk_54 4 (dk_at dksX5_walk_5 13 rfl rfl)
theorem dX5_walk_132 : decode cX5_walk 132 = .ok (.iconst 0, 1) := dk_3 (dk_at dksX5_walk_5 15 rfl rfl)
theorem dX5_walk_133 : decode cX5_walk 133 = .ok (.istore 5, 2) := dk_54 5 (dk_at dksX5_walk_5 16 rfl rfl)
theorem dX5_walk_135 : decode cX5_walk 135 = .ok (.iload 5, 2) := dk_21 5 (dk_at dksX5_walk_5 18 rfl rfl)
theorem dX5_walk_137 : decode cX5_walk 137 = .ok (.aload_n 0, 1) := dk_42 (dk_at dksX5_walk_5 20 rfl rfl)
theorem dX5_walk_138 : decode cX5_walk 138 = .ok (.getfield 40, 3) := dk_180 0 40 (dk_at dksX5_walk_5 21 rfl rfl)
theorem dX5_walk_141 : decode cX5_walk 141 = .ok (.iconst 3, 1) := dk_6 (dk_at dksX5_walk_6 0 rfl rfl)
theorem dX5_walk_142 : decode cX5_walk 142 = .ok (.iload_n 2, 1) := dk_28 (dk_at dksX5_walk_6 1 rfl rfl)
theorem dX5_walk_143 : decode cX5_walk 143 = .ok (.imul, 1) := dk_104 (dk_at dksX5_walk_6 2 rfl rfl)
theorem dX5_walk_144 : decode cX5_walk 144 = .ok (.iconst 1, 1) := dk_4 (dk_at dksX5_walk_6 3 rfl rfl)
theorem dX5_walk_145 : decode cX5_walk 145 = .ok (.iadd, 1) := dk_96 (dk_at dksX5_walk_6 4 rfl rfl)
theorem dX5_walk_146 : decode cX5_walk 146 = .ok (.iaload, 1) := dk_46 (dk_at dksX5_walk_6 5 rfl rfl)
theorem dX5_walk_147 : decode cX5_walk 147 = .ok (.if_icmp .ge 45, 3) := dk_162 0 45 (dk_at dksX5_walk_6 6 rfl rfl)
theorem dX5_walk_150 : decode cX5_walk 150 = .ok (.iload 4, 2) := dk_21 4 (dk_at dksX5_walk_6 9 rfl rfl)
theorem dX5_walk_152 : decode cX5_walk 152 = .ok (.ifCond .ne 40, 3) := dk_154 0 40 (dk_at dksX5_walk_6 11 rfl rfl)
theorem dX5_walk_155 : decode cX5_walk 155 = .ok (.aload_n 0, 1) := dk_42 (dk_at dksX5_walk_6 14 rfl rfl)
theorem dX5_walk_156 : decode cX5_walk 156 = .ok (.iload_n 1, 1) := dk_27 (dk_at dksX5_walk_6 15 rfl rfl)
theorem dX5_walk_157 : decode cX5_walk 157 = .ok (.iload_n 3, 1) := dk_29 (dk_at dksX5_walk_6 16 rfl rfl)
theorem dX5_walk_158 : decode cX5_walk 158 = .ok (.invokevirtual 332, 3) := dk_182 1 76 (dk_at dksX5_walk_6 17 rfl rfl)
theorem dX5_walk_161 : decode cX5_walk 161 = .ok (.istore_n 1, 1) := dk_60 (dk_at dksX5_walk_6 20 rfl rfl)
theorem dX5_walk_162 : decode cX5_walk 162 = .ok (.iload_n 1, 1) := dk_27 (dk_at dksX5_walk_6 21 rfl rfl)
theorem dX5_walk_163 : decode cX5_walk 163 = .ok (.ifCond .lt 16, 3) := dk_155 0 16 (dk_at dksX5_walk_7 0 rfl rfl)
theorem dX5_walk_166 : decode cX5_walk 166 = .ok (.aload_n 0, 1) := dk_42 (dk_at dksX5_walk_7 3 rfl rfl)
theorem dX5_walk_167 : decode cX5_walk 167 = .ok (.getfield 33, 3) := dk_180 0 33 (dk_at dksX5_walk_7 4 rfl rfl)
theorem dX5_walk_170 : decode cX5_walk 170 = .ok (.bipush 25, 2) := dk_16 25 (dk_at dksX5_walk_7 7 rfl rfl)
theorem dX5_walk_172 : decode cX5_walk 172 = .ok (.iload_n 1, 1) := dk_27 (dk_at dksX5_walk_7 9 rfl rfl)
theorem dX5_walk_173 : decode cX5_walk 173 = .ok (.iadd, 1) := dk_96 (dk_at dksX5_walk_7 10 rfl rfl)
theorem dX5_walk_174 : decode cX5_walk 174 = .ok (.iaload, 1) := dk_46 (dk_at dksX5_walk_7 11 rfl rfl)
theorem dX5_walk_175 : decode cX5_walk 175 = .ok (.iconst 1, 1) := dk_4 (dk_at dksX5_walk_7 12 rfl rfl)
theorem dX5_walk_176 : decode cX5_walk 176 = .ok (.if_icmp .ne 7, 3) := dk_160 0 7 (dk_at dksX5_walk_7 13 rfl rfl)
theorem dX5_walk_179 : decode cX5_walk 179 = .ok (.iconst 1, 1) := dk_4 (dk_at dksX5_walk_7 16 rfl rfl)
theorem dX5_walk_180 : decode cX5_walk 180 = .ok (.goto 4, 3) := dk_167 0 4 (dk_at dksX5_walk_7 17 rfl rfl)
theorem dX5_walk_183 : decode cX5_walk 183 = .ok (.iconst 0, 1) := dk_3 (dk_at dksX5_walk_7 20 rfl rfl)
theorem dX5_walk_184 : decode cX5_walk 184 = .ok (.istore 4, 2) := dk_54 4 (dk_at dksX5_walk_7 21 rfl rfl)
theorem dX5_walk_186 : decode cX5_walk 186 = .ok (.iinc 5 1, 3) := dk_132 5 1 (dk_at dksX5_walk_8 0 rfl rfl)
theorem dX5_walk_189 : decode cX5_walk 189 = .ok (.goto (-54), 3) := dk_167 255 202 (dk_at dksX5_walk_8 3 rfl rfl)
theorem dX5_walk_192 : decode cX5_walk 192 = .ok (.iload 4, 2) := dk_21 4 (dk_at dksX5_walk_8 6 rfl rfl)
theorem dX5_walk_194 : decode cX5_walk 194 = .ok (.ifCond .ne 42, 3) := dk_154 0 42 (dk_at dksX5_walk_8 8 rfl rfl)
theorem dX5_walk_197 : decode cX5_walk 197 = .ok (.aload_n 0, 1) := dk_42 (dk_at dksX5_walk_8 11 rfl rfl)
theorem dX5_walk_198 : decode cX5_walk 198 = .ok (.getfield 40, 3) := dk_180 0 40 (dk_at dksX5_walk_8 12 rfl rfl)
theorem dX5_walk_201 : decode cX5_walk 201 = .ok (.iconst 3, 1) := dk_6 (dk_at dksX5_walk_8 15 rfl rfl)
theorem dX5_walk_202 : decode cX5_walk 202 = .ok (.iload_n 2, 1) := dk_28 (dk_at dksX5_walk_8 16 rfl rfl)
theorem dX5_walk_203 : decode cX5_walk 203 = .ok (.imul, 1) := dk_104 (dk_at dksX5_walk_8 17 rfl rfl)
theorem dX5_walk_204 : decode cX5_walk 204 = .ok (.iconst 1, 1) := dk_4 (dk_at dksX5_walk_8 18 rfl rfl)
theorem dX5_walk_205 : decode cX5_walk 205 = .ok (.iadd, 1) := dk_96 (dk_at dksX5_walk_8 19 rfl rfl)
theorem dX5_walk_206 : decode cX5_walk 206 = .ok (.iaload, 1) := dk_46 (dk_at dksX5_walk_8 20 rfl rfl)
theorem dX5_walk_207 : decode cX5_walk 207 = .ok (.aload_n 0, 1) := dk_42 (dk_at dksX5_walk_8 21 rfl rfl)
theorem dX5_walk_208 : decode cX5_walk 208 = .ok (.getfield 33, 3) := dk_180 0 33 (dk_at dksX5_walk_9 0 rfl rfl)
theorem dX5_walk_211 : decode cX5_walk 211 = .ok (.bipush 19, 2) := dk_16 19 (dk_at dksX5_walk_9 3 rfl rfl)
theorem dX5_walk_213 : decode cX5_walk 213 = .ok (.aload_n 0, 1) := dk_42 (dk_at dksX5_walk_9 5 rfl rfl)
theorem dX5_walk_214 : decode cX5_walk 214 = .ok (.getfield 338, 3) := dk_180 1 82 (dk_at dksX5_walk_9 6 rfl rfl)
theorem dX5_walk_217 : decode cX5_walk 217 = .ok (.iadd, 1) := dk_96 (dk_at dksX5_walk_9 9 rfl rfl)
theorem dX5_walk_218 : decode cX5_walk 218 = .ok (.iaload, 1) := dk_46 (dk_at dksX5_walk_9 10 rfl rfl)
theorem dX5_walk_219 : decode cX5_walk 219 = .ok (.aload_n 0, 1) := dk_42 (dk_at dksX5_walk_9 11 rfl rfl)
theorem dX5_walk_220 : decode cX5_walk 220 = .ok (.getfield 40, 3) := dk_180 0 40 (dk_at dksX5_walk_9 12 rfl rfl)
theorem dX5_walk_223 : decode cX5_walk 223 = .ok (.iconst 3, 1) := dk_6 (dk_at dksX5_walk_9 15 rfl rfl)
theorem dX5_walk_224 : decode cX5_walk 224 = .ok (.iload_n 2, 1) := dk_28 (dk_at dksX5_walk_9 16 rfl rfl)
theorem dX5_walk_225 : decode cX5_walk 225 = .ok (.imul, 1) := dk_104 (dk_at dksX5_walk_9 17 rfl rfl)
theorem dX5_walk_226 : decode cX5_walk 226 = .ok (.iconst 2, 1) := dk_5 (dk_at dksX5_walk_9 18 rfl rfl)
theorem dX5_walk_227 : decode cX5_walk 227 = .ok (.iadd, 1) := dk_96 (dk_at dksX5_walk_9 19 rfl rfl)
theorem dX5_walk_228 : decode cX5_walk 228 = .ok (.iaload, 1) := dk_46 (dk_at dksX5_walk_9 20 rfl rfl)
theorem dX5_walk_229 : decode cX5_walk 229 = .ok (.imul, 1) := dk_104 (dk_at dksX5_walk_9 21 rfl rfl)
theorem dX5_walk_230 : decode cX5_walk 230 = .ok (.if_icmp .le 6, 3) := dk_164 0 6 (dk_at dksX5_walk_10 0 rfl rfl)
theorem dX5_walk_233 : decode cX5_walk 233 = .ok (.iconst 2, 1) := dk_5 (dk_at dksX5_walk_10 3 rfl rfl)
theorem dX5_walk_234 : decode cX5_walk 234 = .ok (.istore 4, 2) := dk_54 4 (dk_at dksX5_walk_10 4 rfl rfl)
theorem dX5_walk_236 : decode cX5_walk 236 = .ok (.iload 4, 2) := dk_21 4 (dk_at dksX5_walk_10 6 rfl rfl)
theorem dX5_walk_238 : decode cX5_walk 238 = .ok (.ifCond .ne 42, 3) := dk_154 0 42 (dk_at dksX5_walk_10 8 rfl rfl)
theorem dX5_walk_241 : decode cX5_walk 241 = .ok (.iload_n 2, 1) := dk_28 (dk_at dksX5_walk_10 11 rfl rfl)
theorem dX5_walk_242 : decode cX5_walk 242 = .ok (.ifCond .le 38, 3) := dk_158 0 38 (dk_at dksX5_walk_10 12 rfl rfl)
theorem dX5_walk_245 : decode cX5_walk 245 = .ok (.aload_n 0, 1) := dk_42 (dk_at dksX5_walk_10 15 rfl rfl)
theorem dX5_walk_246 : decode cX5_walk 246 = .ok (.getfield 40, 3) := dk_180 0 40 (dk_at dksX5_walk_10 16 rfl rfl)
theorem dX5_walk_249 : decode cX5_walk 249 = .ok (.iconst 3, 1) := dk_6 (dk_at dksX5_walk_10 19 rfl rfl)
theorem dX5_walk_250 : decode cX5_walk 250 = .ok (.iload_n 2, 1) := dk_28 (dk_at dksX5_walk_10 20 rfl rfl)
theorem dX5_walk_251 : decode cX5_walk 251 = .ok (.imul, 1) := dk_104 (dk_at dksX5_walk_10 21 rfl rfl)
theorem dX5_walk_252 : decode cX5_walk 252 = .ok (.iconst 2, 1) := dk_5 (dk_at dksX5_walk_10 22 rfl rfl)
theorem dX5_walk_253 : decode cX5_walk 253 = .ok (.iadd, 1) := dk_96 (dk_at dksX5_walk_10 23 rfl rfl)
theorem dX5_walk_254 : decode cX5_walk 254 = .ok (.iaload, 1) := dk_46 (dk_at dksX5_walk_11 0 rfl rfl)
theorem dX5_walk_255 : decode cX5_walk 255 = .ok (.iconst 1, 1) := dk_4 (dk_at dksX5_walk_11 1 rfl rfl)
theorem dX5_walk_256 : decode cX5_walk 256 = .ok (.if_icmp .ne 24, 3) := dk_160 0 24 (dk_at dksX5_walk_11 2 rfl rfl)
theorem dX5_walk_259 : decode cX5_walk 259 = .ok (.iload_n 3, 1) := dk_29 (dk_at dksX5_walk_11 5 rfl rfl)
theorem dX5_walk_260 : decode cX5_walk 260 = .ok (.aload_n 0, 1) := dk_42 (dk_at dksX5_walk_11 6 rfl rfl)
theorem dX5_walk_261 : decode cX5_walk 261 = .ok (.getfield 40, 3) := dk_180 0 40 (dk_at dksX5_walk_11 7 rfl rfl)
theorem dX5_walk_264 : decode cX5_walk 264 = .ok (.iconst 3, 1) := dk_6 (dk_at dksX5_walk_11 10 rfl rfl)
theorem dX5_walk_265 : decode cX5_walk 265 = .ok (.iload_n 2, 1) := dk_28 (dk_at dksX5_walk_11 11 rfl rfl)
theorem dX5_walk_266 : decode cX5_walk 266 = .ok (.imul, 1) := dk_104 (dk_at dksX5_walk_11 12 rfl rfl)
theorem dX5_walk_267 : decode cX5_walk 267 = .ok (.iconst 3, 1) := dk_6 (dk_at dksX5_walk_11 13 rfl rfl)
theorem dX5_walk_268 : decode cX5_walk 268 = .ok (.isub, 1) := dk_100 (dk_at dksX5_walk_11 14 rfl rfl)
theorem dX5_walk_269 : decode cX5_walk 269 = .ok (.iaload, 1) := dk_46 (dk_at dksX5_walk_11 15 rfl rfl)
theorem dX5_walk_270 : decode cX5_walk 270 = .ok (.iconst 2, 1) := dk_5 (dk_at dksX5_walk_11 16 rfl rfl)
theorem dX5_walk_271 : decode cX5_walk 271 = .ok (.iadd, 1) := dk_96 (dk_at dksX5_walk_11 17 rfl rfl)
theorem dX5_walk_272 : decode cX5_walk 272 = .ok (.iconst 4, 1) := dk_7 (dk_at dksX5_walk_11 18 rfl rfl)
theorem dX5_walk_273 : decode cX5_walk 273 = .ok (.irem, 1) := dk_112 (dk_at dksX5_walk_11 19 rfl rfl)
theorem dX5_walk_274 : decode cX5_walk 274 = .ok (.if_icmp .ne 6, 3) := dk_160 0 6 (dk_at dksX5_walk_11 20 rfl rfl)
theorem dX5_walk_277 : decode cX5_walk 277 = .ok (.iconst 3, 1) := dk_6 (dk_at dksX5_walk_11 23 rfl rfl)
theorem dX5_walk_278 : decode cX5_walk 278 = .ok (.istore 4, 2) := dk_54 4 (dk_at dksX5_walk_12 0 rfl rfl)
theorem dX5_walk_280 : decode cX5_walk 280 = .ok (.iload 4, 2) := dk_21 4 (dk_at dksX5_walk_12 2 rfl rfl)
theorem dX5_walk_282 : decode cX5_walk 282 = .ok (.ifCond .le 15, 3) := dk_158 0 15 (dk_at dksX5_walk_12 4 rfl rfl)
theorem dX5_walk_285 : decode cX5_walk 285 = .ok (.aload_n 0, 1) := dk_42 (dk_at dksX5_walk_12 7 rfl rfl)
theorem dX5_walk_286 : decode cX5_walk 286 = .ok (.getfield 72, 3) := dk_180 0 72 (dk_at dksX5_walk_12 8 rfl rfl)
theorem dX5_walk_289 : decode cX5_walk 289 = .ok (.iconst 0, 1) := dk_3 (dk_at dksX5_walk_12 11 rfl rfl)
theorem dX5_walk_290 : decode cX5_walk 290 = .ok (.iload 4, 2) := dk_21 4 (dk_at dksX5_walk_12 12 rfl rfl)
theorem dX5_walk_292 : decode cX5_walk 292 = .ok (.iastore, 1) := dk_79 (dk_at dksX5_walk_12 14 rfl rfl)
theorem dX5_walk_293 : decode cX5_walk 293 = .ok (.iload_n 2, 1) := dk_28 (dk_at dksX5_walk_12 15 rfl rfl)
theorem dX5_walk_294 : decode cX5_walk 294 = .ok (.iconst 1, 1) := dk_4 (dk_at dksX5_walk_12 16 rfl rfl)
theorem dX5_walk_295 : decode cX5_walk 295 = .ok (.iadd, 1) := dk_96 (dk_at dksX5_walk_12 17 rfl rfl)
theorem dX5_walk_296 : decode cX5_walk 296 = .ok (.ireturn, 1) := dk_172 (dk_at dksX5_walk_12 18 rfl rfl)
theorem dX5_walk_297 : decode cX5_walk 297 = .ok (.aload_n 0, 1) := dk_42 (dk_at dksX5_walk_12 19 rfl rfl)
theorem dX5_walk_298 : decode cX5_walk 298 = .ok (.getfield 72, 3) := dk_180 0 72 (dk_at dksX5_walk_12 20 rfl rfl)
theorem dX5_walk_301 : decode cX5_walk 301 = .ok (.iconst 1, 1) := dk_4 (dk_at dksX5_walk_12 23 rfl rfl)
theorem dX5_walk_302 : decode cX5_walk 302 = .ok (.dup2, 1) := dk_92 (dk_at dksX5_walk_13 0 rfl rfl)
theorem dX5_walk_303 : decode cX5_walk 303 = .ok (.iaload, 1) := dk_46 (dk_at dksX5_walk_13 1 rfl rfl)
theorem dX5_walk_304 : decode cX5_walk 304 = .ok (.aload_n 0, 1) := dk_42 (dk_at dksX5_walk_13 2 rfl rfl)
theorem dX5_walk_305 : decode cX5_walk 305 = .ok (.getfield 40, 3) := dk_180 0 40 (dk_at dksX5_walk_13 3 rfl rfl)
theorem dX5_walk_308 : decode cX5_walk 308 = .ok (.iconst 3, 1) := dk_6 (dk_at dksX5_walk_13 6 rfl rfl)
theorem dX5_walk_309 : decode cX5_walk 309 = .ok (.iload_n 2, 1) := dk_28 (dk_at dksX5_walk_13 7 rfl rfl)
theorem dX5_walk_310 : decode cX5_walk 310 = .ok (.imul, 1) := dk_104 (dk_at dksX5_walk_13 8 rfl rfl)
theorem dX5_walk_311 : decode cX5_walk 311 = .ok (.iconst 1, 1) := dk_4 (dk_at dksX5_walk_13 9 rfl rfl)
theorem dX5_walk_312 : decode cX5_walk 312 = .ok (.iadd, 1) := dk_96 (dk_at dksX5_walk_13 10 rfl rfl)
theorem dX5_walk_313 : decode cX5_walk 313 = .ok (.iaload, 1) := dk_46 (dk_at dksX5_walk_13 11 rfl rfl)
theorem dX5_walk_314 : decode cX5_walk 314 = .ok (.iadd, 1) := dk_96 (dk_at dksX5_walk_13 12 rfl rfl)
theorem dX5_walk_315 : decode cX5_walk 315 = .ok (.iastore, 1) := dk_79 (dk_at dksX5_walk_13 13 rfl rfl)
theorem dX5_walk_316 : decode cX5_walk 316 = .ok (.aload_n 0, 1) := dk_42 (dk_at dksX5_walk_13 14 rfl rfl)
theorem dX5_walk_317 : decode cX5_walk 317 = .ok (.getfield 72, 3) := dk_180 0 72 (dk_at dksX5_walk_13 15 rfl rfl)
theorem dX5_walk_320 : decode cX5_walk 320 = .ok (.iconst 2, 1) := dk_5 (dk_at dksX5_walk_13 18 rfl rfl)
theorem dX5_walk_321 : decode cX5_walk 321 = .ok (.dup2, 1) := dk_92 (dk_at dksX5_walk_13 19 rfl rfl)
theorem dX5_walk_322 : decode cX5_walk 322 = .ok (.iaload, 1) := dk_46 (dk_at dksX5_walk_13 20 rfl rfl)
theorem dX5_walk_323 : decode cX5_walk 323 = .ok (.aload_n 0, 1) := dk_42 (dk_at dksX5_walk_13 21 rfl rfl)
theorem dX5_walk_324 : decode cX5_walk 324 = .ok (.getfield 40, 3) := dk_180 0 40 (dk_at dksX5_walk_14 0 rfl rfl)
theorem dX5_walk_327 : decode cX5_walk 327 = .ok (.iconst 3, 1) := dk_6 (dk_at dksX5_walk_14 3 rfl rfl)
theorem dX5_walk_328 : decode cX5_walk 328 = .ok (.iload_n 2, 1) := dk_28 (dk_at dksX5_walk_14 4 rfl rfl)
theorem dX5_walk_329 : decode cX5_walk 329 = .ok (.imul, 1) := dk_104 (dk_at dksX5_walk_14 5 rfl rfl)
theorem dX5_walk_330 : decode cX5_walk 330 = .ok (.iconst 2, 1) := dk_5 (dk_at dksX5_walk_14 6 rfl rfl)
theorem dX5_walk_331 : decode cX5_walk 331 = .ok (.iadd, 1) := dk_96 (dk_at dksX5_walk_14 7 rfl rfl)
theorem dX5_walk_332 : decode cX5_walk 332 = .ok (.iaload, 1) := dk_46 (dk_at dksX5_walk_14 8 rfl rfl)
theorem dX5_walk_333 : decode cX5_walk 333 = .ok (.iadd, 1) := dk_96 (dk_at dksX5_walk_14 9 rfl rfl)
theorem dX5_walk_334 : decode cX5_walk 334 = .ok (.iastore, 1) := dk_79 (dk_at dksX5_walk_14 10 rfl rfl)
theorem dX5_walk_335 : decode cX5_walk 335 = .ok (.aload_n 0, 1) := dk_42 (dk_at dksX5_walk_14 11 rfl rfl)
theorem dX5_walk_336 : decode cX5_walk 336 = .ok (.getfield 72, 3) := dk_180 0 72 (dk_at dksX5_walk_14 12 rfl rfl)
theorem dX5_walk_339 : decode cX5_walk 339 = .ok (.iconst 3, 1) := dk_6 (dk_at dksX5_walk_14 15 rfl rfl)
theorem dX5_walk_340 : decode cX5_walk 340 = .ok (.iload_n 1, 1) := dk_27 (dk_at dksX5_walk_14 16 rfl rfl)
theorem dX5_walk_341 : decode cX5_walk 341 = .ok (.iastore, 1) := dk_79 (dk_at dksX5_walk_14 17 rfl rfl)
theorem dX5_walk_342 : decode cX5_walk 342 = .ok (.iinc 2 1, 3) := dk_132 2 1 (dk_at dksX5_walk_14 18 rfl rfl)
theorem dX5_walk_345 : decode cX5_walk 345 = .ok (.goto (-233), 3) := dk_167 255 23 (dk_at dksX5_walk_14 21 rfl rfl)
theorem dX5_walk_348 : decode cX5_walk 348 = .ok (.iconst (-1), 1) := dk_2 (dk_at dksX5_walk_15 0 rfl rfl)
theorem dX5_walk_349 : decode cX5_walk 349 = .ok (.ireturn, 1) := dk_172 (dk_at dksX5_walk_15 1 rfl rfl)
abbrev cX5_walkRead : ByteArray := prog_19_method_71_code
def yX5_walkRead : MethodName := ⟨RX5, "walkRead", "()Z"⟩
def dkwX5_walkRead_10 : List UInt8 := [154, 0, 5, 3, 172, 42, 89, 180, 1, 88, 4, 96, 181, 1, 88, 167, 255, 124, 4, 172]
abbrev dktX5_walkRead_10 : List UInt8 := dkwX5_walkRead_10 ++ []
def dkwX5_walkRead_9 : List UInt8 := [180, 0, 40, 6, 42, 180, 1, 88, 104, 5, 96, 42, 180, 0, 195, 79, 42, 16, 59, 182, 0, 246]
abbrev dktX5_walkRead_9 : List UInt8 := dkwX5_walkRead_9 ++ dktX5_walkRead_10
def dkwX5_walkRead_8 : List UInt8 := [180, 1, 88, 104, 4, 96, 42, 180, 0, 195, 79, 42, 4, 16, 99, 182, 0, 214, 154, 0, 5, 3, 172, 42]
abbrev dktX5_walkRead_8 : List UInt8 := dkwX5_walkRead_8 ++ dktX5_walkRead_9
def dkwX5_walkRead_7 : List UInt8 := [180, 1, 88, 104, 27, 79, 42, 4, 16, 11, 182, 0, 214, 154, 0, 5, 3, 172, 42, 180, 0, 40, 6, 42]
abbrev dktX5_walkRead_7 : List UInt8 := dkwX5_walkRead_7 ++ dktX5_walkRead_8
def dkwX5_walkRead_6 : List UInt8 := [180, 1, 88, 16, 30, 160, 0, 9, 42, 7, 182, 0, 185, 172, 42, 182, 0, 188, 42, 180, 0, 40, 6, 42]
abbrev dktX5_walkRead_6 : List UInt8 := dkwX5_walkRead_6 ++ dktX5_walkRead_7
def dkwX5_walkRead_5 : List UInt8 := [172, 42, 180, 0, 159, 153, 0, 131, 42, 182, 0, 230, 60, 27, 156, 0, 9, 42, 4, 182, 0, 185, 172, 42]
abbrev dktX5_walkRead_5 : List UInt8 := dkwX5_walkRead_5 ++ dktX5_walkRead_6
def dkwX5_walkRead_4 : List UInt8 := [180, 1, 85, 16, 12, 42, 180, 0, 195, 104, 96, 181, 1, 85, 42, 16, 59, 182, 0, 246, 154, 0, 5, 3]
abbrev dktX5_walkRead_4 : List UInt8 := dkwX5_walkRead_4 ++ dktX5_walkRead_5
def dkwX5_walkRead_3 : List UInt8 := [181, 1, 85, 42, 3, 42, 180, 0, 33, 4, 46, 4, 100, 182, 0, 214, 154, 0, 5, 3, 172, 42, 89]
abbrev dktX5_walkRead_3 : List UInt8 := dkwX5_walkRead_3 ++ dktX5_walkRead_4
def dkwX5_walkRead_2 : List UInt8 := [3, 42, 180, 0, 33, 3, 46, 4, 100, 182, 0, 214, 154, 0, 5, 3, 172, 42, 42, 180, 0, 195]
abbrev dktX5_walkRead_2 : List UInt8 := dkwX5_walkRead_2 ++ dktX5_walkRead_3
def dkwX5_walkRead_1 : List UInt8 := [182, 0, 202, 181, 1, 82, 42, 180, 1, 82, 156, 0, 9, 42, 6, 182, 0, 185, 172, 42, 182, 0, 188, 42]
abbrev dktX5_walkRead_1 : List UInt8 := dkwX5_walkRead_1 ++ dktX5_walkRead_2
def dkwX5_walkRead_0 : List UInt8 := [42, 182, 0, 198, 154, 0, 9, 42, 4, 182, 0, 185, 172, 42, 42, 3, 42, 180, 0, 33, 5, 46]
abbrev dktX5_walkRead_0 : List UInt8 := dkwX5_walkRead_0 ++ dktX5_walkRead_1
theorem dksX5_walkRead_0 : cX5_walkRead.data.toList.drop 0 = dktX5_walkRead_0 := by decide +kernel
theorem dksX5_walkRead_1 : cX5_walkRead.data.toList.drop 22 = dktX5_walkRead_1 := dk_seg dksX5_walkRead_0 22 rfl rfl
theorem dksX5_walkRead_2 : cX5_walkRead.data.toList.drop 46 = dktX5_walkRead_2 := dk_seg dksX5_walkRead_1 24 rfl rfl
theorem dksX5_walkRead_3 : cX5_walkRead.data.toList.drop 68 = dktX5_walkRead_3 := dk_seg dksX5_walkRead_2 22 rfl rfl
theorem dksX5_walkRead_4 : cX5_walkRead.data.toList.drop 91 = dktX5_walkRead_4 := dk_seg dksX5_walkRead_3 23 rfl rfl
theorem dksX5_walkRead_5 : cX5_walkRead.data.toList.drop 115 = dktX5_walkRead_5 := dk_seg dksX5_walkRead_4 24 rfl rfl
theorem dksX5_walkRead_6 : cX5_walkRead.data.toList.drop 139 = dktX5_walkRead_6 := dk_seg dksX5_walkRead_5 24 rfl rfl
theorem dksX5_walkRead_7 : cX5_walkRead.data.toList.drop 163 = dktX5_walkRead_7 := dk_seg dksX5_walkRead_6 24 rfl rfl
theorem dksX5_walkRead_8 : cX5_walkRead.data.toList.drop 187 = dktX5_walkRead_8 := dk_seg dksX5_walkRead_7 24 rfl rfl
theorem dksX5_walkRead_9 : cX5_walkRead.data.toList.drop 211 = dktX5_walkRead_9 := dk_seg dksX5_walkRead_8 24 rfl rfl
theorem dksX5_walkRead_10 : cX5_walkRead.data.toList.drop 233 = dktX5_walkRead_10 := dk_seg dksX5_walkRead_9 22 rfl rfl
theorem dX5_walkRead_0 : decode cX5_walkRead 0 = .ok (.aload_n 0, 1) := dk_42 (dk_at dksX5_walkRead_0 0 rfl rfl)
theorem dX5_walkRead_1 : decode cX5_walkRead 1 = .ok (.invokevirtual 198, 3) := dk_182 0 198 (dk_at dksX5_walkRead_0 1 rfl rfl)
theorem dX5_walkRead_4 : decode cX5_walkRead 4 = .ok (.ifCond .ne 9, 3) := dk_154 0 9 (dk_at dksX5_walkRead_0 4 rfl rfl)
theorem dX5_walkRead_7 : decode cX5_walkRead 7 = .ok (.aload_n 0, 1) := dk_42 (dk_at dksX5_walkRead_0 7 rfl rfl)
theorem dX5_walkRead_8 : decode cX5_walkRead 8 = .ok (.iconst 1, 1) := dk_4 (dk_at dksX5_walkRead_0 8 rfl rfl)
theorem dX5_walkRead_9 : decode cX5_walkRead 9 = .ok (.invokevirtual 185, 3) := dk_182 0 185 (dk_at dksX5_walkRead_0 9 rfl rfl)
theorem dX5_walkRead_12 : decode cX5_walkRead 12 = .ok (.ireturn, 1) := dk_172 (dk_at dksX5_walkRead_0 12 rfl rfl)
theorem dX5_walkRead_13 : decode cX5_walkRead 13 = .ok (.aload_n 0, 1) := dk_42 (dk_at dksX5_walkRead_0 13 rfl rfl)
theorem dX5_walkRead_14 : decode cX5_walkRead 14 = .ok (.aload_n 0, 1) := dk_42 (dk_at dksX5_walkRead_0 14 rfl rfl)
theorem dX5_walkRead_15 : decode cX5_walkRead 15 = .ok (.iconst 0, 1) := dk_3 (dk_at dksX5_walkRead_0 15 rfl rfl)
theorem dX5_walkRead_16 : decode cX5_walkRead 16 = .ok (.aload_n 0, 1) := dk_42 (dk_at dksX5_walkRead_0 16 rfl rfl)
theorem dX5_walkRead_17 : decode cX5_walkRead 17 = .ok (.getfield 33, 3) := dk_180 0 33 (dk_at dksX5_walkRead_0 17 rfl rfl)
theorem dX5_walkRead_20 : decode cX5_walkRead 20 = .ok (.iconst 2, 1) := dk_5 (dk_at dksX5_walkRead_0 20 rfl rfl)
theorem dX5_walkRead_21 : decode cX5_walkRead 21 = .ok (.iaload, 1) := dk_46 (dk_at dksX5_walkRead_0 21 rfl rfl)
theorem dX5_walkRead_22 : decode cX5_walkRead 22 = .ok (.invokevirtual 202, 3) := dk_182 0 202 (dk_at dksX5_walkRead_1 0 rfl rfl)
theorem dX5_walkRead_25 : decode cX5_walkRead 25 = .ok (.putfield 338, 3) := dk_181 1 82 (dk_at dksX5_walkRead_1 3 rfl rfl)
theorem dX5_walkRead_28 : decode cX5_walkRead 28 = .ok (.aload_n 0, 1) := dk_42 (dk_at dksX5_walkRead_1 6 rfl rfl)
theorem dX5_walkRead_29 : decode cX5_walkRead 29 = .ok (.getfield 338, 3) := dk_180 1 82 (dk_at dksX5_walkRead_1 7 rfl rfl)
theorem dX5_walkRead_32 : decode cX5_walkRead 32 = .ok (.ifCond .ge 9, 3) := dk_156 0 9 (dk_at dksX5_walkRead_1 10 rfl rfl)
theorem dX5_walkRead_35 : decode cX5_walkRead 35 = .ok (.aload_n 0, 1) := dk_42 (dk_at dksX5_walkRead_1 13 rfl rfl)
theorem dX5_walkRead_36 : decode cX5_walkRead 36 = .ok (.iconst 3, 1) := dk_6 (dk_at dksX5_walkRead_1 14 rfl rfl)
theorem dX5_walkRead_37 : decode cX5_walkRead 37 = .ok (.invokevirtual 185, 3) := dk_182 0 185 (dk_at dksX5_walkRead_1 15 rfl rfl)
theorem dX5_walkRead_40 : decode cX5_walkRead 40 = .ok (.ireturn, 1) := dk_172 (dk_at dksX5_walkRead_1 18 rfl rfl)
theorem dX5_walkRead_41 : decode cX5_walkRead 41 = .ok (.aload_n 0, 1) := dk_42 (dk_at dksX5_walkRead_1 19 rfl rfl)
theorem dX5_walkRead_42 : decode cX5_walkRead 42 = .ok (.invokevirtual 188, 3) := dk_182 0 188 (dk_at dksX5_walkRead_1 20 rfl rfl)
theorem dX5_walkRead_45 : decode cX5_walkRead 45 = .ok (.aload_n 0, 1) := dk_42 (dk_at dksX5_walkRead_1 23 rfl rfl)
theorem dX5_walkRead_46 : decode cX5_walkRead 46 = .ok (.iconst 0, 1) := dk_3 (dk_at dksX5_walkRead_2 0 rfl rfl)
theorem dX5_walkRead_47 : decode cX5_walkRead 47 = .ok (.aload_n 0, 1) := dk_42 (dk_at dksX5_walkRead_2 1 rfl rfl)
theorem dX5_walkRead_48 : decode cX5_walkRead 48 = .ok (.getfield 33, 3) := dk_180 0 33 (dk_at dksX5_walkRead_2 2 rfl rfl)
theorem dX5_walkRead_51 : decode cX5_walkRead 51 = .ok (.iconst 0, 1) := dk_3 (dk_at dksX5_walkRead_2 5 rfl rfl)
theorem dX5_walkRead_52 : decode cX5_walkRead 52 = .ok (.iaload, 1) := dk_46 (dk_at dksX5_walkRead_2 6 rfl rfl)
theorem dX5_walkRead_53 : decode cX5_walkRead 53 = .ok (.iconst 1, 1) := dk_4 (dk_at dksX5_walkRead_2 7 rfl rfl)
theorem dX5_walkRead_54 : decode cX5_walkRead 54 = .ok (.isub, 1) := dk_100 (dk_at dksX5_walkRead_2 8 rfl rfl)
theorem dX5_walkRead_55 : decode cX5_walkRead 55 = .ok (.invokevirtual 214, 3) := dk_182 0 214 (dk_at dksX5_walkRead_2 9 rfl rfl)
theorem dX5_walkRead_58 : decode cX5_walkRead 58 = .ok (.ifCond .ne 5, 3) := dk_154 0 5 (dk_at dksX5_walkRead_2 12 rfl rfl)
theorem dX5_walkRead_61 : decode cX5_walkRead 61 = .ok (.iconst 0, 1) := dk_3 (dk_at dksX5_walkRead_2 15 rfl rfl)
theorem dX5_walkRead_62 : decode cX5_walkRead 62 = .ok (.ireturn, 1) := dk_172 (dk_at dksX5_walkRead_2 16 rfl rfl)
theorem dX5_walkRead_63 : decode cX5_walkRead 63 = .ok (.aload_n 0, 1) := dk_42 (dk_at dksX5_walkRead_2 17 rfl rfl)
theorem dX5_walkRead_64 : decode cX5_walkRead 64 = .ok (.aload_n 0, 1) := dk_42 (dk_at dksX5_walkRead_2 18 rfl rfl)
theorem dX5_walkRead_65 : decode cX5_walkRead 65 = .ok (.getfield 195, 3) := dk_180 0 195 (dk_at dksX5_walkRead_2 19 rfl rfl)
theorem dX5_walkRead_68 : decode cX5_walkRead 68 = .ok (.putfield 341, 3) := dk_181 1 85 (dk_at dksX5_walkRead_3 0 rfl rfl)
theorem dX5_walkRead_71 : decode cX5_walkRead 71 = .ok (.aload_n 0, 1) := dk_42 (dk_at dksX5_walkRead_3 3 rfl rfl)
theorem dX5_walkRead_72 : decode cX5_walkRead 72 = .ok (.iconst 0, 1) := dk_3 (dk_at dksX5_walkRead_3 4 rfl rfl)
theorem dX5_walkRead_73 : decode cX5_walkRead 73 = .ok (.aload_n 0, 1) := dk_42 (dk_at dksX5_walkRead_3 5 rfl rfl)
theorem dX5_walkRead_74 : decode cX5_walkRead 74 = .ok (.getfield 33, 3) := dk_180 0 33 (dk_at dksX5_walkRead_3 6 rfl rfl)
theorem dX5_walkRead_77 : decode cX5_walkRead 77 = .ok (.iconst 1, 1) := dk_4 (dk_at dksX5_walkRead_3 9 rfl rfl)
theorem dX5_walkRead_78 : decode cX5_walkRead 78 = .ok (.iaload, 1) := dk_46 (dk_at dksX5_walkRead_3 10 rfl rfl)
theorem dX5_walkRead_79 : decode cX5_walkRead 79 = .ok (.iconst 1, 1) := dk_4 (dk_at dksX5_walkRead_3 11 rfl rfl)
theorem dX5_walkRead_80 : decode cX5_walkRead 80 = .ok (.isub, 1) := dk_100 (dk_at dksX5_walkRead_3 12 rfl rfl)
theorem dX5_walkRead_81 : decode cX5_walkRead 81 = .ok (.invokevirtual 214, 3) := dk_182 0 214 (dk_at dksX5_walkRead_3 13 rfl rfl)
theorem dX5_walkRead_84 : decode cX5_walkRead 84 = .ok (.ifCond .ne 5, 3) := dk_154 0 5 (dk_at dksX5_walkRead_3 16 rfl rfl)
theorem dX5_walkRead_87 : decode cX5_walkRead 87 = .ok (.iconst 0, 1) := dk_3 (dk_at dksX5_walkRead_3 19 rfl rfl)
theorem dX5_walkRead_88 : decode cX5_walkRead 88 = .ok (.ireturn, 1) := dk_172 (dk_at dksX5_walkRead_3 20 rfl rfl)
theorem dX5_walkRead_89 : decode cX5_walkRead 89 = .ok (.aload_n 0, 1) := dk_42 (dk_at dksX5_walkRead_3 21 rfl rfl)
theorem dX5_walkRead_90 : decode cX5_walkRead 90 = .ok (.dup, 1) := dk_89 (dk_at dksX5_walkRead_3 22 rfl rfl)
theorem dX5_walkRead_91 : decode cX5_walkRead 91 = .ok (.getfield 341, 3) := dk_180 1 85 (dk_at dksX5_walkRead_4 0 rfl rfl)
theorem dX5_walkRead_94 : decode cX5_walkRead 94 = .ok (.bipush 12, 2) := dk_16 12 (dk_at dksX5_walkRead_4 3 rfl rfl)
theorem dX5_walkRead_96 : decode cX5_walkRead 96 = .ok (.aload_n 0, 1) := dk_42 (dk_at dksX5_walkRead_4 5 rfl rfl)
theorem dX5_walkRead_97 : decode cX5_walkRead 97 = .ok (.getfield 195, 3) := dk_180 0 195 (dk_at dksX5_walkRead_4 6 rfl rfl)
theorem dX5_walkRead_100 : decode cX5_walkRead 100 = .ok (.imul, 1) := dk_104 (dk_at dksX5_walkRead_4 9 rfl rfl)
theorem dX5_walkRead_101 : decode cX5_walkRead 101 = .ok (.iadd, 1) := dk_96 (dk_at dksX5_walkRead_4 10 rfl rfl)
theorem dX5_walkRead_102 : decode cX5_walkRead 102 = .ok (.putfield 341, 3) := dk_181 1 85 (dk_at dksX5_walkRead_4 11 rfl rfl)
theorem dX5_walkRead_105 : decode cX5_walkRead 105 = .ok (.aload_n 0, 1) := dk_42 (dk_at dksX5_walkRead_4 14 rfl rfl)
theorem dX5_walkRead_106 : decode cX5_walkRead 106 = .ok (.bipush 59, 2) := dk_16 59 (dk_at dksX5_walkRead_4 15 rfl rfl)
theorem dX5_walkRead_108 : decode cX5_walkRead 108 = .ok (.invokevirtual 246, 3) := dk_182 0 246 (dk_at dksX5_walkRead_4 17 rfl rfl)
theorem dX5_walkRead_111 : decode cX5_walkRead 111 = .ok (.ifCond .ne 5, 3) := dk_154 0 5 (dk_at dksX5_walkRead_4 20 rfl rfl)
theorem dX5_walkRead_114 : decode cX5_walkRead 114 = .ok (.iconst 0, 1) := dk_3 (dk_at dksX5_walkRead_4 23 rfl rfl)
theorem dX5_walkRead_115 : decode cX5_walkRead 115 = .ok (.ireturn, 1) := dk_172 (dk_at dksX5_walkRead_5 0 rfl rfl)
theorem dX5_walkRead_116 : decode cX5_walkRead 116 = .ok (.aload_n 0, 1) := dk_42 (dk_at dksX5_walkRead_5 1 rfl rfl)
theorem dX5_walkRead_117 : decode cX5_walkRead 117 = .ok (.getfield 159, 3) := dk_180 0 159 (dk_at dksX5_walkRead_5 2 rfl rfl)
theorem dX5_walkRead_120 : decode cX5_walkRead 120 = .ok (.ifCond .eq 131, 3) := dk_153 0 131 (dk_at dksX5_walkRead_5 5 rfl rfl)
theorem dX5_walkRead_123 : decode cX5_walkRead 123 = .ok (.aload_n 0, 1) := dk_42 (dk_at dksX5_walkRead_5 8 rfl rfl)
theorem dX5_walkRead_124 : decode cX5_walkRead 124 = .ok (.invokevirtual 230, 3) := dk_182 0 230 (dk_at dksX5_walkRead_5 9 rfl rfl)
theorem dX5_walkRead_127 : decode cX5_walkRead 127 = .ok (.istore_n 1, 1) := dk_60 (dk_at dksX5_walkRead_5 12 rfl rfl)
theorem dX5_walkRead_128 : decode cX5_walkRead 128 = .ok (.iload_n 1, 1) := dk_27 (dk_at dksX5_walkRead_5 13 rfl rfl)
theorem dX5_walkRead_129 : decode cX5_walkRead 129 = .ok (.ifCond .ge 9, 3) := dk_156 0 9 (dk_at dksX5_walkRead_5 14 rfl rfl)
theorem dX5_walkRead_132 : decode cX5_walkRead 132 = .ok (.aload_n 0, 1) := dk_42 (dk_at dksX5_walkRead_5 17 rfl rfl)
theorem dX5_walkRead_133 : decode cX5_walkRead 133 = .ok (.iconst 1, 1) := dk_4 (dk_at dksX5_walkRead_5 18 rfl rfl)
theorem dX5_walkRead_134 : decode cX5_walkRead 134 = .ok (.invokevirtual 185, 3) := dk_182 0 185 (dk_at dksX5_walkRead_5 19 rfl rfl)
theorem dX5_walkRead_137 : decode cX5_walkRead 137 = .ok (.ireturn, 1) := dk_172 (dk_at dksX5_walkRead_5 22 rfl rfl)
theorem dX5_walkRead_138 : decode cX5_walkRead 138 = .ok (.aload_n 0, 1) := dk_42 (dk_at dksX5_walkRead_5 23 rfl rfl)
theorem dX5_walkRead_139 : decode cX5_walkRead 139 = .ok (.getfield 344, 3) := dk_180 1 88 (dk_at dksX5_walkRead_6 0 rfl rfl)
theorem dX5_walkRead_142 : decode cX5_walkRead 142 = .ok (.bipush 30, 2) := dk_16 30 (dk_at dksX5_walkRead_6 3 rfl rfl)
theorem dX5_walkRead_144 : decode cX5_walkRead 144 = .ok (.if_icmp .ne 9, 3) := dk_160 0 9 (dk_at dksX5_walkRead_6 5 rfl rfl)
theorem dX5_walkRead_147 : decode cX5_walkRead 147 = .ok (.aload_n 0, 1) := dk_42 (dk_at dksX5_walkRead_6 8 rfl rfl)
theorem dX5_walkRead_148 : decode cX5_walkRead 148 = .ok (.iconst 4, 1) := dk_7 (dk_at dksX5_walkRead_6 9 rfl rfl)
theorem dX5_walkRead_149 : decode cX5_walkRead 149 = .ok (.invokevirtual 185, 3) := dk_182 0 185 (dk_at dksX5_walkRead_6 10 rfl rfl)
theorem dX5_walkRead_152 : decode cX5_walkRead 152 = .ok (.ireturn, 1) := dk_172 (dk_at dksX5_walkRead_6 13 rfl rfl)
theorem dX5_walkRead_153 : decode cX5_walkRead 153 = .ok (.aload_n 0, 1) := dk_42 (dk_at dksX5_walkRead_6 14 rfl rfl)
theorem dX5_walkRead_154 : decode cX5_walkRead 154 = .ok (.invokevirtual 188, 3) := dk_182 0 188 (dk_at dksX5_walkRead_6 15 rfl rfl)
theorem dX5_walkRead_157 : decode cX5_walkRead 157 = .ok (.aload_n 0, 1) := dk_42 (dk_at dksX5_walkRead_6 18 rfl rfl)
theorem dX5_walkRead_158 : decode cX5_walkRead 158 = .ok (.getfield 40, 3) := dk_180 0 40 (dk_at dksX5_walkRead_6 19 rfl rfl)
theorem dX5_walkRead_161 : decode cX5_walkRead 161 = .ok (.iconst 3, 1) := dk_6 (dk_at dksX5_walkRead_6 22 rfl rfl)
theorem dX5_walkRead_162 : decode cX5_walkRead 162 = .ok (.aload_n 0, 1) := dk_42 (dk_at dksX5_walkRead_6 23 rfl rfl)
theorem dX5_walkRead_163 : decode cX5_walkRead 163 = .ok (.getfield 344, 3) := dk_180 1 88 (dk_at dksX5_walkRead_7 0 rfl rfl)
theorem dX5_walkRead_166 : decode cX5_walkRead 166 = .ok (.imul, 1) := dk_104 (dk_at dksX5_walkRead_7 3 rfl rfl)
theorem dX5_walkRead_167 : decode cX5_walkRead 167 = .ok (.iload_n 1, 1) := dk_27 (dk_at dksX5_walkRead_7 4 rfl rfl)
theorem dX5_walkRead_168 : decode cX5_walkRead 168 = .ok (.iastore, 1) := dk_79 (dk_at dksX5_walkRead_7 5 rfl rfl)
theorem dX5_walkRead_169 : decode cX5_walkRead 169 = .ok (.aload_n 0, 1) := dk_42 (dk_at dksX5_walkRead_7 6 rfl rfl)
theorem dX5_walkRead_170 : decode cX5_walkRead 170 = .ok (.iconst 1, 1) := dk_4 (dk_at dksX5_walkRead_7 7 rfl rfl)
theorem dX5_walkRead_171 : decode cX5_walkRead 171 = .ok (.bipush 11, 2) := dk_16 11 (dk_at dksX5_walkRead_7 8 rfl rfl)
theorem dX5_walkRead_173 : decode cX5_walkRead 173 = .ok (.invokevirtual 214, 3) := dk_182 0 214 (dk_at dksX5_walkRead_7 10 rfl rfl)
theorem dX5_walkRead_176 : decode cX5_walkRead 176 = .ok (.ifCond .ne 5, 3) := dk_154 0 5 (dk_at dksX5_walkRead_7 13 rfl rfl)
theorem dX5_walkRead_179 : decode cX5_walkRead 179 = .ok (.iconst 0, 1) := dk_3 (dk_at dksX5_walkRead_7 16 rfl rfl)
theorem dX5_walkRead_180 : decode cX5_walkRead 180 = .ok (.ireturn, 1) := dk_172 (dk_at dksX5_walkRead_7 17 rfl rfl)
theorem dX5_walkRead_181 : decode cX5_walkRead 181 = .ok (.aload_n 0, 1) := dk_42 (dk_at dksX5_walkRead_7 18 rfl rfl)
theorem dX5_walkRead_182 : decode cX5_walkRead 182 = .ok (.getfield 40, 3) := dk_180 0 40 (dk_at dksX5_walkRead_7 19 rfl rfl)
theorem dX5_walkRead_185 : decode cX5_walkRead 185 = .ok (.iconst 3, 1) := dk_6 (dk_at dksX5_walkRead_7 22 rfl rfl)
theorem dX5_walkRead_186 : decode cX5_walkRead 186 = .ok (.aload_n 0, 1) := dk_42 (dk_at dksX5_walkRead_7 23 rfl rfl)
theorem dX5_walkRead_187 : decode cX5_walkRead 187 = .ok (.getfield 344, 3) := dk_180 1 88 (dk_at dksX5_walkRead_8 0 rfl rfl)
theorem dX5_walkRead_190 : decode cX5_walkRead 190 = .ok (.imul, 1) := dk_104 (dk_at dksX5_walkRead_8 3 rfl rfl)
theorem dX5_walkRead_191 : decode cX5_walkRead 191 = .ok (.iconst 1, 1) := dk_4 (dk_at dksX5_walkRead_8 4 rfl rfl)
theorem dX5_walkRead_192 : decode cX5_walkRead 192 = .ok (.iadd, 1) := dk_96 (dk_at dksX5_walkRead_8 5 rfl rfl)
theorem dX5_walkRead_193 : decode cX5_walkRead 193 = .ok (.aload_n 0, 1) := dk_42 (dk_at dksX5_walkRead_8 6 rfl rfl)
theorem dX5_walkRead_194 : decode cX5_walkRead 194 = .ok (.getfield 195, 3) := dk_180 0 195 (dk_at dksX5_walkRead_8 7 rfl rfl)
theorem dX5_walkRead_197 : decode cX5_walkRead 197 = .ok (.iastore, 1) := dk_79 (dk_at dksX5_walkRead_8 10 rfl rfl)
theorem dX5_walkRead_198 : decode cX5_walkRead 198 = .ok (.aload_n 0, 1) := dk_42 (dk_at dksX5_walkRead_8 11 rfl rfl)
theorem dX5_walkRead_199 : decode cX5_walkRead 199 = .ok (.iconst 1, 1) := dk_4 (dk_at dksX5_walkRead_8 12 rfl rfl)
theorem dX5_walkRead_200 : decode cX5_walkRead 200 = .ok (.bipush 99, 2) := dk_16 99 (dk_at dksX5_walkRead_8 13 rfl rfl)
theorem dX5_walkRead_202 : decode cX5_walkRead 202 = .ok (.invokevirtual 214, 3) := dk_182 0 214 (dk_at dksX5_walkRead_8 15 rfl rfl)
theorem dX5_walkRead_205 : decode cX5_walkRead 205 = .ok (.ifCond .ne 5, 3) := dk_154 0 5 (dk_at dksX5_walkRead_8 18 rfl rfl)
theorem dX5_walkRead_208 : decode cX5_walkRead 208 = .ok (.iconst 0, 1) := dk_3 (dk_at dksX5_walkRead_8 21 rfl rfl)
theorem dX5_walkRead_209 : decode cX5_walkRead 209 = .ok (.ireturn, 1) := dk_172 (dk_at dksX5_walkRead_8 22 rfl rfl)
theorem dX5_walkRead_210 : decode cX5_walkRead 210 = .ok (.aload_n 0, 1) := dk_42 (dk_at dksX5_walkRead_8 23 rfl rfl)
theorem dX5_walkRead_211 : decode cX5_walkRead 211 = .ok (.getfield 40, 3) := dk_180 0 40 (dk_at dksX5_walkRead_9 0 rfl rfl)
theorem dX5_walkRead_214 : decode cX5_walkRead 214 = .ok (.iconst 3, 1) := dk_6 (dk_at dksX5_walkRead_9 3 rfl rfl)
theorem dX5_walkRead_215 : decode cX5_walkRead 215 = .ok (.aload_n 0, 1) := dk_42 (dk_at dksX5_walkRead_9 4 rfl rfl)
theorem dX5_walkRead_216 : decode cX5_walkRead 216 = .ok (.getfield 344, 3) := dk_180 1 88 (dk_at dksX5_walkRead_9 5 rfl rfl)
theorem dX5_walkRead_219 : decode cX5_walkRead 219 = .ok (.imul, 1) := dk_104 (dk_at dksX5_walkRead_9 8 rfl rfl)
theorem dX5_walkRead_220 : decode cX5_walkRead 220 = .ok (.iconst 2, 1) := dk_5 (dk_at dksX5_walkRead_9 9 rfl rfl)
theorem dX5_walkRead_221 : decode cX5_walkRead 221 = .ok (.iadd, 1) := dk_96 (dk_at dksX5_walkRead_9 10 rfl rfl)
theorem dX5_walkRead_222 : decode cX5_walkRead 222 = .ok (.aload_n 0, 1) := dk_42 (dk_at dksX5_walkRead_9 11 rfl rfl)
theorem dX5_walkRead_223 : decode cX5_walkRead 223 = .ok (.getfield 195, 3) := dk_180 0 195 (dk_at dksX5_walkRead_9 12 rfl rfl)
theorem dX5_walkRead_226 : decode cX5_walkRead 226 = .ok (.iastore, 1) := dk_79 (dk_at dksX5_walkRead_9 15 rfl rfl)
theorem dX5_walkRead_227 : decode cX5_walkRead 227 = .ok (.aload_n 0, 1) := dk_42 (dk_at dksX5_walkRead_9 16 rfl rfl)
theorem dX5_walkRead_228 : decode cX5_walkRead 228 = .ok (.bipush 59, 2) := dk_16 59 (dk_at dksX5_walkRead_9 17 rfl rfl)
theorem dX5_walkRead_230 : decode cX5_walkRead 230 = .ok (.invokevirtual 246, 3) := dk_182 0 246 (dk_at dksX5_walkRead_9 19 rfl rfl)
theorem dX5_walkRead_233 : decode cX5_walkRead 233 = .ok (.ifCond .ne 5, 3) := dk_154 0 5 (dk_at dksX5_walkRead_10 0 rfl rfl)
theorem dX5_walkRead_236 : decode cX5_walkRead 236 = .ok (.iconst 0, 1) := dk_3 (dk_at dksX5_walkRead_10 3 rfl rfl)
theorem dX5_walkRead_237 : decode cX5_walkRead 237 = .ok (.ireturn, 1) := dk_172 (dk_at dksX5_walkRead_10 4 rfl rfl)
theorem dX5_walkRead_238 : decode cX5_walkRead 238 = .ok (.aload_n 0, 1) := dk_42 (dk_at dksX5_walkRead_10 5 rfl rfl)
theorem dX5_walkRead_239 : decode cX5_walkRead 239 = .ok (.dup, 1) := dk_89 (dk_at dksX5_walkRead_10 6 rfl rfl)
theorem dX5_walkRead_240 : decode cX5_walkRead 240 = .ok (.getfield 344, 3) := dk_180 1 88 (dk_at dksX5_walkRead_10 7 rfl rfl)
theorem dX5_walkRead_243 : decode cX5_walkRead 243 = .ok (.iconst 1, 1) := dk_4 (dk_at dksX5_walkRead_10 10 rfl rfl)
theorem dX5_walkRead_244 : decode cX5_walkRead 244 = .ok (.iadd, 1) := dk_96 (dk_at dksX5_walkRead_10 11 rfl rfl)
theorem dX5_walkRead_245 : decode cX5_walkRead 245 = .ok (.putfield 344, 3) := dk_181 1 88 (dk_at dksX5_walkRead_10 12 rfl rfl)
theorem dX5_walkRead_248 : decode cX5_walkRead 248 = .ok (.goto (-132), 3) := dk_167 255 124 (dk_at dksX5_walkRead_10 15 rfl rfl)
theorem dX5_walkRead_251 : decode cX5_walkRead 251 = .ok (.iconst 1, 1) := dk_4 (dk_at dksX5_walkRead_10 18 rfl rfl)
theorem dX5_walkRead_252 : decode cX5_walkRead 252 = .ok (.ireturn, 1) := dk_172 (dk_at dksX5_walkRead_10 19 rfl rfl)
abbrev cX5_walked : ByteArray := prog_19_method_73_code
def yX5_walked : MethodName := ⟨RX5, "walked", "(I)I"⟩
def dkwX5_walked_1 : List UInt8 := [180, 0, 72, 27, 46, 167, 0, 4, 2, 172]
abbrev dktX5_walked_1 : List UInt8 := dkwX5_walked_1 ++ []
def dkwX5_walked_0 : List UInt8 := [42, 3, 181, 0, 1, 42, 180, 1, 94, 153, 0, 21, 27, 3, 6, 184, 0, 191, 153, 0, 12, 42]
abbrev dktX5_walked_0 : List UInt8 := dkwX5_walked_0 ++ dktX5_walked_1
theorem dksX5_walked_0 : cX5_walked.data.toList.drop 0 = dktX5_walked_0 := by decide +kernel
theorem dksX5_walked_1 : cX5_walked.data.toList.drop 22 = dktX5_walked_1 := dk_seg dksX5_walked_0 22 rfl rfl
theorem dX5_walked_0 : decode cX5_walked 0 = .ok (.aload_n 0, 1) := dk_42 (dk_at dksX5_walked_0 0 rfl rfl)
theorem dX5_walked_1 : decode cX5_walked 1 = .ok (.iconst 0, 1) := dk_3 (dk_at dksX5_walked_0 1 rfl rfl)
theorem dX5_walked_2 : decode cX5_walked 2 = .ok (.putfield 1, 3) := dk_181 0 1 (dk_at dksX5_walked_0 2 rfl rfl)
theorem dX5_walked_5 : decode cX5_walked 5 = .ok (.aload_n 0, 1) := dk_42 (dk_at dksX5_walked_0 5 rfl rfl)
theorem dX5_walked_6 : decode cX5_walked 6 = .ok (.getfield 350, 3) := dk_180 1 94 (dk_at dksX5_walked_0 6 rfl rfl)
theorem dX5_walked_9 : decode cX5_walked 9 = .ok (.ifCond .eq 21, 3) := dk_153 0 21 (dk_at dksX5_walked_0 9 rfl rfl)
theorem dX5_walked_12 : decode cX5_walked 12 = .ok (.iload_n 1, 1) := dk_27 (dk_at dksX5_walked_0 12 rfl rfl)
theorem dX5_walked_13 : decode cX5_walked 13 = .ok (.iconst 0, 1) := dk_3 (dk_at dksX5_walked_0 13 rfl rfl)
theorem dX5_walked_14 : decode cX5_walked 14 = .ok (.iconst 3, 1) := dk_6 (dk_at dksX5_walked_0 14 rfl rfl)
theorem dX5_walked_15 : decode cX5_walked 15 = .ok (.invokestatic 191, 3) := dk_184 0 191 (dk_at dksX5_walked_0 15 rfl rfl)
theorem dX5_walked_18 : decode cX5_walked 18 = .ok (.ifCond .eq 12, 3) := dk_153 0 12 (dk_at dksX5_walked_0 18 rfl rfl)
theorem dX5_walked_21 : decode cX5_walked 21 = .ok (.aload_n 0, 1) := dk_42 (dk_at dksX5_walked_0 21 rfl rfl)
theorem dX5_walked_22 : decode cX5_walked 22 = .ok (.getfield 72, 3) := dk_180 0 72 (dk_at dksX5_walked_1 0 rfl rfl)
theorem dX5_walked_25 : decode cX5_walked 25 = .ok (.iload_n 1, 1) := dk_27 (dk_at dksX5_walked_1 3 rfl rfl)
theorem dX5_walked_26 : decode cX5_walked 26 = .ok (.iaload, 1) := dk_46 (dk_at dksX5_walked_1 4 rfl rfl)
theorem dX5_walked_27 : decode cX5_walked 27 = .ok (.goto 4, 3) := dk_167 0 4 (dk_at dksX5_walked_1 5 rfl rfl)
theorem dX5_walked_30 : decode cX5_walked 30 = .ok (.iconst (-1), 1) := dk_2 (dk_at dksX5_walked_1 8 rfl rfl)
theorem dX5_walked_31 : decode cX5_walked 31 = .ok (.ireturn, 1) := dk_172 (dk_at dksX5_walked_1 9 rfl rfl)
abbrev cX5_seen : ByteArray := prog_19_method_79_code
def yX5_seen : MethodName := ⟨RX5, "seen", "(II)I"⟩
def dkwX5_seen_10 : List UInt8 := [167, 0, 11, 42, 180, 0, 90, 21, 6, 3, 84, 132, 6, 1, 167, 255, 146, 42, 180, 1, 115, 172]
abbrev dktX5_seen_10 : List UInt8 := dkwX5_seen_10 ++ []
def dkwX5_seen_9 : List UInt8 := [132, 5, 255, 42, 180, 0, 87, 42, 180, 1, 115, 21, 6, 79, 42, 89, 180, 1, 115, 4, 96, 181, 1, 115]
abbrev dktX5_seen_9 : List UInt8 := dkwX5_seen_9 ++ dktX5_seen_10
def dkwX5_seen_8 : List UInt8 := [167, 0, 58, 42, 180, 0, 90, 21, 6, 4, 84, 42, 29, 21, 4, 182, 1, 112, 21, 5, 162, 0, 30]
abbrev dktX5_seen_8 : List UInt8 := dkwX5_seen_8 ++ dktX5_seen_9
def dkwX5_seen_7 : List UInt8 := [16, 25, 21, 6, 96, 46, 4, 159, 0, 74, 21, 6, 29, 159, 0, 68, 21, 6, 21, 4, 160, 0, 6]
abbrev dktX5_seen_7 : List UInt8 := dkwX5_seen_7 ++ dktX5_seen_8
def dkwX5_seen_6 : List UInt8 := [17, 0, 144, 162, 0, 108, 21, 5, 158, 0, 103, 42, 21, 6, 182, 1, 10, 153, 0, 88, 42, 180, 0, 33]
abbrev dktX5_seen_6 : List UInt8 := dkwX5_seen_6 ++ dktX5_seen_7
def dkwX5_seen_5 : List UInt8 := [167, 255, 237, 42, 29, 21, 4, 182, 1, 112, 54, 5, 42, 3, 181, 1, 115, 3, 54, 6, 21, 6]
abbrev dktX5_seen_5 : List UInt8 := dkwX5_seen_5 ++ dktX5_seen_6
def dkwX5_seen_4 : List UInt8 := [3, 54, 5, 21, 5, 17, 0, 144, 162, 0, 17, 42, 180, 0, 90, 21, 5, 3, 84, 132, 5, 1]
abbrev dktX5_seen_4 : List UInt8 := dkwX5_seen_4 ++ dktX5_seen_5
def dkwX5_seen_3 : List UInt8 := [7, 162, 0, 23, 42, 29, 21, 5, 182, 1, 76, 21, 4, 160, 0, 5, 2, 172, 132, 5, 1, 167, 255, 233]
abbrev dktX5_seen_3 : List UInt8 := dkwX5_seen_3 ++ dktX5_seen_4
def dkwX5_seen_2 : List UInt8 := [17, 0, 169, 27, 96, 46, 62, 42, 180, 0, 33, 17, 0, 169, 28, 96, 46, 54, 4, 3, 54, 5, 21, 5]
abbrev dktX5_seen_2 : List UInt8 := dkwX5_seen_2 ++ dktX5_seen_3
def dkwX5_seen_1 : List UInt8 := [180, 0, 33, 8, 46, 4, 100, 184, 0, 191, 153, 0, 8, 27, 28, 160, 0, 5, 2, 172, 42, 180, 0, 33]
abbrev dktX5_seen_1 : List UInt8 := dkwX5_seen_1 ++ dktX5_seen_2
def dkwX5_seen_0 : List UInt8 := [42, 3, 181, 0, 1, 27, 3, 42, 180, 0, 33, 8, 46, 4, 100, 184, 0, 191, 153, 0, 24, 28, 3, 42]
abbrev dktX5_seen_0 : List UInt8 := dkwX5_seen_0 ++ dktX5_seen_1
theorem dksX5_seen_0 : cX5_seen.data.toList.drop 0 = dktX5_seen_0 := by decide +kernel
theorem dksX5_seen_1 : cX5_seen.data.toList.drop 24 = dktX5_seen_1 := dk_seg dksX5_seen_0 24 rfl rfl
theorem dksX5_seen_2 : cX5_seen.data.toList.drop 48 = dktX5_seen_2 := dk_seg dksX5_seen_1 24 rfl rfl
theorem dksX5_seen_3 : cX5_seen.data.toList.drop 72 = dktX5_seen_3 := dk_seg dksX5_seen_2 24 rfl rfl
theorem dksX5_seen_4 : cX5_seen.data.toList.drop 96 = dktX5_seen_4 := dk_seg dksX5_seen_3 24 rfl rfl
theorem dksX5_seen_5 : cX5_seen.data.toList.drop 118 = dktX5_seen_5 := dk_seg dksX5_seen_4 22 rfl rfl
theorem dksX5_seen_6 : cX5_seen.data.toList.drop 140 = dktX5_seen_6 := dk_seg dksX5_seen_5 22 rfl rfl
theorem dksX5_seen_7 : cX5_seen.data.toList.drop 164 = dktX5_seen_7 := dk_seg dksX5_seen_6 24 rfl rfl
theorem dksX5_seen_8 : cX5_seen.data.toList.drop 187 = dktX5_seen_8 := dk_seg dksX5_seen_7 23 rfl rfl
theorem dksX5_seen_9 : cX5_seen.data.toList.drop 210 = dktX5_seen_9 := dk_seg dksX5_seen_8 23 rfl rfl
theorem dksX5_seen_10 : cX5_seen.data.toList.drop 234 = dktX5_seen_10 := dk_seg dksX5_seen_9 24 rfl rfl
theorem dX5_seen_0 : decode cX5_seen 0 = .ok (.aload_n 0, 1) := dk_42 (dk_at dksX5_seen_0 0 rfl rfl)
theorem dX5_seen_1 : decode cX5_seen 1 = .ok (.iconst 0, 1) := dk_3 (dk_at dksX5_seen_0 1 rfl rfl)
theorem dX5_seen_2 : decode cX5_seen 2 = .ok (.putfield 1, 3) := dk_181 0 1 (dk_at dksX5_seen_0 2 rfl rfl)
theorem dX5_seen_5 : decode cX5_seen 5 = .ok (.iload_n 1, 1) := dk_27 (dk_at dksX5_seen_0 5 rfl rfl)
theorem dX5_seen_6 : decode cX5_seen 6 = .ok (.iconst 0, 1) := dk_3 (dk_at dksX5_seen_0 6 rfl rfl)
theorem dX5_seen_7 : decode cX5_seen 7 = .ok (.aload_n 0, 1) := dk_42 (dk_at dksX5_seen_0 7 rfl rfl)
theorem dX5_seen_8 : decode cX5_seen 8 = .ok (.getfield 33, 3) := dk_180 0 33 (dk_at dksX5_seen_0 8 rfl rfl)
theorem dX5_seen_11 : decode cX5_seen 11 = .ok (.iconst 5, 1) := dk_8 (dk_at dksX5_seen_0 11 rfl rfl)
theorem dX5_seen_12 : decode cX5_seen 12 = .ok (.iaload, 1) := dk_46 (dk_at dksX5_seen_0 12 rfl rfl)
theorem dX5_seen_13 : decode cX5_seen 13 = .ok (.iconst 1, 1) := dk_4 (dk_at dksX5_seen_0 13 rfl rfl)
theorem dX5_seen_14 : decode cX5_seen 14 = .ok (.isub, 1) := dk_100 (dk_at dksX5_seen_0 14 rfl rfl)
theorem dX5_seen_15 : decode cX5_seen 15 = .ok (.invokestatic 191, 3) := dk_184 0 191 (dk_at dksX5_seen_0 15 rfl rfl)
theorem dX5_seen_18 : decode cX5_seen 18 = .ok (.ifCond .eq 24, 3) := dk_153 0 24 (dk_at dksX5_seen_0 18 rfl rfl)
theorem dX5_seen_21 : decode cX5_seen 21 = .ok (.iload_n 2, 1) := dk_28 (dk_at dksX5_seen_0 21 rfl rfl)
theorem dX5_seen_22 : decode cX5_seen 22 = .ok (.iconst 0, 1) := dk_3 (dk_at dksX5_seen_0 22 rfl rfl)
theorem dX5_seen_23 : decode cX5_seen 23 = .ok (.aload_n 0, 1) := dk_42 (dk_at dksX5_seen_0 23 rfl rfl)
theorem dX5_seen_24 : decode cX5_seen 24 = .ok (.getfield 33, 3) := dk_180 0 33 (dk_at dksX5_seen_1 0 rfl rfl)
theorem dX5_seen_27 : decode cX5_seen 27 = .ok (.iconst 5, 1) := dk_8 (dk_at dksX5_seen_1 3 rfl rfl)
theorem dX5_seen_28 : decode cX5_seen 28 = .ok (.iaload, 1) := dk_46 (dk_at dksX5_seen_1 4 rfl rfl)
theorem dX5_seen_29 : decode cX5_seen 29 = .ok (.iconst 1, 1) := dk_4 (dk_at dksX5_seen_1 5 rfl rfl)
theorem dX5_seen_30 : decode cX5_seen 30 = .ok (.isub, 1) := dk_100 (dk_at dksX5_seen_1 6 rfl rfl)
theorem dX5_seen_31 : decode cX5_seen 31 = .ok (.invokestatic 191, 3) := dk_184 0 191 (dk_at dksX5_seen_1 7 rfl rfl)
theorem dX5_seen_34 : decode cX5_seen 34 = .ok (.ifCond .eq 8, 3) := dk_153 0 8 (dk_at dksX5_seen_1 10 rfl rfl)
theorem dX5_seen_37 : decode cX5_seen 37 = .ok (.iload_n 1, 1) := dk_27 (dk_at dksX5_seen_1 13 rfl rfl)
theorem dX5_seen_38 : decode cX5_seen 38 = .ok (.iload_n 2, 1) := dk_28 (dk_at dksX5_seen_1 14 rfl rfl)
theorem dX5_seen_39 : decode cX5_seen 39 = .ok (.if_icmp .ne 5, 3) := dk_160 0 5 (dk_at dksX5_seen_1 15 rfl rfl)
theorem dX5_seen_42 : decode cX5_seen 42 = .ok (.iconst (-1), 1) := dk_2 (dk_at dksX5_seen_1 18 rfl rfl)
theorem dX5_seen_43 : decode cX5_seen 43 = .ok (.ireturn, 1) := dk_172 (dk_at dksX5_seen_1 19 rfl rfl)
theorem dX5_seen_44 : decode cX5_seen 44 = .ok (.aload_n 0, 1) := dk_42 (dk_at dksX5_seen_1 20 rfl rfl)
theorem dX5_seen_45 : decode cX5_seen 45 = .ok (.getfield 33, 3) := dk_180 0 33 (dk_at dksX5_seen_1 21 rfl rfl)
theorem dX5_seen_48 : decode cX5_seen 48 = .ok (.sipush 169, 3) := dk_17 0 169 (dk_at dksX5_seen_2 0 rfl rfl)
theorem dX5_seen_51 : decode cX5_seen 51 = .ok (.iload_n 1, 1) := dk_27 (dk_at dksX5_seen_2 3 rfl rfl)
theorem dX5_seen_52 : decode cX5_seen 52 = .ok (.iadd, 1) := dk_96 (dk_at dksX5_seen_2 4 rfl rfl)
theorem dX5_seen_53 : decode cX5_seen 53 = .ok (.iaload, 1) := dk_46 (dk_at dksX5_seen_2 5 rfl rfl)
theorem dX5_seen_54 : decode cX5_seen 54 = .ok (.istore_n 3, 1) := dk_62 (dk_at dksX5_seen_2 6 rfl rfl)
theorem dX5_seen_55 : decode cX5_seen 55 = .ok (.aload_n 0, 1) := dk_42 (dk_at dksX5_seen_2 7 rfl rfl)
theorem dX5_seen_56 : decode cX5_seen 56 = .ok (.getfield 33, 3) := dk_180 0 33 (dk_at dksX5_seen_2 8 rfl rfl)
theorem dX5_seen_59 : decode cX5_seen 59 = .ok (.sipush 169, 3) := dk_17 0 169 (dk_at dksX5_seen_2 11 rfl rfl)
theorem dX5_seen_62 : decode cX5_seen 62 = .ok (.iload_n 2, 1) := dk_28 (dk_at dksX5_seen_2 14 rfl rfl)
theorem dX5_seen_63 : decode cX5_seen 63 = .ok (.iadd, 1) := dk_96 (dk_at dksX5_seen_2 15 rfl rfl)
theorem dX5_seen_64 : decode cX5_seen 64 = .ok (.iaload, 1) := dk_46 (dk_at dksX5_seen_2 16 rfl rfl)
theorem dX5_seen_65 : decode cX5_seen 65 = .ok (.istore 4, 2) := dk_54 4 (dk_at dksX5_seen_2 17 rfl rfl)
theorem dX5_seen_67 : decode cX5_seen 67 = .ok (.iconst 0, 1) := dk_3 (dk_at dksX5_seen_2 19 rfl rfl)
theorem dX5_seen_68 : decode cX5_seen 68 = .ok (.istore 5, 2) := dk_54 5 (dk_at dksX5_seen_2 20 rfl rfl)
theorem dX5_seen_70 : decode cX5_seen 70 = .ok (.iload 5, 2) := dk_21 5 (dk_at dksX5_seen_2 22 rfl rfl)
theorem dX5_seen_72 : decode cX5_seen 72 = .ok (.iconst 4, 1) := dk_7 (dk_at dksX5_seen_3 0 rfl rfl)
theorem dX5_seen_73 : decode cX5_seen 73 = .ok (.if_icmp .ge 23, 3) := dk_162 0 23 (dk_at dksX5_seen_3 1 rfl rfl)
theorem dX5_seen_76 : decode cX5_seen 76 = .ok (.aload_n 0, 1) := dk_42 (dk_at dksX5_seen_3 4 rfl rfl)
theorem dX5_seen_77 : decode cX5_seen 77 = .ok (.iload_n 3, 1) := dk_29 (dk_at dksX5_seen_3 5 rfl rfl)
theorem dX5_seen_78 : decode cX5_seen 78 = .ok (.iload 5, 2) := dk_21 5 (dk_at dksX5_seen_3 6 rfl rfl)
theorem dX5_seen_80 : decode cX5_seen 80 = .ok (.invokevirtual 332, 3) := dk_182 1 76 (dk_at dksX5_seen_3 8 rfl rfl)
theorem dX5_seen_83 : decode cX5_seen 83 = .ok (.iload 4, 2) := dk_21 4 (dk_at dksX5_seen_3 11 rfl rfl)
theorem dX5_seen_85 : decode cX5_seen 85 = .ok (.if_icmp .ne 5, 3) := dk_160 0 5 (dk_at dksX5_seen_3 13 rfl rfl)
theorem dX5_seen_88 : decode cX5_seen 88 = .ok (.iconst (-1), 1) := dk_2 (dk_at dksX5_seen_3 16 rfl rfl)
theorem dX5_seen_89 : decode cX5_seen 89 = .ok (.ireturn, 1) := dk_172 (dk_at dksX5_seen_3 17 rfl rfl)
theorem dX5_seen_90 : decode cX5_seen 90 = .ok (.iinc 5 1, 3) := dk_132 5 1 (dk_at dksX5_seen_3 18 rfl rfl)
theorem dX5_seen_93 : decode cX5_seen 93 = .ok (.goto (-23), 3) := dk_167 255 233 (dk_at dksX5_seen_3 21 rfl rfl)
theorem dX5_seen_96 : decode cX5_seen 96 = .ok (.iconst 0, 1) := dk_3 (dk_at dksX5_seen_4 0 rfl rfl)
theorem dX5_seen_97 : decode cX5_seen 97 = .ok (.istore 5, 2) := dk_54 5 (dk_at dksX5_seen_4 1 rfl rfl)
theorem dX5_seen_99 : decode cX5_seen 99 = .ok (.iload 5, 2) := dk_21 5 (dk_at dksX5_seen_4 3 rfl rfl)
theorem dX5_seen_101 : decode cX5_seen 101 = .ok (.sipush 144, 3) := dk_17 0 144 (dk_at dksX5_seen_4 5 rfl rfl)
theorem dX5_seen_104 : decode cX5_seen 104 = .ok (.if_icmp .ge 17, 3) := dk_162 0 17 (dk_at dksX5_seen_4 8 rfl rfl)
theorem dX5_seen_107 : decode cX5_seen 107 = .ok (.aload_n 0, 1) := dk_42 (dk_at dksX5_seen_4 11 rfl rfl)
theorem dX5_seen_108 : decode cX5_seen 108 = .ok (.getfield 90, 3) := dk_180 0 90 (dk_at dksX5_seen_4 12 rfl rfl)
theorem dX5_seen_111 : decode cX5_seen 111 = .ok (.iload 5, 2) := dk_21 5 (dk_at dksX5_seen_4 15 rfl rfl)
theorem dX5_seen_113 : decode cX5_seen 113 = .ok (.iconst 0, 1) := dk_3 (dk_at dksX5_seen_4 17 rfl rfl)
theorem dX5_seen_114 : decode cX5_seen 114 = .ok (.bastore, 1) := dk_84 (dk_at dksX5_seen_4 18 rfl rfl)
theorem dX5_seen_115 : decode cX5_seen 115 = .ok (.iinc 5 1, 3) := dk_132 5 1 (dk_at dksX5_seen_4 19 rfl rfl)
theorem dX5_seen_118 : decode cX5_seen 118 = .ok (.goto (-19), 3) := dk_167 255 237 (dk_at dksX5_seen_5 0 rfl rfl)
theorem dX5_seen_121 : decode cX5_seen 121 = .ok (.aload_n 0, 1) := dk_42 (dk_at dksX5_seen_5 3 rfl rfl)
theorem dX5_seen_122 : decode cX5_seen 122 = .ok (.iload_n 3, 1) := dk_29 (dk_at dksX5_seen_5 4 rfl rfl)
theorem dX5_seen_123 : decode cX5_seen 123 = .ok (.iload 4, 2) := dk_21 4 (dk_at dksX5_seen_5 5 rfl rfl)
theorem dX5_seen_125 : decode cX5_seen 125 = .ok (.invokevirtual 368, 3) := dk_182 1 112 (dk_at dksX5_seen_5 7 rfl rfl)
theorem dX5_seen_128 : decode cX5_seen 128 = .ok (.istore 5, 2) := dk_54 5 (dk_at dksX5_seen_5 10 rfl rfl)
theorem dX5_seen_130 : decode cX5_seen 130 = .ok (.aload_n 0, 1) := dk_42 (dk_at dksX5_seen_5 12 rfl rfl)
theorem dX5_seen_131 : decode cX5_seen 131 = .ok (.iconst 0, 1) := dk_3 (dk_at dksX5_seen_5 13 rfl rfl)
theorem dX5_seen_132 : decode cX5_seen 132 = .ok (.putfield 371, 3) := dk_181 1 115 (dk_at dksX5_seen_5 14 rfl rfl)
theorem dX5_seen_135 : decode cX5_seen 135 = .ok (.iconst 0, 1) := dk_3 (dk_at dksX5_seen_5 17 rfl rfl)
theorem dX5_seen_136 : decode cX5_seen 136 = .ok (.istore 6, 2) := dk_54 6 (dk_at dksX5_seen_5 18 rfl rfl)
theorem dX5_seen_138 : decode cX5_seen 138 = .ok (.iload 6, 2) := dk_21 6 (dk_at dksX5_seen_5 20 rfl rfl)
theorem dX5_seen_140 : decode cX5_seen 140 = .ok (.sipush 144, 3) := dk_17 0 144 (dk_at dksX5_seen_6 0 rfl rfl)
theorem dX5_seen_143 : decode cX5_seen 143 = .ok (.if_icmp .ge 108, 3) := dk_162 0 108 (dk_at dksX5_seen_6 3 rfl rfl)
theorem dX5_seen_146 : decode cX5_seen 146 = .ok (.iload 5, 2) := dk_21 5 (dk_at dksX5_seen_6 6 rfl rfl)
theorem dX5_seen_148 : decode cX5_seen 148 = .ok (.ifCond .le 103, 3) := dk_158 0 103 (dk_at dksX5_seen_6 8 rfl rfl)
theorem dX5_seen_151 : decode cX5_seen 151 = .ok (.aload_n 0, 1) := dk_42 (dk_at dksX5_seen_6 11 rfl rfl)
theorem dX5_seen_152 : decode cX5_seen 152 = .ok (.iload 6, 2) := dk_21 6 (dk_at dksX5_seen_6 12 rfl rfl)
theorem dX5_seen_154 : decode cX5_seen 154 = .ok (.invokevirtual 266, 3) := dk_182 1 10 (dk_at dksX5_seen_6 14 rfl rfl)
theorem dX5_seen_157 : decode cX5_seen 157 = .ok (.ifCond .eq 88, 3) := dk_153 0 88 (dk_at dksX5_seen_6 17 rfl rfl)
theorem dX5_seen_160 : decode cX5_seen 160 = .ok (.aload_n 0, 1) := dk_42 (dk_at dksX5_seen_6 20 rfl rfl)
theorem dX5_seen_161 : decode cX5_seen 161 = .ok (.getfield 33, 3) := dk_180 0 33 (dk_at dksX5_seen_6 21 rfl rfl)
theorem dX5_seen_164 : decode cX5_seen 164 = .ok (.bipush 25, 2) := dk_16 25 (dk_at dksX5_seen_7 0 rfl rfl)
theorem dX5_seen_166 : decode cX5_seen 166 = .ok (.iload 6, 2) := dk_21 6 (dk_at dksX5_seen_7 2 rfl rfl)
theorem dX5_seen_168 : decode cX5_seen 168 = .ok (.iadd, 1) := dk_96 (dk_at dksX5_seen_7 4 rfl rfl)
theorem dX5_seen_169 : decode cX5_seen 169 = .ok (.iaload, 1) := dk_46 (dk_at dksX5_seen_7 5 rfl rfl)
theorem dX5_seen_170 : decode cX5_seen 170 = .ok (.iconst 1, 1) := dk_4 (dk_at dksX5_seen_7 6 rfl rfl)
theorem dX5_seen_171 : decode cX5_seen 171 = .ok (.if_icmp .eq 74, 3) := dk_159 0 74 (dk_at dksX5_seen_7 7 rfl rfl)
theorem dX5_seen_174 : decode cX5_seen 174 = .ok (.iload 6, 2) := dk_21 6 (dk_at dksX5_seen_7 10 rfl rfl)
theorem dX5_seen_176 : decode cX5_seen 176 = .ok (.iload_n 3, 1) := dk_29 (dk_at dksX5_seen_7 12 rfl rfl)
theorem dX5_seen_177 : decode cX5_seen 177 = .ok (.if_icmp .eq 68, 3) := dk_159 0 68 (dk_at dksX5_seen_7 13 rfl rfl)
theorem dX5_seen_180 : decode cX5_seen 180 = .ok (.iload 6, 2) := dk_21 6 (dk_at dksX5_seen_7 16 rfl rfl)
theorem dX5_seen_182 : decode cX5_seen 182 = .ok (.iload 4, 2) := dk_21 4 (dk_at dksX5_seen_7 18 rfl rfl)
theorem dX5_seen_184 : decode cX5_seen 184 = .ok (.if_icmp .ne 6, 3) := dk_160 0 6 (dk_at dksX5_seen_7 20 rfl rfl)
theorem dX5_seen_187 : decode cX5_seen 187 = .ok (.goto 58, 3) := dk_167 0 58 (dk_at dksX5_seen_8 0 rfl rfl)
theorem dX5_seen_190 : decode cX5_seen 190 = .ok (.aload_n 0, 1) := dk_42 (dk_at dksX5_seen_8 3 rfl rfl)
theorem dX5_seen_191 : decode cX5_seen 191 = .ok (.getfield 90, 3) := dk_180 0 90 (dk_at dksX5_seen_8 4 rfl rfl)
theorem dX5_seen_194 : decode cX5_seen 194 = .ok (.iload 6, 2) := dk_21 6 (dk_at dksX5_seen_8 7 rfl rfl)
theorem dX5_seen_196 : decode cX5_seen 196 = .ok (.iconst 1, 1) := dk_4 (dk_at dksX5_seen_8 9 rfl rfl)
theorem dX5_seen_197 : decode cX5_seen 197 = .ok (.bastore, 1) := dk_84 (dk_at dksX5_seen_8 10 rfl rfl)
theorem dX5_seen_198 : decode cX5_seen 198 = .ok (.aload_n 0, 1) := dk_42 (dk_at dksX5_seen_8 11 rfl rfl)
theorem dX5_seen_199 : decode cX5_seen 199 = .ok (.iload_n 3, 1) := dk_29 (dk_at dksX5_seen_8 12 rfl rfl)
theorem dX5_seen_200 : decode cX5_seen 200 = .ok (.iload 4, 2) := dk_21 4 (dk_at dksX5_seen_8 13 rfl rfl)
theorem dX5_seen_202 : decode cX5_seen 202 = .ok (.invokevirtual 368, 3) := dk_182 1 112 (dk_at dksX5_seen_8 15 rfl rfl)
theorem dX5_seen_205 : decode cX5_seen 205 = .ok (.iload 5, 2) := dk_21 5 (dk_at dksX5_seen_8 18 rfl rfl)
theorem dX5_seen_207 : decode cX5_seen 207 = .ok (.if_icmp .ge 30, 3) := dk_162 0 30 (dk_at dksX5_seen_8 20 rfl rfl)
theorem dX5_seen_210 : decode cX5_seen 210 = .ok (.iinc 5 (-1), 3) := dk_132 5 255 (dk_at dksX5_seen_9 0 rfl rfl)
theorem dX5_seen_213 : decode cX5_seen 213 = .ok (.aload_n 0, 1) := dk_42 (dk_at dksX5_seen_9 3 rfl rfl)
theorem dX5_seen_214 : decode cX5_seen 214 = .ok (.getfield 87, 3) := dk_180 0 87 (dk_at dksX5_seen_9 4 rfl rfl)
theorem dX5_seen_217 : decode cX5_seen 217 = .ok (.aload_n 0, 1) := dk_42 (dk_at dksX5_seen_9 7 rfl rfl)
theorem dX5_seen_218 : decode cX5_seen 218 = .ok (.getfield 371, 3) := dk_180 1 115 (dk_at dksX5_seen_9 8 rfl rfl)
theorem dX5_seen_221 : decode cX5_seen 221 = .ok (.iload 6, 2) := dk_21 6 (dk_at dksX5_seen_9 11 rfl rfl)
theorem dX5_seen_223 : decode cX5_seen 223 = .ok (.iastore, 1) := dk_79 (dk_at dksX5_seen_9 13 rfl rfl)
theorem dX5_seen_224 : decode cX5_seen 224 = .ok (.aload_n 0, 1) := dk_42 (dk_at dksX5_seen_9 14 rfl rfl)
theorem dX5_seen_225 : decode cX5_seen 225 = .ok (.dup, 1) := dk_89 (dk_at dksX5_seen_9 15 rfl rfl)
theorem dX5_seen_226 : decode cX5_seen 226 = .ok (.getfield 371, 3) := dk_180 1 115 (dk_at dksX5_seen_9 16 rfl rfl)
theorem dX5_seen_229 : decode cX5_seen 229 = .ok (.iconst 1, 1) := dk_4 (dk_at dksX5_seen_9 19 rfl rfl)
theorem dX5_seen_230 : decode cX5_seen 230 = .ok (.iadd, 1) := dk_96 (dk_at dksX5_seen_9 20 rfl rfl)
theorem dX5_seen_231 : decode cX5_seen 231 = .ok (.putfield 371, 3) := dk_181 1 115 (dk_at dksX5_seen_9 21 rfl rfl)
theorem dX5_seen_234 : decode cX5_seen 234 = .ok (.goto 11, 3) := dk_167 0 11 (dk_at dksX5_seen_10 0 rfl rfl)
theorem dX5_seen_237 : decode cX5_seen 237 = .ok (.aload_n 0, 1) := dk_42 (dk_at dksX5_seen_10 3 rfl rfl)
theorem dX5_seen_238 : decode cX5_seen 238 = .ok (.getfield 90, 3) := dk_180 0 90 (dk_at dksX5_seen_10 4 rfl rfl)
theorem dX5_seen_241 : decode cX5_seen 241 = .ok (.iload 6, 2) := dk_21 6 (dk_at dksX5_seen_10 7 rfl rfl)
theorem dX5_seen_243 : decode cX5_seen 243 = .ok (.iconst 0, 1) := dk_3 (dk_at dksX5_seen_10 9 rfl rfl)
theorem dX5_seen_244 : decode cX5_seen 244 = .ok (.bastore, 1) := dk_84 (dk_at dksX5_seen_10 10 rfl rfl)
theorem dX5_seen_245 : decode cX5_seen 245 = .ok (.iinc 6 1, 3) := dk_132 6 1 (dk_at dksX5_seen_10 11 rfl rfl)
theorem dX5_seen_248 : decode cX5_seen 248 = .ok (.goto (-110), 3) := dk_167 255 146 (dk_at dksX5_seen_10 14 rfl rfl)
theorem dX5_seen_251 : decode cX5_seen 251 = .ok (.aload_n 0, 1) := dk_42 (dk_at dksX5_seen_10 17 rfl rfl)
theorem dX5_seen_252 : decode cX5_seen 252 = .ok (.getfield 371, 3) := dk_180 1 115 (dk_at dksX5_seen_10 18 rfl rfl)
theorem dX5_seen_255 : decode cX5_seen 255 = .ok (.ireturn, 1) := dk_172 (dk_at dksX5_seen_10 21 rfl rfl)
abbrev cX5_rowsBetween : ByteArray := prog_19_method_78_code
def yX5_rowsBetween : MethodName := ⟨RX5, "rowsBetween", "(II)I"⟩
def dkwX5_rowsBetween_3 : List UInt8 := [3, 62, 42, 27, 28, 182, 1, 109, 153, 0, 9, 132, 3, 1, 167, 255, 244, 29, 172]
abbrev dktX5_rowsBetween_3 : List UInt8 := dkwX5_rowsBetween_3 ++ []
def dkwX5_rowsBetween_2 : List UInt8 := [16, 25, 27, 96, 46, 4, 159, 0, 16, 42, 180, 0, 33, 16, 25, 28, 96, 46, 4, 160, 0, 5, 3, 172]
abbrev dktX5_rowsBetween_2 : List UInt8 := dkwX5_rowsBetween_2 ++ dktX5_rowsBetween_3
def dkwX5_rowsBetween_1 : List UInt8 := [29, 17, 0, 144, 162, 0, 16, 42, 180, 0, 78, 29, 3, 79, 132, 3, 1, 167, 255, 239, 42, 180, 0, 33]
abbrev dktX5_rowsBetween_1 : List UInt8 := dkwX5_rowsBetween_1 ++ dktX5_rowsBetween_2
def dkwX5_rowsBetween_0 : List UInt8 := [3, 62, 29, 17, 2, 64, 162, 0, 16, 42, 180, 0, 75, 29, 3, 79, 132, 3, 1, 167, 255, 239, 3, 62]
abbrev dktX5_rowsBetween_0 : List UInt8 := dkwX5_rowsBetween_0 ++ dktX5_rowsBetween_1
theorem dksX5_rowsBetween_0 : cX5_rowsBetween.data.toList.drop 0 = dktX5_rowsBetween_0 := by decide +kernel
theorem dksX5_rowsBetween_1 : cX5_rowsBetween.data.toList.drop 24 = dktX5_rowsBetween_1 := dk_seg dksX5_rowsBetween_0 24 rfl rfl
theorem dksX5_rowsBetween_2 : cX5_rowsBetween.data.toList.drop 48 = dktX5_rowsBetween_2 := dk_seg dksX5_rowsBetween_1 24 rfl rfl
theorem dksX5_rowsBetween_3 : cX5_rowsBetween.data.toList.drop 72 = dktX5_rowsBetween_3 := dk_seg dksX5_rowsBetween_2 24 rfl rfl
theorem dX5_rowsBetween_0 : decode cX5_rowsBetween 0 = .ok (.iconst 0, 1) := dk_3 (dk_at dksX5_rowsBetween_0 0 rfl rfl)
theorem dX5_rowsBetween_1 : decode cX5_rowsBetween 1 = .ok (.istore_n 3, 1) := dk_62 (dk_at dksX5_rowsBetween_0 1 rfl rfl)
theorem dX5_rowsBetween_2 : decode cX5_rowsBetween 2 = .ok (.iload_n 3, 1) := dk_29 (dk_at dksX5_rowsBetween_0 2 rfl rfl)
theorem dX5_rowsBetween_3 : decode cX5_rowsBetween 3 = .ok (.sipush 576, 3) := dk_17 2 64 (dk_at dksX5_rowsBetween_0 3 rfl rfl)
theorem dX5_rowsBetween_6 : decode cX5_rowsBetween 6 = .ok (.if_icmp .ge 16, 3) := dk_162 0 16 (dk_at dksX5_rowsBetween_0 6 rfl rfl)
theorem dX5_rowsBetween_9 : decode cX5_rowsBetween 9 = .ok (.aload_n 0, 1) := dk_42 (dk_at dksX5_rowsBetween_0 9 rfl rfl)
theorem dX5_rowsBetween_10 : decode cX5_rowsBetween 10 = .ok (.getfield 75, 3) := dk_180 0 75 (dk_at dksX5_rowsBetween_0 10 rfl rfl)
theorem dX5_rowsBetween_13 : decode cX5_rowsBetween 13 = .ok (.iload_n 3, 1) := dk_29 (dk_at dksX5_rowsBetween_0 13 rfl rfl)
theorem dX5_rowsBetween_14 : decode cX5_rowsBetween 14 = .ok (.iconst 0, 1) := dk_3 (dk_at dksX5_rowsBetween_0 14 rfl rfl)
theorem dX5_rowsBetween_15 : decode cX5_rowsBetween 15 = .ok (.iastore, 1) := dk_79 (dk_at dksX5_rowsBetween_0 15 rfl rfl)
theorem dX5_rowsBetween_16 : decode cX5_rowsBetween 16 = .ok (.iinc 3 1, 3) := dk_132 3 1 (dk_at dksX5_rowsBetween_0 16 rfl rfl)
theorem dX5_rowsBetween_19 : decode cX5_rowsBetween 19 = .ok (.goto (-17), 3) := dk_167 255 239 (dk_at dksX5_rowsBetween_0 19 rfl rfl)
theorem dX5_rowsBetween_22 : decode cX5_rowsBetween 22 = .ok (.iconst 0, 1) := dk_3 (dk_at dksX5_rowsBetween_0 22 rfl rfl)
theorem dX5_rowsBetween_23 : decode cX5_rowsBetween 23 = .ok (.istore_n 3, 1) := dk_62 (dk_at dksX5_rowsBetween_0 23 rfl rfl)
theorem dX5_rowsBetween_24 : decode cX5_rowsBetween 24 = .ok (.iload_n 3, 1) := dk_29 (dk_at dksX5_rowsBetween_1 0 rfl rfl)
theorem dX5_rowsBetween_25 : decode cX5_rowsBetween 25 = .ok (.sipush 144, 3) := dk_17 0 144 (dk_at dksX5_rowsBetween_1 1 rfl rfl)
theorem dX5_rowsBetween_28 : decode cX5_rowsBetween 28 = .ok (.if_icmp .ge 16, 3) := dk_162 0 16 (dk_at dksX5_rowsBetween_1 4 rfl rfl)
theorem dX5_rowsBetween_31 : decode cX5_rowsBetween 31 = .ok (.aload_n 0, 1) := dk_42 (dk_at dksX5_rowsBetween_1 7 rfl rfl)
theorem dX5_rowsBetween_32 : decode cX5_rowsBetween 32 = .ok (.getfield 78, 3) := dk_180 0 78 (dk_at dksX5_rowsBetween_1 8 rfl rfl)
theorem dX5_rowsBetween_35 : decode cX5_rowsBetween 35 = .ok (.iload_n 3, 1) := dk_29 (dk_at dksX5_rowsBetween_1 11 rfl rfl)
theorem dX5_rowsBetween_36 : decode cX5_rowsBetween 36 = .ok (.iconst 0, 1) := dk_3 (dk_at dksX5_rowsBetween_1 12 rfl rfl)
theorem dX5_rowsBetween_37 : decode cX5_rowsBetween 37 = .ok (.iastore, 1) := dk_79 (dk_at dksX5_rowsBetween_1 13 rfl rfl)
theorem dX5_rowsBetween_38 : decode cX5_rowsBetween 38 = .ok (.iinc 3 1, 3) := dk_132 3 1 (dk_at dksX5_rowsBetween_1 14 rfl rfl)
theorem dX5_rowsBetween_41 : decode cX5_rowsBetween 41 = .ok (.goto (-17), 3) := dk_167 255 239 (dk_at dksX5_rowsBetween_1 17 rfl rfl)
theorem dX5_rowsBetween_44 : decode cX5_rowsBetween 44 = .ok (.aload_n 0, 1) := dk_42 (dk_at dksX5_rowsBetween_1 20 rfl rfl)
theorem dX5_rowsBetween_45 : decode cX5_rowsBetween 45 = .ok (.getfield 33, 3) := dk_180 0 33 (dk_at dksX5_rowsBetween_1 21 rfl rfl)
theorem dX5_rowsBetween_48 : decode cX5_rowsBetween 48 = .ok (.bipush 25, 2) := dk_16 25 (dk_at dksX5_rowsBetween_2 0 rfl rfl)
theorem dX5_rowsBetween_50 : decode cX5_rowsBetween 50 = .ok (.iload_n 1, 1) := dk_27 (dk_at dksX5_rowsBetween_2 2 rfl rfl)
theorem dX5_rowsBetween_51 : decode cX5_rowsBetween 51 = .ok (.iadd, 1) := dk_96 (dk_at dksX5_rowsBetween_2 3 rfl rfl)
theorem dX5_rowsBetween_52 : decode cX5_rowsBetween 52 = .ok (.iaload, 1) := dk_46 (dk_at dksX5_rowsBetween_2 4 rfl rfl)
theorem dX5_rowsBetween_53 : decode cX5_rowsBetween 53 = .ok (.iconst 1, 1) := dk_4 (dk_at dksX5_rowsBetween_2 5 rfl rfl)
theorem dX5_rowsBetween_54 : decode cX5_rowsBetween 54 = .ok (.if_icmp .eq 16, 3) := dk_159 0 16 (dk_at dksX5_rowsBetween_2 6 rfl rfl)
theorem dX5_rowsBetween_57 : decode cX5_rowsBetween 57 = .ok (.aload_n 0, 1) := dk_42 (dk_at dksX5_rowsBetween_2 9 rfl rfl)
theorem dX5_rowsBetween_58 : decode cX5_rowsBetween 58 = .ok (.getfield 33, 3) := dk_180 0 33 (dk_at dksX5_rowsBetween_2 10 rfl rfl)
theorem dX5_rowsBetween_61 : decode cX5_rowsBetween 61 = .ok (.bipush 25, 2) := dk_16 25 (dk_at dksX5_rowsBetween_2 13 rfl rfl)
theorem dX5_rowsBetween_63 : decode cX5_rowsBetween 63 = .ok (.iload_n 2, 1) := dk_28 (dk_at dksX5_rowsBetween_2 15 rfl rfl)
theorem dX5_rowsBetween_64 : decode cX5_rowsBetween 64 = .ok (.iadd, 1) := dk_96 (dk_at dksX5_rowsBetween_2 16 rfl rfl)
theorem dX5_rowsBetween_65 : decode cX5_rowsBetween 65 = .ok (.iaload, 1) := dk_46 (dk_at dksX5_rowsBetween_2 17 rfl rfl)
theorem dX5_rowsBetween_66 : decode cX5_rowsBetween 66 = .ok (.iconst 1, 1) := dk_4 (dk_at dksX5_rowsBetween_2 18 rfl rfl)
theorem dX5_rowsBetween_67 : decode cX5_rowsBetween 67 = .ok (.if_icmp .ne 5, 3) := dk_160 0 5 (dk_at dksX5_rowsBetween_2 19 rfl rfl)
theorem dX5_rowsBetween_70 : decode cX5_rowsBetween 70 = .ok (.iconst 0, 1) := dk_3 (dk_at dksX5_rowsBetween_2 22 rfl rfl)
theorem dX5_rowsBetween_71 : decode cX5_rowsBetween 71 = .ok (.ireturn, 1) := dk_172 (dk_at dksX5_rowsBetween_2 23 rfl rfl)
theorem dX5_rowsBetween_72 : decode cX5_rowsBetween 72 = .ok (.iconst 0, 1) := dk_3 (dk_at dksX5_rowsBetween_3 0 rfl rfl)
theorem dX5_rowsBetween_73 : decode cX5_rowsBetween 73 = .ok (.istore_n 3, 1) := dk_62 (dk_at dksX5_rowsBetween_3 1 rfl rfl)
theorem dX5_rowsBetween_74 : decode cX5_rowsBetween 74 = .ok (.aload_n 0, 1) := dk_42 (dk_at dksX5_rowsBetween_3 2 rfl rfl)
theorem dX5_rowsBetween_75 : decode cX5_rowsBetween 75 = .ok (.iload_n 1, 1) := dk_27 (dk_at dksX5_rowsBetween_3 3 rfl rfl)
theorem dX5_rowsBetween_76 : decode cX5_rowsBetween 76 = .ok (.iload_n 2, 1) := dk_28 (dk_at dksX5_rowsBetween_3 4 rfl rfl)
theorem dX5_rowsBetween_77 : decode cX5_rowsBetween 77 = .ok (.invokevirtual 365, 3) := dk_182 1 109 (dk_at dksX5_rowsBetween_3 5 rfl rfl)
theorem dX5_rowsBetween_80 : decode cX5_rowsBetween 80 = .ok (.ifCond .eq 9, 3) := dk_153 0 9 (dk_at dksX5_rowsBetween_3 8 rfl rfl)
theorem dX5_rowsBetween_83 : decode cX5_rowsBetween 83 = .ok (.iinc 3 1, 3) := dk_132 3 1 (dk_at dksX5_rowsBetween_3 11 rfl rfl)
theorem dX5_rowsBetween_86 : decode cX5_rowsBetween 86 = .ok (.goto (-12), 3) := dk_167 255 244 (dk_at dksX5_rowsBetween_3 14 rfl rfl)
theorem dX5_rowsBetween_89 : decode cX5_rowsBetween 89 = .ok (.iload_n 3, 1) := dk_29 (dk_at dksX5_rowsBetween_3 17 rfl rfl)
theorem dX5_rowsBetween_90 : decode cX5_rowsBetween 90 = .ok (.ireturn, 1) := dk_172 (dk_at dksX5_rowsBetween_3 18 rfl rfl)
abbrev cX5_runsMore : ByteArray := prog_19_method_76_code
def yX5_runsMore : MethodName := ⟨RX5, "runsMore", "(II)Z"⟩
def dkwX5_runsMore_12 : List UInt8 := [132, 5, 1, 167, 255, 196, 132, 3, 1, 167, 255, 9, 3, 172]
abbrev dktX5_runsMore_12 : List UInt8 := dkwX5_runsMore_12 ++ []
def dkwX5_runsMore_11 : List UInt8 := [96, 46, 4, 160, 0, 19, 42, 5, 21, 6, 104, 4, 96, 42, 180, 0, 84, 29, 46, 182, 1, 100]
abbrev dktX5_runsMore_11 : List UInt8 := dkwX5_runsMore_11 ++ dktX5_runsMore_12
def dkwX5_runsMore_10 : List UInt8 := [182, 1, 76, 54, 6, 21, 6, 155, 0, 39, 42, 180, 0, 75, 7, 21, 6, 104, 21, 5, 5, 96, 7, 112]
abbrev dktX5_runsMore_10 : List UInt8 := dkwX5_runsMore_10 ++ dktX5_runsMore_11
def dkwX5_runsMore_9 : List UInt8 := [42, 180, 0, 84, 29, 46, 182, 1, 100, 3, 54, 5, 21, 5, 7, 162, 0, 60, 42, 21, 4, 21, 5]
abbrev dktX5_runsMore_9 : List UInt8 := dkwX5_runsMore_9 ++ dktX5_runsMore_10
def dkwX5_runsMore_8 : List UInt8 := [46, 182, 1, 100, 167, 0, 95, 42, 180, 0, 78, 21, 4, 46, 154, 0, 19, 42, 5, 21, 4, 104, 4, 96]
abbrev dktX5_runsMore_8 : List UInt8 := dkwX5_runsMore_8 ++ dktX5_runsMore_9
def dkwX5_runsMore_7 : List UInt8 := [159, 0, 123, 42, 180, 0, 78, 21, 4, 46, 4, 160, 0, 112, 42, 5, 21, 4, 104, 42, 180, 0, 84, 29]
abbrev dktX5_runsMore_7 : List UInt8 := dkwX5_runsMore_7 ++ dktX5_runsMore_8
def dkwX5_runsMore_6 : List UInt8 := [42, 5, 21, 6, 104, 42, 180, 0, 84, 29, 46, 182, 1, 100, 132, 5, 1, 167, 255, 193, 21, 4, 27]
abbrev dktX5_runsMore_6 : List UInt8 := dkwX5_runsMore_6 ++ dktX5_runsMore_7
def dkwX5_runsMore_5 : List UInt8 := [153, 0, 38, 21, 6, 27, 159, 0, 32, 42, 180, 0, 75, 7, 21, 4, 104, 21, 5, 96, 46, 154, 0, 17]
abbrev dktX5_runsMore_5 : List UInt8 := dkwX5_runsMore_5 ++ dktX5_runsMore_6
def dkwX5_runsMore_4 : List UInt8 := [54, 5, 21, 5, 7, 162, 0, 63, 42, 21, 4, 21, 5, 182, 1, 76, 54, 6, 42, 21, 6, 182, 1, 106]
abbrev dktX5_runsMore_4 : List UInt8 := dkwX5_runsMore_4 ++ dktX5_runsMore_5
def dkwX5_runsMore_3 : List UInt8 := [160, 0, 10, 42, 27, 28, 182, 1, 103, 172, 42, 180, 0, 84, 29, 46, 5, 112, 4, 160, 0, 106, 3]
abbrev dktX5_runsMore_3 : List UInt8 := dkwX5_runsMore_3 ++ dktX5_runsMore_4
def dkwX5_runsMore_2 : List UInt8 := [162, 0, 245, 42, 180, 0, 84, 29, 46, 5, 108, 54, 4, 42, 180, 0, 84, 29, 46, 5, 28, 104]
abbrev dktX5_runsMore_2 : List UInt8 := dkwX5_runsMore_2 ++ dktX5_runsMore_3
def dkwX5_runsMore_1 : List UInt8 := [181, 1, 97, 42, 5, 27, 104, 4, 96, 5, 27, 104, 4, 96, 182, 1, 100, 3, 62, 29, 42, 180, 1, 97]
abbrev dktX5_runsMore_1 : List UInt8 := dkwX5_runsMore_1 ++ dktX5_runsMore_2
def dkwX5_runsMore_0 : List UInt8 := [3, 62, 29, 17, 1, 32, 162, 0, 16, 42, 180, 0, 81, 29, 2, 79, 132, 3, 1, 167, 255, 239, 42, 3]
abbrev dktX5_runsMore_0 : List UInt8 := dkwX5_runsMore_0 ++ dktX5_runsMore_1
theorem dksX5_runsMore_0 : cX5_runsMore.data.toList.drop 0 = dktX5_runsMore_0 := by decide +kernel
theorem dksX5_runsMore_1 : cX5_runsMore.data.toList.drop 24 = dktX5_runsMore_1 := dk_seg dksX5_runsMore_0 24 rfl rfl
theorem dksX5_runsMore_2 : cX5_runsMore.data.toList.drop 48 = dktX5_runsMore_2 := dk_seg dksX5_runsMore_1 24 rfl rfl
theorem dksX5_runsMore_3 : cX5_runsMore.data.toList.drop 70 = dktX5_runsMore_3 := dk_seg dksX5_runsMore_2 22 rfl rfl
theorem dksX5_runsMore_4 : cX5_runsMore.data.toList.drop 93 = dktX5_runsMore_4 := dk_seg dksX5_runsMore_3 23 rfl rfl
theorem dksX5_runsMore_5 : cX5_runsMore.data.toList.drop 117 = dktX5_runsMore_5 := dk_seg dksX5_runsMore_4 24 rfl rfl
theorem dksX5_runsMore_6 : cX5_runsMore.data.toList.drop 141 = dktX5_runsMore_6 := dk_seg dksX5_runsMore_5 24 rfl rfl
theorem dksX5_runsMore_7 : cX5_runsMore.data.toList.drop 164 = dktX5_runsMore_7 := dk_seg dksX5_runsMore_6 23 rfl rfl
theorem dksX5_runsMore_8 : cX5_runsMore.data.toList.drop 188 = dktX5_runsMore_8 := dk_seg dksX5_runsMore_7 24 rfl rfl
theorem dksX5_runsMore_9 : cX5_runsMore.data.toList.drop 212 = dktX5_runsMore_9 := dk_seg dksX5_runsMore_8 24 rfl rfl
theorem dksX5_runsMore_10 : cX5_runsMore.data.toList.drop 235 = dktX5_runsMore_10 := dk_seg dksX5_runsMore_9 23 rfl rfl
theorem dksX5_runsMore_11 : cX5_runsMore.data.toList.drop 259 = dktX5_runsMore_11 := dk_seg dksX5_runsMore_10 24 rfl rfl
theorem dksX5_runsMore_12 : cX5_runsMore.data.toList.drop 281 = dktX5_runsMore_12 := dk_seg dksX5_runsMore_11 22 rfl rfl
theorem dX5_runsMore_0 : decode cX5_runsMore 0 = .ok (.iconst 0, 1) := dk_3 (dk_at dksX5_runsMore_0 0 rfl rfl)
theorem dX5_runsMore_1 : decode cX5_runsMore 1 = .ok (.istore_n 3, 1) := dk_62 (dk_at dksX5_runsMore_0 1 rfl rfl)
theorem dX5_runsMore_2 : decode cX5_runsMore 2 = .ok (.iload_n 3, 1) := dk_29 (dk_at dksX5_runsMore_0 2 rfl rfl)
theorem dX5_runsMore_3 : decode cX5_runsMore 3 = .ok (.sipush 288, 3) := dk_17 1 32 (dk_at dksX5_runsMore_0 3 rfl rfl)
theorem dX5_runsMore_6 : decode cX5_runsMore 6 = .ok (.if_icmp .ge 16, 3) := dk_162 0 16 (dk_at dksX5_runsMore_0 6 rfl rfl)
theorem dX5_runsMore_9 : decode cX5_runsMore 9 = .ok (.aload_n 0, 1) := dk_42 (dk_at dksX5_runsMore_0 9 rfl rfl)
theorem dX5_runsMore_10 : decode cX5_runsMore 10 = .ok (.getfield 81, 3) := dk_180 0 81 (dk_at dksX5_runsMore_0 10 rfl rfl)
theorem dX5_runsMore_13 : decode cX5_runsMore 13 = .ok (.iload_n 3, 1) := dk_29 (dk_at dksX5_runsMore_0 13 rfl rfl)
theorem dX5_runsMore_14 : decode cX5_runsMore 14 = .ok (.iconst (-1), 1) := dk_2 (dk_at dksX5_runsMore_0 14 rfl rfl)
theorem dX5_runsMore_15 : decode cX5_runsMore 15 = .ok (.iastore, 1) := dk_79 (dk_at dksX5_runsMore_0 15 rfl rfl)
theorem dX5_runsMore_16 : decode cX5_runsMore 16 = .ok (.iinc 3 1, 3) := dk_132 3 1 (dk_at dksX5_runsMore_0 16 rfl rfl)
theorem dX5_runsMore_19 : decode cX5_runsMore 19 = .ok (.goto (-17), 3) := dk_167 255 239 (dk_at dksX5_runsMore_0 19 rfl rfl)
theorem dX5_runsMore_22 : decode cX5_runsMore 22 = .ok (.aload_n 0, 1) := dk_42 (dk_at dksX5_runsMore_0 22 rfl rfl)
theorem dX5_runsMore_23 : decode cX5_runsMore 23 = .ok (.iconst 0, 1) := dk_3 (dk_at dksX5_runsMore_0 23 rfl rfl)
theorem dX5_runsMore_24 : decode cX5_runsMore 24 = .ok (.putfield 353, 3) := dk_181 1 97 (dk_at dksX5_runsMore_1 0 rfl rfl)
theorem dX5_runsMore_27 : decode cX5_runsMore 27 = .ok (.aload_n 0, 1) := dk_42 (dk_at dksX5_runsMore_1 3 rfl rfl)
theorem dX5_runsMore_28 : decode cX5_runsMore 28 = .ok (.iconst 2, 1) := dk_5 (dk_at dksX5_runsMore_1 4 rfl rfl)
theorem dX5_runsMore_29 : decode cX5_runsMore 29 = .ok (.iload_n 1, 1) := dk_27 (dk_at dksX5_runsMore_1 5 rfl rfl)
theorem dX5_runsMore_30 : decode cX5_runsMore 30 = .ok (.imul, 1) := dk_104 (dk_at dksX5_runsMore_1 6 rfl rfl)
theorem dX5_runsMore_31 : decode cX5_runsMore 31 = .ok (.iconst 1, 1) := dk_4 (dk_at dksX5_runsMore_1 7 rfl rfl)
theorem dX5_runsMore_32 : decode cX5_runsMore 32 = .ok (.iadd, 1) := dk_96 (dk_at dksX5_runsMore_1 8 rfl rfl)
theorem dX5_runsMore_33 : decode cX5_runsMore 33 = .ok (.iconst 2, 1) := dk_5 (dk_at dksX5_runsMore_1 9 rfl rfl)
theorem dX5_runsMore_34 : decode cX5_runsMore 34 = .ok (.iload_n 1, 1) := dk_27 (dk_at dksX5_runsMore_1 10 rfl rfl)
theorem dX5_runsMore_35 : decode cX5_runsMore 35 = .ok (.imul, 1) := dk_104 (dk_at dksX5_runsMore_1 11 rfl rfl)
theorem dX5_runsMore_36 : decode cX5_runsMore 36 = .ok (.iconst 1, 1) := dk_4 (dk_at dksX5_runsMore_1 12 rfl rfl)
theorem dX5_runsMore_37 : decode cX5_runsMore 37 = .ok (.iadd, 1) := dk_96 (dk_at dksX5_runsMore_1 13 rfl rfl)
theorem dX5_runsMore_38 : decode cX5_runsMore 38 = .ok (.invokevirtual 356, 3) := dk_182 1 100 (dk_at dksX5_runsMore_1 14 rfl rfl)
theorem dX5_runsMore_41 : decode cX5_runsMore 41 = .ok (.iconst 0, 1) := dk_3 (dk_at dksX5_runsMore_1 17 rfl rfl)
theorem dX5_runsMore_42 : decode cX5_runsMore 42 = .ok (.istore_n 3, 1) := dk_62 (dk_at dksX5_runsMore_1 18 rfl rfl)
theorem dX5_runsMore_43 : decode cX5_runsMore 43 = .ok (.iload_n 3, 1) := dk_29 (dk_at dksX5_runsMore_1 19 rfl rfl)
theorem dX5_runsMore_44 : decode cX5_runsMore 44 = .ok (.aload_n 0, 1) := dk_42 (dk_at dksX5_runsMore_1 20 rfl rfl)
theorem dX5_runsMore_45 : decode cX5_runsMore 45 = .ok (.getfield 353, 3) := dk_180 1 97 (dk_at dksX5_runsMore_1 21 rfl rfl)
theorem dX5_runsMore_48 : decode cX5_runsMore 48 = .ok (.if_icmp .ge 245, 3) := dk_162 0 245 (dk_at dksX5_runsMore_2 0 rfl rfl)
theorem dX5_runsMore_51 : decode cX5_runsMore 51 = .ok (.aload_n 0, 1) := dk_42 (dk_at dksX5_runsMore_2 3 rfl rfl)
theorem dX5_runsMore_52 : decode cX5_runsMore 52 = .ok (.getfield 84, 3) := dk_180 0 84 (dk_at dksX5_runsMore_2 4 rfl rfl)
theorem dX5_runsMore_55 : decode cX5_runsMore 55 = .ok (.iload_n 3, 1) := dk_29 (dk_at dksX5_runsMore_2 7 rfl rfl)
theorem dX5_runsMore_56 : decode cX5_runsMore 56 = .ok (.iaload, 1) := dk_46 (dk_at dksX5_runsMore_2 8 rfl rfl)
theorem dX5_runsMore_57 : decode cX5_runsMore 57 = .ok (.iconst 2, 1) := dk_5 (dk_at dksX5_runsMore_2 9 rfl rfl)
theorem dX5_runsMore_58 : decode cX5_runsMore 58 = .ok (.idiv, 1) := dk_108 (dk_at dksX5_runsMore_2 10 rfl rfl)
theorem dX5_runsMore_59 : decode cX5_runsMore 59 = .ok (.istore 4, 2) := dk_54 4 (dk_at dksX5_runsMore_2 11 rfl rfl)
theorem dX5_runsMore_61 : decode cX5_runsMore 61 = .ok (.aload_n 0, 1) := dk_42 (dk_at dksX5_runsMore_2 13 rfl rfl)
theorem dX5_runsMore_62 : decode cX5_runsMore 62 = .ok (.getfield 84, 3) := dk_180 0 84 (dk_at dksX5_runsMore_2 14 rfl rfl)
theorem dX5_runsMore_65 : decode cX5_runsMore 65 = .ok (.iload_n 3, 1) := dk_29 (dk_at dksX5_runsMore_2 17 rfl rfl)
theorem dX5_runsMore_66 : decode cX5_runsMore 66 = .ok (.iaload, 1) := dk_46 (dk_at dksX5_runsMore_2 18 rfl rfl)
theorem dX5_runsMore_67 : decode cX5_runsMore 67 = .ok (.iconst 2, 1) := dk_5 (dk_at dksX5_runsMore_2 19 rfl rfl)
theorem dX5_runsMore_68 : decode cX5_runsMore 68 = .ok (.iload_n 2, 1) := dk_28 (dk_at dksX5_runsMore_2 20 rfl rfl)
theorem dX5_runsMore_69 : decode cX5_runsMore 69 = .ok (.imul, 1) := dk_104 (dk_at dksX5_runsMore_2 21 rfl rfl)
theorem dX5_runsMore_70 : decode cX5_runsMore 70 = .ok (.if_icmp .ne 10, 3) := dk_160 0 10 (dk_at dksX5_runsMore_3 0 rfl rfl)
theorem dX5_runsMore_73 : decode cX5_runsMore 73 = .ok (.aload_n 0, 1) := dk_42 (dk_at dksX5_runsMore_3 3 rfl rfl)
theorem dX5_runsMore_74 : decode cX5_runsMore 74 = .ok (.iload_n 1, 1) := dk_27 (dk_at dksX5_runsMore_3 4 rfl rfl)
theorem dX5_runsMore_75 : decode cX5_runsMore 75 = .ok (.iload_n 2, 1) := dk_28 (dk_at dksX5_runsMore_3 5 rfl rfl)
theorem dX5_runsMore_76 : decode cX5_runsMore 76 = .ok (.invokevirtual 359, 3) := dk_182 1 103 (dk_at dksX5_runsMore_3 6 rfl rfl)
theorem dX5_runsMore_79 : decode cX5_runsMore 79 = .ok (.ireturn, 1) := dk_172 (dk_at dksX5_runsMore_3 9 rfl rfl)
theorem dX5_runsMore_80 : decode cX5_runsMore 80 = .ok (.aload_n 0, 1) := dk_42 (dk_at dksX5_runsMore_3 10 rfl rfl)
theorem dX5_runsMore_81 : decode cX5_runsMore 81 = .ok (.getfield 84, 3) := dk_180 0 84 (dk_at dksX5_runsMore_3 11 rfl rfl)
theorem dX5_runsMore_84 : decode cX5_runsMore 84 = .ok (.iload_n 3, 1) := dk_29 (dk_at dksX5_runsMore_3 14 rfl rfl)
theorem dX5_runsMore_85 : decode cX5_runsMore 85 = .ok (.iaload, 1) := dk_46 (dk_at dksX5_runsMore_3 15 rfl rfl)
theorem dX5_runsMore_86 : decode cX5_runsMore 86 = .ok (.iconst 2, 1) := dk_5 (dk_at dksX5_runsMore_3 16 rfl rfl)
theorem dX5_runsMore_87 : decode cX5_runsMore 87 = .ok (.irem, 1) := dk_112 (dk_at dksX5_runsMore_3 17 rfl rfl)
theorem dX5_runsMore_88 : decode cX5_runsMore 88 = .ok (.iconst 1, 1) := dk_4 (dk_at dksX5_runsMore_3 18 rfl rfl)
theorem dX5_runsMore_89 : decode cX5_runsMore 89 = .ok (.if_icmp .ne 106, 3) := dk_160 0 106 (dk_at dksX5_runsMore_3 19 rfl rfl)
theorem dX5_runsMore_92 : decode cX5_runsMore 92 = .ok (.iconst 0, 1) := dk_3 (dk_at dksX5_runsMore_3 22 rfl rfl)
theorem dX5_runsMore_93 : decode cX5_runsMore 93 = .ok (.istore 5, 2) := dk_54 5 (dk_at dksX5_runsMore_4 0 rfl rfl)
theorem dX5_runsMore_95 : decode cX5_runsMore 95 = .ok (.iload 5, 2) := dk_21 5 (dk_at dksX5_runsMore_4 2 rfl rfl)
theorem dX5_runsMore_97 : decode cX5_runsMore 97 = .ok (.iconst 4, 1) := dk_7 (dk_at dksX5_runsMore_4 4 rfl rfl)
theorem dX5_runsMore_98 : decode cX5_runsMore 98 = .ok (.if_icmp .ge 63, 3) := dk_162 0 63 (dk_at dksX5_runsMore_4 5 rfl rfl)
theorem dX5_runsMore_101 : decode cX5_runsMore 101 = .ok (.aload_n 0, 1) := dk_42 (dk_at dksX5_runsMore_4 8 rfl rfl)
theorem dX5_runsMore_102 : decode cX5_runsMore 102 = .ok (.iload 4, 2) := dk_21 4 (dk_at dksX5_runsMore_4 9 rfl rfl)
theorem dX5_runsMore_104 : decode cX5_runsMore 104 = .ok (.iload 5, 2) := dk_21 5 (dk_at dksX5_runsMore_4 11 rfl rfl)
theorem dX5_runsMore_106 : decode cX5_runsMore 106 = .ok (.invokevirtual 332, 3) := dk_182 1 76 (dk_at dksX5_runsMore_4 13 rfl rfl)
theorem dX5_runsMore_109 : decode cX5_runsMore 109 = .ok (.istore 6, 2) := dk_54 6 (dk_at dksX5_runsMore_4 16 rfl rfl)
theorem dX5_runsMore_111 : decode cX5_runsMore 111 = .ok (.aload_n 0, 1) := dk_42 (dk_at dksX5_runsMore_4 18 rfl rfl)
theorem dX5_runsMore_112 : decode cX5_runsMore 112 = .ok (.iload 6, 2) := dk_21 6 (dk_at dksX5_runsMore_4 19 rfl rfl)
theorem dX5_runsMore_114 : decode cX5_runsMore 114 = .ok (.invokevirtual 362, 3) := dk_182 1 106 (dk_at dksX5_runsMore_4 21 rfl rfl)
theorem dX5_runsMore_117 : decode cX5_runsMore 117 = .ok (.ifCond .eq 38, 3) := dk_153 0 38 (dk_at dksX5_runsMore_5 0 rfl rfl)
theorem dX5_runsMore_120 : decode cX5_runsMore 120 = .ok (.iload 6, 2) := dk_21 6 (dk_at dksX5_runsMore_5 3 rfl rfl)
theorem dX5_runsMore_122 : decode cX5_runsMore 122 = .ok (.iload_n 1, 1) := dk_27 (dk_at dksX5_runsMore_5 5 rfl rfl)
theorem dX5_runsMore_123 : decode cX5_runsMore 123 = .ok (.if_icmp .eq 32, 3) := dk_159 0 32 (dk_at dksX5_runsMore_5 6 rfl rfl)
theorem dX5_runsMore_126 : decode cX5_runsMore 126 = .ok (.aload_n 0, 1) := dk_42 (dk_at dksX5_runsMore_5 9 rfl rfl)
theorem dX5_runsMore_127 : decode cX5_runsMore 127 = .ok (.getfield 75, 3) := dk_180 0 75 (dk_at dksX5_runsMore_5 10 rfl rfl)
theorem dX5_runsMore_130 : decode cX5_runsMore 130 = .ok (.iconst 4, 1) := dk_7 (dk_at dksX5_runsMore_5 13 rfl rfl)
theorem dX5_runsMore_131 : decode cX5_runsMore 131 = .ok (.iload 4, 2) := dk_21 4 (dk_at dksX5_runsMore_5 14 rfl rfl)
theorem dX5_runsMore_133 : decode cX5_runsMore 133 = .ok (.imul, 1) := dk_104 (dk_at dksX5_runsMore_5 16 rfl rfl)
theorem dX5_runsMore_134 : decode cX5_runsMore 134 = .ok (.iload 5, 2) := dk_21 5 (dk_at dksX5_runsMore_5 17 rfl rfl)
theorem dX5_runsMore_136 : decode cX5_runsMore 136 = .ok (.iadd, 1) := dk_96 (dk_at dksX5_runsMore_5 19 rfl rfl)
theorem dX5_runsMore_137 : decode cX5_runsMore 137 = .ok (.iaload, 1) := dk_46 (dk_at dksX5_runsMore_5 20 rfl rfl)
theorem dX5_runsMore_138 : decode cX5_runsMore 138 = .ok (.ifCond .ne 17, 3) := dk_154 0 17 (dk_at dksX5_runsMore_5 21 rfl rfl)
theorem dX5_runsMore_141 : decode cX5_runsMore 141 = .ok (.aload_n 0, 1) := dk_42 (dk_at dksX5_runsMore_6 0 rfl rfl)
theorem dX5_runsMore_142 : decode cX5_runsMore 142 = .ok (.iconst 2, 1) := dk_5 (dk_at dksX5_runsMore_6 1 rfl rfl)
theorem dX5_runsMore_143 : decode cX5_runsMore 143 = .ok (.iload 6, 2) := dk_21 6 (dk_at dksX5_runsMore_6 2 rfl rfl)
theorem dX5_runsMore_145 : decode cX5_runsMore 145 = .ok (.imul, 1) := dk_104 (dk_at dksX5_runsMore_6 4 rfl rfl)
theorem dX5_runsMore_146 : decode cX5_runsMore 146 = .ok (.aload_n 0, 1) := dk_42 (dk_at dksX5_runsMore_6 5 rfl rfl)
theorem dX5_runsMore_147 : decode cX5_runsMore 147 = .ok (.getfield 84, 3) := dk_180 0 84 (dk_at dksX5_runsMore_6 6 rfl rfl)
theorem dX5_runsMore_150 : decode cX5_runsMore 150 = .ok (.iload_n 3, 1) := dk_29 (dk_at dksX5_runsMore_6 9 rfl rfl)
theorem dX5_runsMore_151 : decode cX5_runsMore 151 = .ok (.iaload, 1) := dk_46 (dk_at dksX5_runsMore_6 10 rfl rfl)
theorem dX5_runsMore_152 : decode cX5_runsMore 152 = .ok (.invokevirtual 356, 3) := dk_182 1 100 (dk_at dksX5_runsMore_6 11 rfl rfl)
theorem dX5_runsMore_155 : decode cX5_runsMore 155 = .ok (.iinc 5 1, 3) := dk_132 5 1 (dk_at dksX5_runsMore_6 14 rfl rfl)
theorem dX5_runsMore_158 : decode cX5_runsMore 158 = .ok (.goto (-63), 3) := dk_167 255 193 (dk_at dksX5_runsMore_6 17 rfl rfl)
theorem dX5_runsMore_161 : decode cX5_runsMore 161 = .ok (.iload 4, 2) := dk_21 4 (dk_at dksX5_runsMore_6 20 rfl rfl)
theorem dX5_runsMore_163 : decode cX5_runsMore 163 = .ok (.iload_n 1, 1) := dk_27 (dk_at dksX5_runsMore_6 22 rfl rfl)
theorem dX5_runsMore_164 : decode cX5_runsMore 164 = .ok (.if_icmp .eq 123, 3) := dk_159 0 123 (dk_at dksX5_runsMore_7 0 rfl rfl)
theorem dX5_runsMore_167 : decode cX5_runsMore 167 = .ok (.aload_n 0, 1) := dk_42 (dk_at dksX5_runsMore_7 3 rfl rfl)
theorem dX5_runsMore_168 : decode cX5_runsMore 168 = .ok (.getfield 78, 3) := dk_180 0 78 (dk_at dksX5_runsMore_7 4 rfl rfl)
theorem dX5_runsMore_171 : decode cX5_runsMore 171 = .ok (.iload 4, 2) := dk_21 4 (dk_at dksX5_runsMore_7 7 rfl rfl)
theorem dX5_runsMore_173 : decode cX5_runsMore 173 = .ok (.iaload, 1) := dk_46 (dk_at dksX5_runsMore_7 9 rfl rfl)
theorem dX5_runsMore_174 : decode cX5_runsMore 174 = .ok (.iconst 1, 1) := dk_4 (dk_at dksX5_runsMore_7 10 rfl rfl)
theorem dX5_runsMore_175 : decode cX5_runsMore 175 = .ok (.if_icmp .ne 112, 3) := dk_160 0 112 (dk_at dksX5_runsMore_7 11 rfl rfl)
theorem dX5_runsMore_178 : decode cX5_runsMore 178 = .ok (.aload_n 0, 1) := dk_42 (dk_at dksX5_runsMore_7 14 rfl rfl)
theorem dX5_runsMore_179 : decode cX5_runsMore 179 = .ok (.iconst 2, 1) := dk_5 (dk_at dksX5_runsMore_7 15 rfl rfl)
theorem dX5_runsMore_180 : decode cX5_runsMore 180 = .ok (.iload 4, 2) := dk_21 4 (dk_at dksX5_runsMore_7 16 rfl rfl)
theorem dX5_runsMore_182 : decode cX5_runsMore 182 = .ok (.imul, 1) := dk_104 (dk_at dksX5_runsMore_7 18 rfl rfl)
theorem dX5_runsMore_183 : decode cX5_runsMore 183 = .ok (.aload_n 0, 1) := dk_42 (dk_at dksX5_runsMore_7 19 rfl rfl)
theorem dX5_runsMore_184 : decode cX5_runsMore 184 = .ok (.getfield 84, 3) := dk_180 0 84 (dk_at dksX5_runsMore_7 20 rfl rfl)
theorem dX5_runsMore_187 : decode cX5_runsMore 187 = .ok (.iload_n 3, 1) := dk_29 (dk_at dksX5_runsMore_7 23 rfl rfl)
theorem dX5_runsMore_188 : decode cX5_runsMore 188 = .ok (.iaload, 1) := dk_46 (dk_at dksX5_runsMore_8 0 rfl rfl)
theorem dX5_runsMore_189 : decode cX5_runsMore 189 = .ok (.invokevirtual 356, 3) := dk_182 1 100 (dk_at dksX5_runsMore_8 1 rfl rfl)
theorem dX5_runsMore_192 : decode cX5_runsMore 192 = .ok (.goto 95, 3) := dk_167 0 95 (dk_at dksX5_runsMore_8 4 rfl rfl)
theorem dX5_runsMore_195 : decode cX5_runsMore 195 = .ok (.aload_n 0, 1) := dk_42 (dk_at dksX5_runsMore_8 7 rfl rfl)
theorem dX5_runsMore_196 : decode cX5_runsMore 196 = .ok (.getfield 78, 3) := dk_180 0 78 (dk_at dksX5_runsMore_8 8 rfl rfl)
theorem dX5_runsMore_199 : decode cX5_runsMore 199 = .ok (.iload 4, 2) := dk_21 4 (dk_at dksX5_runsMore_8 11 rfl rfl)
theorem dX5_runsMore_201 : decode cX5_runsMore 201 = .ok (.iaload, 1) := dk_46 (dk_at dksX5_runsMore_8 13 rfl rfl)
theorem dX5_runsMore_202 : decode cX5_runsMore 202 = .ok (.ifCond .ne 19, 3) := dk_154 0 19 (dk_at dksX5_runsMore_8 14 rfl rfl)
theorem dX5_runsMore_205 : decode cX5_runsMore 205 = .ok (.aload_n 0, 1) := dk_42 (dk_at dksX5_runsMore_8 17 rfl rfl)
theorem dX5_runsMore_206 : decode cX5_runsMore 206 = .ok (.iconst 2, 1) := dk_5 (dk_at dksX5_runsMore_8 18 rfl rfl)
theorem dX5_runsMore_207 : decode cX5_runsMore 207 = .ok (.iload 4, 2) := dk_21 4 (dk_at dksX5_runsMore_8 19 rfl rfl)
theorem dX5_runsMore_209 : decode cX5_runsMore 209 = .ok (.imul, 1) := dk_104 (dk_at dksX5_runsMore_8 21 rfl rfl)
theorem dX5_runsMore_210 : decode cX5_runsMore 210 = .ok (.iconst 1, 1) := dk_4 (dk_at dksX5_runsMore_8 22 rfl rfl)
theorem dX5_runsMore_211 : decode cX5_runsMore 211 = .ok (.iadd, 1) := dk_96 (dk_at dksX5_runsMore_8 23 rfl rfl)
theorem dX5_runsMore_212 : decode cX5_runsMore 212 = .ok (.aload_n 0, 1) := dk_42 (dk_at dksX5_runsMore_9 0 rfl rfl)
theorem dX5_runsMore_213 : decode cX5_runsMore 213 = .ok (.getfield 84, 3) := dk_180 0 84 (dk_at dksX5_runsMore_9 1 rfl rfl)
theorem dX5_runsMore_216 : decode cX5_runsMore 216 = .ok (.iload_n 3, 1) := dk_29 (dk_at dksX5_runsMore_9 4 rfl rfl)
theorem dX5_runsMore_217 : decode cX5_runsMore 217 = .ok (.iaload, 1) := dk_46 (dk_at dksX5_runsMore_9 5 rfl rfl)
theorem dX5_runsMore_218 : decode cX5_runsMore 218 = .ok (.invokevirtual 356, 3) := dk_182 1 100 (dk_at dksX5_runsMore_9 6 rfl rfl)
theorem dX5_runsMore_221 : decode cX5_runsMore 221 = .ok (.iconst 0, 1) := dk_3 (dk_at dksX5_runsMore_9 9 rfl rfl)
theorem dX5_runsMore_222 : decode cX5_runsMore 222 = .ok (.istore 5, 2) := dk_54 5 (dk_at dksX5_runsMore_9 10 rfl rfl)
theorem dX5_runsMore_224 : decode cX5_runsMore 224 = .ok (.iload 5, 2) := dk_21 5 (dk_at dksX5_runsMore_9 12 rfl rfl)
theorem dX5_runsMore_226 : decode cX5_runsMore 226 = .ok (.iconst 4, 1) := dk_7 (dk_at dksX5_runsMore_9 14 rfl rfl)
theorem dX5_runsMore_227 : decode cX5_runsMore 227 = .ok (.if_icmp .ge 60, 3) := dk_162 0 60 (dk_at dksX5_runsMore_9 15 rfl rfl)
theorem dX5_runsMore_230 : decode cX5_runsMore 230 = .ok (.aload_n 0, 1) := dk_42 (dk_at dksX5_runsMore_9 18 rfl rfl)
theorem dX5_runsMore_231 : decode cX5_runsMore 231 = .ok (.iload 4, 2) := dk_21 4 (dk_at dksX5_runsMore_9 19 rfl rfl)
theorem dX5_runsMore_233 : decode cX5_runsMore 233 = .ok (.iload 5, 2) := dk_21 5 (dk_at dksX5_runsMore_9 21 rfl rfl)
theorem dX5_runsMore_235 : decode cX5_runsMore 235 = .ok (.invokevirtual 332, 3) := dk_182 1 76 (dk_at dksX5_runsMore_10 0 rfl rfl)
theorem dX5_runsMore_238 : decode cX5_runsMore 238 = .ok (.istore 6, 2) := dk_54 6 (dk_at dksX5_runsMore_10 3 rfl rfl)
theorem dX5_runsMore_240 : decode cX5_runsMore 240 = .ok (.iload 6, 2) := dk_21 6 (dk_at dksX5_runsMore_10 5 rfl rfl)
theorem dX5_runsMore_242 : decode cX5_runsMore 242 = .ok (.ifCond .lt 39, 3) := dk_155 0 39 (dk_at dksX5_runsMore_10 7 rfl rfl)
theorem dX5_runsMore_245 : decode cX5_runsMore 245 = .ok (.aload_n 0, 1) := dk_42 (dk_at dksX5_runsMore_10 10 rfl rfl)
theorem dX5_runsMore_246 : decode cX5_runsMore 246 = .ok (.getfield 75, 3) := dk_180 0 75 (dk_at dksX5_runsMore_10 11 rfl rfl)
theorem dX5_runsMore_249 : decode cX5_runsMore 249 = .ok (.iconst 4, 1) := dk_7 (dk_at dksX5_runsMore_10 14 rfl rfl)
theorem dX5_runsMore_250 : decode cX5_runsMore 250 = .ok (.iload 6, 2) := dk_21 6 (dk_at dksX5_runsMore_10 15 rfl rfl)
theorem dX5_runsMore_252 : decode cX5_runsMore 252 = .ok (.imul, 1) := dk_104 (dk_at dksX5_runsMore_10 17 rfl rfl)
theorem dX5_runsMore_253 : decode cX5_runsMore 253 = .ok (.iload 5, 2) := dk_21 5 (dk_at dksX5_runsMore_10 18 rfl rfl)
theorem dX5_runsMore_255 : decode cX5_runsMore 255 = .ok (.iconst 2, 1) := dk_5 (dk_at dksX5_runsMore_10 20 rfl rfl)
theorem dX5_runsMore_256 : decode cX5_runsMore 256 = .ok (.iadd, 1) := dk_96 (dk_at dksX5_runsMore_10 21 rfl rfl)
theorem dX5_runsMore_257 : decode cX5_runsMore 257 = .ok (.iconst 4, 1) := dk_7 (dk_at dksX5_runsMore_10 22 rfl rfl)
theorem dX5_runsMore_258 : decode cX5_runsMore 258 = .ok (.irem, 1) := dk_112 (dk_at dksX5_runsMore_10 23 rfl rfl)
theorem dX5_runsMore_259 : decode cX5_runsMore 259 = .ok (.iadd, 1) := dk_96 (dk_at dksX5_runsMore_11 0 rfl rfl)
theorem dX5_runsMore_260 : decode cX5_runsMore 260 = .ok (.iaload, 1) := dk_46 (dk_at dksX5_runsMore_11 1 rfl rfl)
theorem dX5_runsMore_261 : decode cX5_runsMore 261 = .ok (.iconst 1, 1) := dk_4 (dk_at dksX5_runsMore_11 2 rfl rfl)
theorem dX5_runsMore_262 : decode cX5_runsMore 262 = .ok (.if_icmp .ne 19, 3) := dk_160 0 19 (dk_at dksX5_runsMore_11 3 rfl rfl)
theorem dX5_runsMore_265 : decode cX5_runsMore 265 = .ok (.aload_n 0, 1) := dk_42 (dk_at dksX5_runsMore_11 6 rfl rfl)
theorem dX5_runsMore_266 : decode cX5_runsMore 266 = .ok (.iconst 2, 1) := dk_5 (dk_at dksX5_runsMore_11 7 rfl rfl)
theorem dX5_runsMore_267 : decode cX5_runsMore 267 = .ok (.iload 6, 2) := dk_21 6 (dk_at dksX5_runsMore_11 8 rfl rfl)
theorem dX5_runsMore_269 : decode cX5_runsMore 269 = .ok (.imul, 1) := dk_104 (dk_at dksX5_runsMore_11 10 rfl rfl)
theorem dX5_runsMore_270 : decode cX5_runsMore 270 = .ok (.iconst 1, 1) := dk_4 (dk_at dksX5_runsMore_11 11 rfl rfl)
theorem dX5_runsMore_271 : decode cX5_runsMore 271 = .ok (.iadd, 1) := dk_96 (dk_at dksX5_runsMore_11 12 rfl rfl)
theorem dX5_runsMore_272 : decode cX5_runsMore 272 = .ok (.aload_n 0, 1) := dk_42 (dk_at dksX5_runsMore_11 13 rfl rfl)
theorem dX5_runsMore_273 : decode cX5_runsMore 273 = .ok (.getfield 84, 3) := dk_180 0 84 (dk_at dksX5_runsMore_11 14 rfl rfl)
theorem dX5_runsMore_276 : decode cX5_runsMore 276 = .ok (.iload_n 3, 1) := dk_29 (dk_at dksX5_runsMore_11 17 rfl rfl)
theorem dX5_runsMore_277 : decode cX5_runsMore 277 = .ok (.iaload, 1) := dk_46 (dk_at dksX5_runsMore_11 18 rfl rfl)
theorem dX5_runsMore_278 : decode cX5_runsMore 278 = .ok (.invokevirtual 356, 3) := dk_182 1 100 (dk_at dksX5_runsMore_11 19 rfl rfl)
theorem dX5_runsMore_281 : decode cX5_runsMore 281 = .ok (.iinc 5 1, 3) := dk_132 5 1 (dk_at dksX5_runsMore_12 0 rfl rfl)
theorem dX5_runsMore_284 : decode cX5_runsMore 284 = .ok (.goto (-60), 3) := dk_167 255 196 (dk_at dksX5_runsMore_12 3 rfl rfl)
theorem dX5_runsMore_287 : decode cX5_runsMore 287 = .ok (.iinc 3 1, 3) := dk_132 3 1 (dk_at dksX5_runsMore_12 6 rfl rfl)
theorem dX5_runsMore_290 : decode cX5_runsMore 290 = .ok (.goto (-247), 3) := dk_167 255 9 (dk_at dksX5_runsMore_12 9 rfl rfl)
theorem dX5_runsMore_293 : decode cX5_runsMore 293 = .ok (.iconst 0, 1) := dk_3 (dk_at dksX5_runsMore_12 12 rfl rfl)
theorem dX5_runsMore_294 : decode cX5_runsMore 294 = .ok (.ireturn, 1) := dk_172 (dk_at dksX5_runsMore_12 13 rfl rfl)
abbrev cX5_comes : ByteArray := prog_19_method_75_code
def yX5_comes : MethodName := ⟨RX5, "comes", "(II)V"⟩
def dkwX5_comes_1 : List UInt8 := [180, 1, 97, 27, 79, 42, 89, 180, 1, 97, 4, 96, 181, 1, 97, 177]
abbrev dktX5_comes_1 : List UInt8 := dkwX5_comes_1 ++ []
def dkwX5_comes_0 : List UInt8 := [42, 180, 0, 81, 27, 46, 2, 159, 0, 4, 177, 42, 180, 0, 81, 27, 28, 79, 42, 180, 0, 84, 42]
abbrev dktX5_comes_0 : List UInt8 := dkwX5_comes_0 ++ dktX5_comes_1
theorem dksX5_comes_0 : cX5_comes.data.toList.drop 0 = dktX5_comes_0 := by decide +kernel
theorem dksX5_comes_1 : cX5_comes.data.toList.drop 23 = dktX5_comes_1 := dk_seg dksX5_comes_0 23 rfl rfl
theorem dX5_comes_0 : decode cX5_comes 0 = .ok (.aload_n 0, 1) := dk_42 (dk_at dksX5_comes_0 0 rfl rfl)
theorem dX5_comes_1 : decode cX5_comes 1 = .ok (.getfield 81, 3) := dk_180 0 81 (dk_at dksX5_comes_0 1 rfl rfl)
theorem dX5_comes_4 : decode cX5_comes 4 = .ok (.iload_n 1, 1) := dk_27 (dk_at dksX5_comes_0 4 rfl rfl)
theorem dX5_comes_5 : decode cX5_comes 5 = .ok (.iaload, 1) := dk_46 (dk_at dksX5_comes_0 5 rfl rfl)
theorem dX5_comes_6 : decode cX5_comes 6 = .ok (.iconst (-1), 1) := dk_2 (dk_at dksX5_comes_0 6 rfl rfl)
theorem dX5_comes_7 : decode cX5_comes 7 = .ok (.if_icmp .eq 4, 3) := dk_159 0 4 (dk_at dksX5_comes_0 7 rfl rfl)
theorem dX5_comes_10 : decode cX5_comes 10 = .ok (.return_, 1) := dk_177 (dk_at dksX5_comes_0 10 rfl rfl)
theorem dX5_comes_11 : decode cX5_comes 11 = .ok (.aload_n 0, 1) := dk_42 (dk_at dksX5_comes_0 11 rfl rfl)
theorem dX5_comes_12 : decode cX5_comes 12 = .ok (.getfield 81, 3) := dk_180 0 81 (dk_at dksX5_comes_0 12 rfl rfl)
theorem dX5_comes_15 : decode cX5_comes 15 = .ok (.iload_n 1, 1) := dk_27 (dk_at dksX5_comes_0 15 rfl rfl)
theorem dX5_comes_16 : decode cX5_comes 16 = .ok (.iload_n 2, 1) := dk_28 (dk_at dksX5_comes_0 16 rfl rfl)
theorem dX5_comes_17 : decode cX5_comes 17 = .ok (.iastore, 1) := dk_79 (dk_at dksX5_comes_0 17 rfl rfl)
theorem dX5_comes_18 : decode cX5_comes 18 = .ok (.aload_n 0, 1) := dk_42 (dk_at dksX5_comes_0 18 rfl rfl)
theorem dX5_comes_19 : decode cX5_comes 19 = .ok (.getfield 84, 3) := dk_180 0 84 (dk_at dksX5_comes_0 19 rfl rfl)
theorem dX5_comes_22 : decode cX5_comes 22 = .ok (.aload_n 0, 1) := dk_42 (dk_at dksX5_comes_0 22 rfl rfl)
theorem dX5_comes_23 : decode cX5_comes 23 = .ok (.getfield 353, 3) := dk_180 1 97 (dk_at dksX5_comes_1 0 rfl rfl)
theorem dX5_comes_26 : decode cX5_comes 26 = .ok (.iload_n 1, 1) := dk_27 (dk_at dksX5_comes_1 3 rfl rfl)
theorem dX5_comes_27 : decode cX5_comes 27 = .ok (.iastore, 1) := dk_79 (dk_at dksX5_comes_1 4 rfl rfl)
theorem dX5_comes_28 : decode cX5_comes 28 = .ok (.aload_n 0, 1) := dk_42 (dk_at dksX5_comes_1 5 rfl rfl)
theorem dX5_comes_29 : decode cX5_comes 29 = .ok (.dup, 1) := dk_89 (dk_at dksX5_comes_1 6 rfl rfl)
theorem dX5_comes_30 : decode cX5_comes 30 = .ok (.getfield 353, 3) := dk_180 1 97 (dk_at dksX5_comes_1 7 rfl rfl)
theorem dX5_comes_33 : decode cX5_comes 33 = .ok (.iconst 1, 1) := dk_4 (dk_at dksX5_comes_1 10 rfl rfl)
theorem dX5_comes_34 : decode cX5_comes 34 = .ok (.iadd, 1) := dk_96 (dk_at dksX5_comes_1 11 rfl rfl)
theorem dX5_comes_35 : decode cX5_comes 35 = .ok (.putfield 353, 3) := dk_181 1 97 (dk_at dksX5_comes_1 12 rfl rfl)
theorem dX5_comes_38 : decode cX5_comes 38 = .ok (.return_, 1) := dk_177 (dk_at dksX5_comes_1 15 rfl rfl)
abbrev cX5_turned : ByteArray := prog_19_method_77_code
def yX5_turned : MethodName := ⟨RX5, "turned", "(II)Z"⟩
def dkwX5_turned_4 : List UInt8 := [96, 3, 79, 21, 4, 62, 167, 255, 160, 4, 172]
abbrev dktX5_turned_4 : List UInt8 := dkwX5_turned_4 ++ []
def dkwX5_turned_3 : List UInt8 := [184, 1, 27, 96, 4, 79, 167, 0, 21, 42, 180, 0, 75, 7, 21, 5, 104, 21, 5, 21, 6, 184, 1, 27]
abbrev dktX5_turned_3 : List UInt8 := dkwX5_turned_3 ++ dktX5_turned_4
def dkwX5_turned_2 : List UInt8 := [79, 167, 0, 48, 29, 5, 112, 154, 0, 24, 42, 180, 0, 75, 7, 21, 6, 104, 21, 6, 21, 5]
abbrev dktX5_turned_2 : List UInt8 := dkwX5_turned_2 ++ dktX5_turned_3
def dkwX5_turned_1 : List UInt8 := [54, 5, 21, 4, 5, 108, 54, 6, 21, 5, 21, 6, 160, 0, 16, 42, 180, 0, 78, 21, 5, 29, 5, 112]
abbrev dktX5_turned_1 : List UInt8 := dkwX5_turned_1 ++ dktX5_turned_2
def dkwX5_turned_0 : List UInt8 := [5, 28, 104, 62, 29, 5, 27, 104, 4, 96, 159, 0, 93, 42, 180, 0, 81, 29, 46, 54, 4, 29, 5, 108]
abbrev dktX5_turned_0 : List UInt8 := dkwX5_turned_0 ++ dktX5_turned_1
theorem dksX5_turned_0 : cX5_turned.data.toList.drop 0 = dktX5_turned_0 := by decide +kernel
theorem dksX5_turned_1 : cX5_turned.data.toList.drop 24 = dktX5_turned_1 := dk_seg dksX5_turned_0 24 rfl rfl
theorem dksX5_turned_2 : cX5_turned.data.toList.drop 48 = dktX5_turned_2 := dk_seg dksX5_turned_1 24 rfl rfl
theorem dksX5_turned_3 : cX5_turned.data.toList.drop 70 = dktX5_turned_3 := dk_seg dksX5_turned_2 22 rfl rfl
theorem dksX5_turned_4 : cX5_turned.data.toList.drop 94 = dktX5_turned_4 := dk_seg dksX5_turned_3 24 rfl rfl
theorem dX5_turned_0 : decode cX5_turned 0 = .ok (.iconst 2, 1) := dk_5 (dk_at dksX5_turned_0 0 rfl rfl)
theorem dX5_turned_1 : decode cX5_turned 1 = .ok (.iload_n 2, 1) := dk_28 (dk_at dksX5_turned_0 1 rfl rfl)
theorem dX5_turned_2 : decode cX5_turned 2 = .ok (.imul, 1) := dk_104 (dk_at dksX5_turned_0 2 rfl rfl)
theorem dX5_turned_3 : decode cX5_turned 3 = .ok (.istore_n 3, 1) := dk_62 (dk_at dksX5_turned_0 3 rfl rfl)
theorem dX5_turned_4 : decode cX5_turned 4 = .ok (.iload_n 3, 1) := dk_29 (dk_at dksX5_turned_0 4 rfl rfl)
theorem dX5_turned_5 : decode cX5_turned 5 = .ok (.iconst 2, 1) := dk_5 (dk_at dksX5_turned_0 5 rfl rfl)
theorem dX5_turned_6 : decode cX5_turned 6 = .ok (.iload_n 1, 1) := dk_27 (dk_at dksX5_turned_0 6 rfl rfl)
theorem dX5_turned_7 : decode cX5_turned 7 = .ok (.imul, 1) := dk_104 (dk_at dksX5_turned_0 7 rfl rfl)
theorem dX5_turned_8 : decode cX5_turned 8 = .ok (.iconst 1, 1) := dk_4 (dk_at dksX5_turned_0 8 rfl rfl)
theorem dX5_turned_9 : decode cX5_turned 9 = .ok (.iadd, 1) := dk_96 (dk_at dksX5_turned_0 9 rfl rfl)
theorem dX5_turned_10 : decode cX5_turned 10 = .ok (.if_icmp .eq 93, 3) := dk_159 0 93 (dk_at dksX5_turned_0 10 rfl rfl)
theorem dX5_turned_13 : decode cX5_turned 13 = .ok (.aload_n 0, 1) := dk_42 (dk_at dksX5_turned_0 13 rfl rfl)
theorem dX5_turned_14 : decode cX5_turned 14 = .ok (.getfield 81, 3) := dk_180 0 81 (dk_at dksX5_turned_0 14 rfl rfl)
theorem dX5_turned_17 : decode cX5_turned 17 = .ok (.iload_n 3, 1) := dk_29 (dk_at dksX5_turned_0 17 rfl rfl)
theorem dX5_turned_18 : decode cX5_turned 18 = .ok (.iaload, 1) := dk_46 (dk_at dksX5_turned_0 18 rfl rfl)
theorem dX5_turned_19 : decode cX5_turned 19 = .ok (.istore 4, 2) := dk_54 4 (dk_at dksX5_turned_0 19 rfl rfl)
theorem dX5_turned_21 : decode cX5_turned 21 = .ok (.iload_n 3, 1) := dk_29 (dk_at dksX5_turned_0 21 rfl rfl)
theorem dX5_turned_22 : decode cX5_turned 22 = .ok (.iconst 2, 1) := dk_5 (dk_at dksX5_turned_0 22 rfl rfl)
theorem dX5_turned_23 : decode cX5_turned 23 = .ok (.idiv, 1) := dk_108 (dk_at dksX5_turned_0 23 rfl rfl)
theorem dX5_turned_24 : decode cX5_turned 24 = .ok (.istore 5, 2) := dk_54 5 (dk_at dksX5_turned_1 0 rfl rfl)
theorem dX5_turned_26 : decode cX5_turned 26 = .ok (.iload 4, 2) := dk_21 4 (dk_at dksX5_turned_1 2 rfl rfl)
theorem dX5_turned_28 : decode cX5_turned 28 = .ok (.iconst 2, 1) := dk_5 (dk_at dksX5_turned_1 4 rfl rfl)
theorem dX5_turned_29 : decode cX5_turned 29 = .ok (.idiv, 1) := dk_108 (dk_at dksX5_turned_1 5 rfl rfl)
theorem dX5_turned_30 : decode cX5_turned 30 = .ok (.istore 6, 2) := dk_54 6 (dk_at dksX5_turned_1 6 rfl rfl)
theorem dX5_turned_32 : decode cX5_turned 32 = .ok (.iload 5, 2) := dk_21 5 (dk_at dksX5_turned_1 8 rfl rfl)
theorem dX5_turned_34 : decode cX5_turned 34 = .ok (.iload 6, 2) := dk_21 6 (dk_at dksX5_turned_1 10 rfl rfl)
theorem dX5_turned_36 : decode cX5_turned 36 = .ok (.if_icmp .ne 16, 3) := dk_160 0 16 (dk_at dksX5_turned_1 12 rfl rfl)
theorem dX5_turned_39 : decode cX5_turned 39 = .ok (.aload_n 0, 1) := dk_42 (dk_at dksX5_turned_1 15 rfl rfl)
theorem dX5_turned_40 : decode cX5_turned 40 = .ok (.getfield 78, 3) := dk_180 0 78 (dk_at dksX5_turned_1 16 rfl rfl)
theorem dX5_turned_43 : decode cX5_turned 43 = .ok (.iload 5, 2) := dk_21 5 (dk_at dksX5_turned_1 19 rfl rfl)
theorem dX5_turned_45 : decode cX5_turned 45 = .ok (.iload_n 3, 1) := dk_29 (dk_at dksX5_turned_1 21 rfl rfl)
theorem dX5_turned_46 : decode cX5_turned 46 = .ok (.iconst 2, 1) := dk_5 (dk_at dksX5_turned_1 22 rfl rfl)
theorem dX5_turned_47 : decode cX5_turned 47 = .ok (.irem, 1) := dk_112 (dk_at dksX5_turned_1 23 rfl rfl)
theorem dX5_turned_48 : decode cX5_turned 48 = .ok (.iastore, 1) := dk_79 (dk_at dksX5_turned_2 0 rfl rfl)
theorem dX5_turned_49 : decode cX5_turned 49 = .ok (.goto 48, 3) := dk_167 0 48 (dk_at dksX5_turned_2 1 rfl rfl)
theorem dX5_turned_52 : decode cX5_turned 52 = .ok (.iload_n 3, 1) := dk_29 (dk_at dksX5_turned_2 4 rfl rfl)
theorem dX5_turned_53 : decode cX5_turned 53 = .ok (.iconst 2, 1) := dk_5 (dk_at dksX5_turned_2 5 rfl rfl)
theorem dX5_turned_54 : decode cX5_turned 54 = .ok (.irem, 1) := dk_112 (dk_at dksX5_turned_2 6 rfl rfl)
theorem dX5_turned_55 : decode cX5_turned 55 = .ok (.ifCond .ne 24, 3) := dk_154 0 24 (dk_at dksX5_turned_2 7 rfl rfl)
theorem dX5_turned_58 : decode cX5_turned 58 = .ok (.aload_n 0, 1) := dk_42 (dk_at dksX5_turned_2 10 rfl rfl)
theorem dX5_turned_59 : decode cX5_turned 59 = .ok (.getfield 75, 3) := dk_180 0 75 (dk_at dksX5_turned_2 11 rfl rfl)
theorem dX5_turned_62 : decode cX5_turned 62 = .ok (.iconst 4, 1) := dk_7 (dk_at dksX5_turned_2 14 rfl rfl)
theorem dX5_turned_63 : decode cX5_turned 63 = .ok (.iload 6, 2) := dk_21 6 (dk_at dksX5_turned_2 15 rfl rfl)
theorem dX5_turned_65 : decode cX5_turned 65 = .ok (.imul, 1) := dk_104 (dk_at dksX5_turned_2 17 rfl rfl)
theorem dX5_turned_66 : decode cX5_turned 66 = .ok (.iload 6, 2) := dk_21 6 (dk_at dksX5_turned_2 18 rfl rfl)
theorem dX5_turned_68 : decode cX5_turned 68 = .ok (.iload 5, 2) := dk_21 5 (dk_at dksX5_turned_2 20 rfl rfl)
theorem dX5_turned_70 : decode cX5_turned 70 = .ok (.invokestatic 283, 3) := dk_184 1 27 (dk_at dksX5_turned_3 0 rfl rfl)
theorem dX5_turned_73 : decode cX5_turned 73 = .ok (.iadd, 1) := dk_96 (dk_at dksX5_turned_3 3 rfl rfl)
theorem dX5_turned_74 : decode cX5_turned 74 = .ok (.iconst 1, 1) := dk_4 (dk_at dksX5_turned_3 4 rfl rfl)
theorem dX5_turned_75 : decode cX5_turned 75 = .ok (.iastore, 1) := dk_79 (dk_at dksX5_turned_3 5 rfl rfl)
theorem dX5_turned_76 : decode cX5_turned 76 = .ok (.goto 21, 3) := dk_167 0 21 (dk_at dksX5_turned_3 6 rfl rfl)
theorem dX5_turned_79 : decode cX5_turned 79 = .ok (.aload_n 0, 1) := dk_42 (dk_at dksX5_turned_3 9 rfl rfl)
theorem dX5_turned_80 : decode cX5_turned 80 = .ok (.getfield 75, 3) := dk_180 0 75 (dk_at dksX5_turned_3 10 rfl rfl)
theorem dX5_turned_83 : decode cX5_turned 83 = .ok (.iconst 4, 1) := dk_7 (dk_at dksX5_turned_3 13 rfl rfl)
theorem dX5_turned_84 : decode cX5_turned 84 = .ok (.iload 5, 2) := dk_21 5 (dk_at dksX5_turned_3 14 rfl rfl)
theorem dX5_turned_86 : decode cX5_turned 86 = .ok (.imul, 1) := dk_104 (dk_at dksX5_turned_3 16 rfl rfl)
theorem dX5_turned_87 : decode cX5_turned 87 = .ok (.iload 5, 2) := dk_21 5 (dk_at dksX5_turned_3 17 rfl rfl)
theorem dX5_turned_89 : decode cX5_turned 89 = .ok (.iload 6, 2) := dk_21 6 (dk_at dksX5_turned_3 19 rfl rfl)
theorem dX5_turned_91 : decode cX5_turned 91 = .ok (.invokestatic 283, 3) := dk_184 1 27 (dk_at dksX5_turned_3 21 rfl rfl)
theorem dX5_turned_94 : decode cX5_turned 94 = .ok (.iadd, 1) := dk_96 (dk_at dksX5_turned_4 0 rfl rfl)
theorem dX5_turned_95 : decode cX5_turned 95 = .ok (.iconst 0, 1) := dk_3 (dk_at dksX5_turned_4 1 rfl rfl)
theorem dX5_turned_96 : decode cX5_turned 96 = .ok (.iastore, 1) := dk_79 (dk_at dksX5_turned_4 2 rfl rfl)
theorem dX5_turned_97 : decode cX5_turned 97 = .ok (.iload 4, 2) := dk_21 4 (dk_at dksX5_turned_4 3 rfl rfl)
theorem dX5_turned_99 : decode cX5_turned 99 = .ok (.istore_n 3, 1) := dk_62 (dk_at dksX5_turned_4 5 rfl rfl)
theorem dX5_turned_100 : decode cX5_turned 100 = .ok (.goto (-96), 3) := dk_167 255 160 (dk_at dksX5_turned_4 6 rfl rfl)
theorem dX5_turned_103 : decode cX5_turned 103 = .ok (.iconst 1, 1) := dk_4 (dk_at dksX5_turned_4 9 rfl rfl)
theorem dX5_turned_104 : decode cX5_turned 104 = .ok (.ireturn, 1) := dk_172 (dk_at dksX5_turned_4 10 rfl rfl)
abbrev cX5_isOpen : ByteArray := prog_19_method_74_code
def yX5_isOpen : MethodName := ⟨RX5, "isOpen", "(I)Z"⟩
def dkwX5_isOpen_1 : List UInt8 := [154, 0, 7, 4, 167, 0, 4, 3, 172]
abbrev dktX5_isOpen_1 : List UInt8 := dkwX5_isOpen_1 ++ []
def dkwX5_isOpen_0 : List UInt8 := [27, 155, 0, 28, 42, 180, 0, 33, 16, 25, 27, 96, 46, 154, 0, 16, 42, 180, 0, 90, 27, 51]
abbrev dktX5_isOpen_0 : List UInt8 := dkwX5_isOpen_0 ++ dktX5_isOpen_1
theorem dksX5_isOpen_0 : cX5_isOpen.data.toList.drop 0 = dktX5_isOpen_0 := by decide +kernel
theorem dksX5_isOpen_1 : cX5_isOpen.data.toList.drop 22 = dktX5_isOpen_1 := dk_seg dksX5_isOpen_0 22 rfl rfl
theorem dX5_isOpen_0 : decode cX5_isOpen 0 = .ok (.iload_n 1, 1) := dk_27 (dk_at dksX5_isOpen_0 0 rfl rfl)
theorem dX5_isOpen_1 : decode cX5_isOpen 1 = .ok (.ifCond .lt 28, 3) := dk_155 0 28 (dk_at dksX5_isOpen_0 1 rfl rfl)
theorem dX5_isOpen_4 : decode cX5_isOpen 4 = .ok (.aload_n 0, 1) := dk_42 (dk_at dksX5_isOpen_0 4 rfl rfl)
theorem dX5_isOpen_5 : decode cX5_isOpen 5 = .ok (.getfield 33, 3) := dk_180 0 33 (dk_at dksX5_isOpen_0 5 rfl rfl)
theorem dX5_isOpen_8 : decode cX5_isOpen 8 = .ok (.bipush 25, 2) := dk_16 25 (dk_at dksX5_isOpen_0 8 rfl rfl)
theorem dX5_isOpen_10 : decode cX5_isOpen 10 = .ok (.iload_n 1, 1) := dk_27 (dk_at dksX5_isOpen_0 10 rfl rfl)
theorem dX5_isOpen_11 : decode cX5_isOpen 11 = .ok (.iadd, 1) := dk_96 (dk_at dksX5_isOpen_0 11 rfl rfl)
theorem dX5_isOpen_12 : decode cX5_isOpen 12 = .ok (.iaload, 1) := dk_46 (dk_at dksX5_isOpen_0 12 rfl rfl)
theorem dX5_isOpen_13 : decode cX5_isOpen 13 = .ok (.ifCond .ne 16, 3) := dk_154 0 16 (dk_at dksX5_isOpen_0 13 rfl rfl)
theorem dX5_isOpen_16 : decode cX5_isOpen 16 = .ok (.aload_n 0, 1) := dk_42 (dk_at dksX5_isOpen_0 16 rfl rfl)
theorem dX5_isOpen_17 : decode cX5_isOpen 17 = .ok (.getfield 90, 3) := dk_180 0 90 (dk_at dksX5_isOpen_0 17 rfl rfl)
theorem dX5_isOpen_20 : decode cX5_isOpen 20 = .ok (.iload_n 1, 1) := dk_27 (dk_at dksX5_isOpen_0 20 rfl rfl)
theorem dX5_isOpen_21 : decode cX5_isOpen 21 = .ok (.baload, 1) := dk_51 (dk_at dksX5_isOpen_0 21 rfl rfl)
theorem dX5_isOpen_22 : decode cX5_isOpen 22 = .ok (.ifCond .ne 7, 3) := dk_154 0 7 (dk_at dksX5_isOpen_1 0 rfl rfl)
theorem dX5_isOpen_25 : decode cX5_isOpen 25 = .ok (.iconst 1, 1) := dk_4 (dk_at dksX5_isOpen_1 3 rfl rfl)
theorem dX5_isOpen_26 : decode cX5_isOpen 26 = .ok (.goto 4, 3) := dk_167 0 4 (dk_at dksX5_isOpen_1 4 rfl rfl)
theorem dX5_isOpen_29 : decode cX5_isOpen 29 = .ok (.iconst 0, 1) := dk_3 (dk_at dksX5_isOpen_1 7 rfl rfl)
theorem dX5_isOpen_30 : decode cX5_isOpen 30 = .ok (.ireturn, 1) := dk_172 (dk_at dksX5_isOpen_1 8 rfl rfl)
abbrev cX5_lay : ByteArray := prog_19_method_80_code
def yX5_lay : MethodName := ⟨RX5, "lay", "(I)I"⟩
def dkwX5_lay_1 : List UInt8 := [46, 167, 0, 4, 2, 172]
abbrev dktX5_lay_1 : List UInt8 := dkwX5_lay_1 ++ []
def dkwX5_lay_0 : List UInt8 := [42, 3, 181, 0, 1, 27, 3, 42, 180, 1, 115, 4, 100, 184, 0, 191, 153, 0, 12, 42, 180, 0, 87, 27]
abbrev dktX5_lay_0 : List UInt8 := dkwX5_lay_0 ++ dktX5_lay_1
theorem dksX5_lay_0 : cX5_lay.data.toList.drop 0 = dktX5_lay_0 := by decide +kernel
theorem dksX5_lay_1 : cX5_lay.data.toList.drop 24 = dktX5_lay_1 := dk_seg dksX5_lay_0 24 rfl rfl
theorem dX5_lay_0 : decode cX5_lay 0 = .ok (.aload_n 0, 1) := dk_42 (dk_at dksX5_lay_0 0 rfl rfl)
theorem dX5_lay_1 : decode cX5_lay 1 = .ok (.iconst 0, 1) := dk_3 (dk_at dksX5_lay_0 1 rfl rfl)
theorem dX5_lay_2 : decode cX5_lay 2 = .ok (.putfield 1, 3) := dk_181 0 1 (dk_at dksX5_lay_0 2 rfl rfl)
theorem dX5_lay_5 : decode cX5_lay 5 = .ok (.iload_n 1, 1) := dk_27 (dk_at dksX5_lay_0 5 rfl rfl)
theorem dX5_lay_6 : decode cX5_lay 6 = .ok (.iconst 0, 1) := dk_3 (dk_at dksX5_lay_0 6 rfl rfl)
theorem dX5_lay_7 : decode cX5_lay 7 = .ok (.aload_n 0, 1) := dk_42 (dk_at dksX5_lay_0 7 rfl rfl)
theorem dX5_lay_8 : decode cX5_lay 8 = .ok (.getfield 371, 3) := dk_180 1 115 (dk_at dksX5_lay_0 8 rfl rfl)
theorem dX5_lay_11 : decode cX5_lay 11 = .ok (.iconst 1, 1) := dk_4 (dk_at dksX5_lay_0 11 rfl rfl)
theorem dX5_lay_12 : decode cX5_lay 12 = .ok (.isub, 1) := dk_100 (dk_at dksX5_lay_0 12 rfl rfl)
theorem dX5_lay_13 : decode cX5_lay 13 = .ok (.invokestatic 191, 3) := dk_184 0 191 (dk_at dksX5_lay_0 13 rfl rfl)
theorem dX5_lay_16 : decode cX5_lay 16 = .ok (.ifCond .eq 12, 3) := dk_153 0 12 (dk_at dksX5_lay_0 16 rfl rfl)
theorem dX5_lay_19 : decode cX5_lay 19 = .ok (.aload_n 0, 1) := dk_42 (dk_at dksX5_lay_0 19 rfl rfl)
theorem dX5_lay_20 : decode cX5_lay 20 = .ok (.getfield 87, 3) := dk_180 0 87 (dk_at dksX5_lay_0 20 rfl rfl)
theorem dX5_lay_23 : decode cX5_lay 23 = .ok (.iload_n 1, 1) := dk_27 (dk_at dksX5_lay_0 23 rfl rfl)
theorem dX5_lay_24 : decode cX5_lay 24 = .ok (.iaload, 1) := dk_46 (dk_at dksX5_lay_1 0 rfl rfl)
theorem dX5_lay_25 : decode cX5_lay 25 = .ok (.goto 4, 3) := dk_167 0 4 (dk_at dksX5_lay_1 1 rfl rfl)
theorem dX5_lay_28 : decode cX5_lay 28 = .ok (.iconst (-1), 1) := dk_2 (dk_at dksX5_lay_1 4 rfl rfl)
theorem dX5_lay_29 : decode cX5_lay 29 = .ok (.ireturn, 1) := dk_172 (dk_at dksX5_lay_1 5 rfl rfl)
abbrev cX5_spot : ByteArray := prog_19_method_83_code
def yX5_spot : MethodName := ⟨RX5, "spot", "()I"⟩
def dkwX5_spot_2 : List UInt8 := [167, 255, 222, 27, 172]
abbrev dktX5_spot_2 : List UInt8 := dkwX5_spot_2 ++ []
def dkwX5_spot_1 : List UInt8 := [184, 1, 121, 54, 4, 21, 4, 28, 163, 0, 6, 167, 0, 8, 21, 4, 61, 29, 60, 132, 3, 1]
abbrev dktX5_spot_1 : List UInt8 := dkwX5_spot_1 ++ dktX5_spot_2
def dkwX5_spot_0 : List UInt8 := [42, 3, 181, 0, 1, 2, 60, 3, 61, 3, 62, 29, 17, 0, 144, 162, 0, 33, 42, 29, 182, 1, 118]
abbrev dktX5_spot_0 : List UInt8 := dkwX5_spot_0 ++ dktX5_spot_1
theorem dksX5_spot_0 : cX5_spot.data.toList.drop 0 = dktX5_spot_0 := by decide +kernel
theorem dksX5_spot_1 : cX5_spot.data.toList.drop 23 = dktX5_spot_1 := dk_seg dksX5_spot_0 23 rfl rfl
theorem dksX5_spot_2 : cX5_spot.data.toList.drop 45 = dktX5_spot_2 := dk_seg dksX5_spot_1 22 rfl rfl
theorem dX5_spot_0 : decode cX5_spot 0 = .ok (.aload_n 0, 1) := dk_42 (dk_at dksX5_spot_0 0 rfl rfl)
theorem dX5_spot_1 : decode cX5_spot 1 = .ok (.iconst 0, 1) := dk_3 (dk_at dksX5_spot_0 1 rfl rfl)
theorem dX5_spot_2 : decode cX5_spot 2 = .ok (.putfield 1, 3) := dk_181 0 1 (dk_at dksX5_spot_0 2 rfl rfl)
theorem dX5_spot_5 : decode cX5_spot 5 = .ok (.iconst (-1), 1) := dk_2 (dk_at dksX5_spot_0 5 rfl rfl)
theorem dX5_spot_6 : decode cX5_spot 6 = .ok (.istore_n 1, 1) := dk_60 (dk_at dksX5_spot_0 6 rfl rfl)
theorem dX5_spot_7 : decode cX5_spot 7 = .ok (.iconst 0, 1) := dk_3 (dk_at dksX5_spot_0 7 rfl rfl)
theorem dX5_spot_8 : decode cX5_spot 8 = .ok (.istore_n 2, 1) := dk_61 (dk_at dksX5_spot_0 8 rfl rfl)
theorem dX5_spot_9 : decode cX5_spot 9 = .ok (.iconst 0, 1) := dk_3 (dk_at dksX5_spot_0 9 rfl rfl)
theorem dX5_spot_10 : decode cX5_spot 10 = .ok (.istore_n 3, 1) := dk_62 (dk_at dksX5_spot_0 10 rfl rfl)
theorem dX5_spot_11 : decode cX5_spot 11 = .ok (.iload_n 3, 1) := dk_29 (dk_at dksX5_spot_0 11 rfl rfl)
theorem dX5_spot_12 : decode cX5_spot 12 = .ok (.sipush 144, 3) := dk_17 0 144 (dk_at dksX5_spot_0 12 rfl rfl)
theorem dX5_spot_15 : decode cX5_spot 15 = .ok (.if_icmp .ge 33, 3) := dk_162 0 33 (dk_at dksX5_spot_0 15 rfl rfl)
theorem dX5_spot_18 : decode cX5_spot 18 = .ok (.aload_n 0, 1) := dk_42 (dk_at dksX5_spot_0 18 rfl rfl)
theorem dX5_spot_19 : decode cX5_spot 19 = .ok (.iload_n 3, 1) := dk_29 (dk_at dksX5_spot_0 19 rfl rfl)
theorem dX5_spot_20 : decode cX5_spot 20 = .ok (.invokevirtual 374, 3) := dk_182 1 118 (dk_at dksX5_spot_0 20 rfl rfl)
theorem dX5_spot_23 : decode cX5_spot 23 = .ok (.invokestatic 377, 3) := dk_184 1 121 (dk_at dksX5_spot_1 0 rfl rfl)
theorem dX5_spot_26 : decode cX5_spot 26 = .ok (.istore 4, 2) := dk_54 4 (dk_at dksX5_spot_1 3 rfl rfl)
theorem dX5_spot_28 : decode cX5_spot 28 = .ok (.iload 4, 2) := dk_21 4 (dk_at dksX5_spot_1 5 rfl rfl)
theorem dX5_spot_30 : decode cX5_spot 30 = .ok (.iload_n 2, 1) := dk_28 (dk_at dksX5_spot_1 7 rfl rfl)
theorem dX5_spot_31 : decode cX5_spot 31 = .ok (.if_icmp .gt 6, 3) := dk_163 0 6 (dk_at dksX5_spot_1 8 rfl rfl)
theorem dX5_spot_34 : decode cX5_spot 34 = .ok (.goto 8, 3) := dk_167 0 8 (dk_at dksX5_spot_1 11 rfl rfl)
theorem dX5_spot_37 : decode cX5_spot 37 = .ok (.iload 4, 2) := dk_21 4 (dk_at dksX5_spot_1 14 rfl rfl)
theorem dX5_spot_39 : decode cX5_spot 39 = .ok (.istore_n 2, 1) := dk_61 (dk_at dksX5_spot_1 16 rfl rfl)
theorem dX5_spot_40 : decode cX5_spot 40 = .ok (.iload_n 3, 1) := dk_29 (dk_at dksX5_spot_1 17 rfl rfl)
theorem dX5_spot_41 : decode cX5_spot 41 = .ok (.istore_n 1, 1) := dk_60 (dk_at dksX5_spot_1 18 rfl rfl)
theorem dX5_spot_42 : decode cX5_spot 42 = .ok (.iinc 3 1, 3) := dk_132 3 1 (dk_at dksX5_spot_1 19 rfl rfl)
theorem dX5_spot_45 : decode cX5_spot 45 = .ok (.goto (-34), 3) := dk_167 255 222 (dk_at dksX5_spot_2 0 rfl rfl)
theorem dX5_spot_48 : decode cX5_spot 48 = .ok (.iload_n 1, 1) := dk_27 (dk_at dksX5_spot_2 3 rfl rfl)
theorem dX5_spot_49 : decode cX5_spot 49 = .ok (.ireturn, 1) := dk_172 (dk_at dksX5_spot_2 4 rfl rfl)
abbrev cX5_waysOver : ByteArray := prog_19_method_81_code
def yX5_waysOver : MethodName := ⟨RX5, "waysOver", "(I)I"⟩
def dkwX5_waysOver_3 : List UInt8 := [172]
abbrev dktX5_waysOver_3 : List UInt8 := dkwX5_waysOver_3 ++ []
def dkwX5_waysOver_2 : List UInt8 := [46, 27, 160, 0, 9, 28, 4, 29, 120, 128, 61, 132, 4, 1, 167, 255, 212, 132, 3, 1, 167, 255, 193, 28]
abbrev dktX5_waysOver_2 : List UInt8 := dkwX5_waysOver_2 ++ dktX5_waysOver_3
def dkwX5_waysOver_1 : List UInt8 := [17, 0, 177, 29, 96, 46, 162, 0, 35, 42, 180, 0, 33, 17, 0, 183, 16, 41, 29, 104, 96, 21, 4, 96]
abbrev dktX5_waysOver_1 : List UInt8 := dkwX5_waysOver_1 ++ dktX5_waysOver_2
def dkwX5_waysOver_0 : List UInt8 := [3, 61, 3, 62, 29, 42, 180, 0, 33, 6, 46, 162, 0, 59, 3, 54, 4, 21, 4, 42, 180, 0, 33]
abbrev dktX5_waysOver_0 : List UInt8 := dkwX5_waysOver_0 ++ dktX5_waysOver_1
theorem dksX5_waysOver_0 : cX5_waysOver.data.toList.drop 0 = dktX5_waysOver_0 := by decide +kernel
theorem dksX5_waysOver_1 : cX5_waysOver.data.toList.drop 23 = dktX5_waysOver_1 := dk_seg dksX5_waysOver_0 23 rfl rfl
theorem dksX5_waysOver_2 : cX5_waysOver.data.toList.drop 47 = dktX5_waysOver_2 := dk_seg dksX5_waysOver_1 24 rfl rfl
theorem dksX5_waysOver_3 : cX5_waysOver.data.toList.drop 71 = dktX5_waysOver_3 := dk_seg dksX5_waysOver_2 24 rfl rfl
theorem dX5_waysOver_0 : decode cX5_waysOver 0 = .ok (.iconst 0, 1) := dk_3 (dk_at dksX5_waysOver_0 0 rfl rfl)
theorem dX5_waysOver_1 : decode cX5_waysOver 1 = .ok (.istore_n 2, 1) := dk_61 (dk_at dksX5_waysOver_0 1 rfl rfl)
theorem dX5_waysOver_2 : decode cX5_waysOver 2 = .ok (.iconst 0, 1) := dk_3 (dk_at dksX5_waysOver_0 2 rfl rfl)
theorem dX5_waysOver_3 : decode cX5_waysOver 3 = .ok (.istore_n 3, 1) := dk_62 (dk_at dksX5_waysOver_0 3 rfl rfl)
theorem dX5_waysOver_4 : decode cX5_waysOver 4 = .ok (.iload_n 3, 1) := dk_29 (dk_at dksX5_waysOver_0 4 rfl rfl)
theorem dX5_waysOver_5 : decode cX5_waysOver 5 = .ok (.aload_n 0, 1) := dk_42 (dk_at dksX5_waysOver_0 5 rfl rfl)
theorem dX5_waysOver_6 : decode cX5_waysOver 6 = .ok (.getfield 33, 3) := dk_180 0 33 (dk_at dksX5_waysOver_0 6 rfl rfl)
theorem dX5_waysOver_9 : decode cX5_waysOver 9 = .ok (.iconst 3, 1) := dk_6 (dk_at dksX5_waysOver_0 9 rfl rfl)
theorem dX5_waysOver_10 : decode cX5_waysOver 10 = .ok (.iaload, 1) := dk_46 (dk_at dksX5_waysOver_0 10 rfl rfl)
theorem dX5_waysOver_11 : decode cX5_waysOver 11 = .ok (.if_icmp .ge 59, 3) := dk_162 0 59 (dk_at dksX5_waysOver_0 11 rfl rfl)
theorem dX5_waysOver_14 : decode cX5_waysOver 14 = .ok (.iconst 0, 1) := dk_3 (dk_at dksX5_waysOver_0 14 rfl rfl)
theorem dX5_waysOver_15 : decode cX5_waysOver 15 = .ok (.istore 4, 2) := dk_54 4 (dk_at dksX5_waysOver_0 15 rfl rfl)
theorem dX5_waysOver_17 : decode cX5_waysOver 17 = .ok (.iload 4, 2) := dk_21 4 (dk_at dksX5_waysOver_0 17 rfl rfl)
theorem dX5_waysOver_19 : decode cX5_waysOver 19 = .ok (.aload_n 0, 1) := dk_42 (dk_at dksX5_waysOver_0 19 rfl rfl)
theorem dX5_waysOver_20 : decode cX5_waysOver 20 = .ok (.getfield 33, 3) := dk_180 0 33 (dk_at dksX5_waysOver_0 20 rfl rfl)
theorem dX5_waysOver_23 : decode cX5_waysOver 23 = .ok (.sipush 177, 3) := dk_17 0 177 (dk_at dksX5_waysOver_1 0 rfl rfl)
theorem dX5_waysOver_26 : decode cX5_waysOver 26 = .ok (.iload_n 3, 1) := dk_29 (dk_at dksX5_waysOver_1 3 rfl rfl)
theorem dX5_waysOver_27 : decode cX5_waysOver 27 = .ok (.iadd, 1) := dk_96 (dk_at dksX5_waysOver_1 4 rfl rfl)
theorem dX5_waysOver_28 : decode cX5_waysOver 28 = .ok (.iaload, 1) := dk_46 (dk_at dksX5_waysOver_1 5 rfl rfl)
theorem dX5_waysOver_29 : decode cX5_waysOver 29 = .ok (.if_icmp .ge 35, 3) := dk_162 0 35 (dk_at dksX5_waysOver_1 6 rfl rfl)
theorem dX5_waysOver_32 : decode cX5_waysOver 32 = .ok (.aload_n 0, 1) := dk_42 (dk_at dksX5_waysOver_1 9 rfl rfl)
theorem dX5_waysOver_33 : decode cX5_waysOver 33 = .ok (.getfield 33, 3) := dk_180 0 33 (dk_at dksX5_waysOver_1 10 rfl rfl)
theorem dX5_waysOver_36 : decode cX5_waysOver 36 = .ok (.sipush 183, 3) := dk_17 0 183 (dk_at dksX5_waysOver_1 13 rfl rfl)
theorem dX5_waysOver_39 : decode cX5_waysOver 39 = .ok (.bipush 41, 2) := dk_16 41 (dk_at dksX5_waysOver_1 16 rfl rfl)
theorem dX5_waysOver_41 : decode cX5_waysOver 41 = .ok (.iload_n 3, 1) := dk_29 (dk_at dksX5_waysOver_1 18 rfl rfl)
theorem dX5_waysOver_42 : decode cX5_waysOver 42 = .ok (.imul, 1) := dk_104 (dk_at dksX5_waysOver_1 19 rfl rfl)
theorem dX5_waysOver_43 : decode cX5_waysOver 43 = .ok (.iadd, 1) := dk_96 (dk_at dksX5_waysOver_1 20 rfl rfl)
theorem dX5_waysOver_44 : decode cX5_waysOver 44 = .ok (.iload 4, 2) := dk_21 4 (dk_at dksX5_waysOver_1 21 rfl rfl)
theorem dX5_waysOver_46 : decode cX5_waysOver 46 = .ok (.iadd, 1) := dk_96 (dk_at dksX5_waysOver_1 23 rfl rfl)
theorem dX5_waysOver_47 : decode cX5_waysOver 47 = .ok (.iaload, 1) := dk_46 (dk_at dksX5_waysOver_2 0 rfl rfl)
theorem dX5_waysOver_48 : decode cX5_waysOver 48 = .ok (.iload_n 1, 1) := dk_27 (dk_at dksX5_waysOver_2 1 rfl rfl)
theorem dX5_waysOver_49 : decode cX5_waysOver 49 = .ok (.if_icmp .ne 9, 3) := dk_160 0 9 (dk_at dksX5_waysOver_2 2 rfl rfl)
theorem dX5_waysOver_52 : decode cX5_waysOver 52 = .ok (.iload_n 2, 1) := dk_28 (dk_at dksX5_waysOver_2 5 rfl rfl)
theorem dX5_waysOver_53 : decode cX5_waysOver 53 = .ok (.iconst 1, 1) := dk_4 (dk_at dksX5_waysOver_2 6 rfl rfl)
theorem dX5_waysOver_54 : decode cX5_waysOver 54 = .ok (.iload_n 3, 1) := dk_29 (dk_at dksX5_waysOver_2 7 rfl rfl)
theorem dX5_waysOver_55 : decode cX5_waysOver 55 = .ok (.ishl, 1) := dk_120 (dk_at dksX5_waysOver_2 8 rfl rfl)
theorem dX5_waysOver_56 : decode cX5_waysOver 56 = .ok (.ior, 1) := dk_128 (dk_at dksX5_waysOver_2 9 rfl rfl)
theorem dX5_waysOver_57 : decode cX5_waysOver 57 = .ok (.istore_n 2, 1) := dk_61 (dk_at dksX5_waysOver_2 10 rfl rfl)
theorem dX5_waysOver_58 : decode cX5_waysOver 58 = .ok (.iinc 4 1, 3) := dk_132 4 1 (dk_at dksX5_waysOver_2 11 rfl rfl)
theorem dX5_waysOver_61 : decode cX5_waysOver 61 = .ok (.goto (-44), 3) := dk_167 255 212 (dk_at dksX5_waysOver_2 14 rfl rfl)
theorem dX5_waysOver_64 : decode cX5_waysOver 64 = .ok (.iinc 3 1, 3) := dk_132 3 1 (dk_at dksX5_waysOver_2 17 rfl rfl)
theorem dX5_waysOver_67 : decode cX5_waysOver 67 = .ok (.goto (-63), 3) := dk_167 255 193 (dk_at dksX5_waysOver_2 20 rfl rfl)
theorem dX5_waysOver_70 : decode cX5_waysOver 70 = .ok (.iload_n 2, 1) := dk_28 (dk_at dksX5_waysOver_2 23 rfl rfl)
theorem dX5_waysOver_71 : decode cX5_waysOver 71 = .ok (.ireturn, 1) := dk_172 (dk_at dksX5_waysOver_3 0 rfl rfl)
abbrev cX5_bits : ByteArray := prog_19_method_82_code
def yX5_bits : MethodName := ⟨RX5, "bits", "(I)I"⟩
def dkwX5_bits_0 : List UInt8 := [3, 60, 26, 61, 28, 153, 0, 15, 132, 1, 1, 28, 28, 4, 100, 126, 61, 167, 255, 243, 27, 172]
abbrev dktX5_bits_0 : List UInt8 := dkwX5_bits_0 ++ []
theorem dksX5_bits_0 : cX5_bits.data.toList.drop 0 = dktX5_bits_0 := by decide +kernel
theorem dX5_bits_0 : decode cX5_bits 0 = .ok (.iconst 0, 1) := dk_3 (dk_at dksX5_bits_0 0 rfl rfl)
theorem dX5_bits_1 : decode cX5_bits 1 = .ok (.istore_n 1, 1) := dk_60 (dk_at dksX5_bits_0 1 rfl rfl)
theorem dX5_bits_2 : decode cX5_bits 2 = .ok (.iload_n 0, 1) := dk_26 (dk_at dksX5_bits_0 2 rfl rfl)
theorem dX5_bits_3 : decode cX5_bits 3 = .ok (.istore_n 2, 1) := dk_61 (dk_at dksX5_bits_0 3 rfl rfl)
theorem dX5_bits_4 : decode cX5_bits 4 = .ok (.iload_n 2, 1) := dk_28 (dk_at dksX5_bits_0 4 rfl rfl)
theorem dX5_bits_5 : decode cX5_bits 5 = .ok (.ifCond .eq 15, 3) := dk_153 0 15 (dk_at dksX5_bits_0 5 rfl rfl)
theorem dX5_bits_8 : decode cX5_bits 8 = .ok (.iinc 1 1, 3) := dk_132 1 1 (dk_at dksX5_bits_0 8 rfl rfl)
theorem dX5_bits_11 : decode cX5_bits 11 = .ok (.iload_n 2, 1) := dk_28 (dk_at dksX5_bits_0 11 rfl rfl)
theorem dX5_bits_12 : decode cX5_bits 12 = .ok (.iload_n 2, 1) := dk_28 (dk_at dksX5_bits_0 12 rfl rfl)
theorem dX5_bits_13 : decode cX5_bits 13 = .ok (.iconst 1, 1) := dk_4 (dk_at dksX5_bits_0 13 rfl rfl)
theorem dX5_bits_14 : decode cX5_bits 14 = .ok (.isub, 1) := dk_100 (dk_at dksX5_bits_0 14 rfl rfl)
theorem dX5_bits_15 : decode cX5_bits 15 = .ok (.iand, 1) := dk_126 (dk_at dksX5_bits_0 15 rfl rfl)
theorem dX5_bits_16 : decode cX5_bits 16 = .ok (.istore_n 2, 1) := dk_61 (dk_at dksX5_bits_0 16 rfl rfl)
theorem dX5_bits_17 : decode cX5_bits 17 = .ok (.goto (-13), 3) := dk_167 255 243 (dk_at dksX5_bits_0 17 rfl rfl)
theorem dX5_bits_20 : decode cX5_bits 20 = .ok (.iload_n 1, 1) := dk_27 (dk_at dksX5_bits_0 20 rfl rfl)
theorem dX5_bits_21 : decode cX5_bits 21 = .ok (.ireturn, 1) := dk_172 (dk_at dksX5_bits_0 21 rfl rfl)
abbrev cX5_ways : ByteArray := prog_19_method_84_code
def yX5_ways : MethodName := ⟨RX5, "ways", "(I)I"⟩
def dkwX5_ways_0 : List UInt8 := [42, 3, 181, 0, 1, 42, 27, 182, 1, 10, 153, 0, 11, 42, 27, 182, 1, 118, 167, 0, 4, 2, 172]
abbrev dktX5_ways_0 : List UInt8 := dkwX5_ways_0 ++ []
theorem dksX5_ways_0 : cX5_ways.data.toList.drop 0 = dktX5_ways_0 := by decide +kernel
theorem dX5_ways_0 : decode cX5_ways 0 = .ok (.aload_n 0, 1) := dk_42 (dk_at dksX5_ways_0 0 rfl rfl)
theorem dX5_ways_1 : decode cX5_ways 1 = .ok (.iconst 0, 1) := dk_3 (dk_at dksX5_ways_0 1 rfl rfl)
theorem dX5_ways_2 : decode cX5_ways 2 = .ok (.putfield 1, 3) := dk_181 0 1 (dk_at dksX5_ways_0 2 rfl rfl)
theorem dX5_ways_5 : decode cX5_ways 5 = .ok (.aload_n 0, 1) := dk_42 (dk_at dksX5_ways_0 5 rfl rfl)
theorem dX5_ways_6 : decode cX5_ways 6 = .ok (.iload_n 1, 1) := dk_27 (dk_at dksX5_ways_0 6 rfl rfl)
theorem dX5_ways_7 : decode cX5_ways 7 = .ok (.invokevirtual 266, 3) := dk_182 1 10 (dk_at dksX5_ways_0 7 rfl rfl)
theorem dX5_ways_10 : decode cX5_ways 10 = .ok (.ifCond .eq 11, 3) := dk_153 0 11 (dk_at dksX5_ways_0 10 rfl rfl)
theorem dX5_ways_13 : decode cX5_ways 13 = .ok (.aload_n 0, 1) := dk_42 (dk_at dksX5_ways_0 13 rfl rfl)
theorem dX5_ways_14 : decode cX5_ways 14 = .ok (.iload_n 1, 1) := dk_27 (dk_at dksX5_ways_0 14 rfl rfl)
theorem dX5_ways_15 : decode cX5_ways 15 = .ok (.invokevirtual 374, 3) := dk_182 1 118 (dk_at dksX5_ways_0 15 rfl rfl)
theorem dX5_ways_18 : decode cX5_ways 18 = .ok (.goto 4, 3) := dk_167 0 4 (dk_at dksX5_ways_0 18 rfl rfl)
theorem dX5_ways_21 : decode cX5_ways 21 = .ok (.iconst (-1), 1) := dk_2 (dk_at dksX5_ways_0 21 rfl rfl)
theorem dX5_ways_22 : decode cX5_ways 22 = .ok (.ireturn, 1) := dk_172 (dk_at dksX5_ways_0 22 rfl rfl)
abbrev cX5_both : ByteArray := prog_19_method_85_code
def yX5_both : MethodName := ⟨RX5, "both", "(II)I"⟩
def dkwX5_both_3 : List UInt8 := [132, 4, 1, 167, 255, 211, 29, 172]
abbrev dktX5_both_3 : List UInt8 := dkwX5_both_3 ++ []
def dkwX5_both_2 : List UInt8 := [153, 0, 20, 42, 21, 4, 182, 1, 118, 28, 184, 1, 124, 153, 0, 7, 4, 167, 0, 4, 3, 96, 62]
abbrev dktX5_both_2 : List UInt8 := dkwX5_both_2 ++ dktX5_both_3
def dkwX5_both_1 : List UInt8 := [62, 3, 54, 4, 21, 4, 17, 0, 144, 162, 0, 43, 29, 42, 21, 4, 182, 1, 118, 27, 184, 1, 124]
abbrev dktX5_both_1 : List UInt8 := dkwX5_both_1 ++ dktX5_both_2
def dkwX5_both_0 : List UInt8 := [42, 3, 181, 0, 1, 42, 27, 182, 1, 23, 153, 0, 11, 42, 28, 182, 1, 23, 154, 0, 5, 2, 172, 3]
abbrev dktX5_both_0 : List UInt8 := dkwX5_both_0 ++ dktX5_both_1
theorem dksX5_both_0 : cX5_both.data.toList.drop 0 = dktX5_both_0 := by decide +kernel
theorem dksX5_both_1 : cX5_both.data.toList.drop 24 = dktX5_both_1 := dk_seg dksX5_both_0 24 rfl rfl
theorem dksX5_both_2 : cX5_both.data.toList.drop 47 = dktX5_both_2 := dk_seg dksX5_both_1 23 rfl rfl
theorem dksX5_both_3 : cX5_both.data.toList.drop 70 = dktX5_both_3 := dk_seg dksX5_both_2 23 rfl rfl
theorem dX5_both_0 : decode cX5_both 0 = .ok (.aload_n 0, 1) := dk_42 (dk_at dksX5_both_0 0 rfl rfl)
theorem dX5_both_1 : decode cX5_both 1 = .ok (.iconst 0, 1) := dk_3 (dk_at dksX5_both_0 1 rfl rfl)
theorem dX5_both_2 : decode cX5_both 2 = .ok (.putfield 1, 3) := dk_181 0 1 (dk_at dksX5_both_0 2 rfl rfl)
theorem dX5_both_5 : decode cX5_both 5 = .ok (.aload_n 0, 1) := dk_42 (dk_at dksX5_both_0 5 rfl rfl)
theorem dX5_both_6 : decode cX5_both 6 = .ok (.iload_n 1, 1) := dk_27 (dk_at dksX5_both_0 6 rfl rfl)
theorem dX5_both_7 : decode cX5_both 7 = .ok (.invokevirtual 279, 3) := dk_182 1 23 (dk_at dksX5_both_0 7 rfl rfl)
theorem dX5_both_10 : decode cX5_both 10 = .ok (.ifCond .eq 11, 3) := dk_153 0 11 (dk_at dksX5_both_0 10 rfl rfl)
theorem dX5_both_13 : decode cX5_both 13 = .ok (.aload_n 0, 1) := dk_42 (dk_at dksX5_both_0 13 rfl rfl)
theorem dX5_both_14 : decode cX5_both 14 = .ok (.iload_n 2, 1) := dk_28 (dk_at dksX5_both_0 14 rfl rfl)
theorem dX5_both_15 : decode cX5_both 15 = .ok (.invokevirtual 279, 3) := dk_182 1 23 (dk_at dksX5_both_0 15 rfl rfl)
theorem dX5_both_18 : decode cX5_both 18 = .ok (.ifCond .ne 5, 3) := dk_154 0 5 (dk_at dksX5_both_0 18 rfl rfl)
theorem dX5_both_21 : decode cX5_both 21 = .ok (.iconst (-1), 1) := dk_2 (dk_at dksX5_both_0 21 rfl rfl)
theorem dX5_both_22 : decode cX5_both 22 = .ok (.ireturn, 1) := dk_172 (dk_at dksX5_both_0 22 rfl rfl)
theorem dX5_both_23 : decode cX5_both 23 = .ok (.iconst 0, 1) := dk_3 (dk_at dksX5_both_0 23 rfl rfl)
theorem dX5_both_24 : decode cX5_both 24 = .ok (.istore_n 3, 1) := dk_62 (dk_at dksX5_both_1 0 rfl rfl)
theorem dX5_both_25 : decode cX5_both 25 = .ok (.iconst 0, 1) := dk_3 (dk_at dksX5_both_1 1 rfl rfl)
theorem dX5_both_26 : decode cX5_both 26 = .ok (.istore 4, 2) := dk_54 4 (dk_at dksX5_both_1 2 rfl rfl)
theorem dX5_both_28 : decode cX5_both 28 = .ok (.iload 4, 2) := dk_21 4 (dk_at dksX5_both_1 4 rfl rfl)
theorem dX5_both_30 : decode cX5_both 30 = .ok (.sipush 144, 3) := dk_17 0 144 (dk_at dksX5_both_1 6 rfl rfl)
theorem dX5_both_33 : decode cX5_both 33 = .ok (.if_icmp .ge 43, 3) := dk_162 0 43 (dk_at dksX5_both_1 9 rfl rfl)
theorem dX5_both_36 : decode cX5_both 36 = .ok (.iload_n 3, 1) := dk_29 (dk_at dksX5_both_1 12 rfl rfl)
theorem dX5_both_37 : decode cX5_both 37 = .ok (.aload_n 0, 1) := dk_42 (dk_at dksX5_both_1 13 rfl rfl)
theorem dX5_both_38 : decode cX5_both 38 = .ok (.iload 4, 2) := dk_21 4 (dk_at dksX5_both_1 14 rfl rfl)
theorem dX5_both_40 : decode cX5_both 40 = .ok (.invokevirtual 374, 3) := dk_182 1 118 (dk_at dksX5_both_1 16 rfl rfl)
theorem dX5_both_43 : decode cX5_both 43 = .ok (.iload_n 1, 1) := dk_27 (dk_at dksX5_both_1 19 rfl rfl)
theorem dX5_both_44 : decode cX5_both 44 = .ok (.invokestatic 380, 3) := dk_184 1 124 (dk_at dksX5_both_1 20 rfl rfl)
theorem dX5_both_47 : decode cX5_both 47 = .ok (.ifCond .eq 20, 3) := dk_153 0 20 (dk_at dksX5_both_2 0 rfl rfl)
theorem dX5_both_50 : decode cX5_both 50 = .ok (.aload_n 0, 1) := dk_42 (dk_at dksX5_both_2 3 rfl rfl)
theorem dX5_both_51 : decode cX5_both 51 = .ok (.iload 4, 2) := dk_21 4 (dk_at dksX5_both_2 4 rfl rfl)
theorem dX5_both_53 : decode cX5_both 53 = .ok (.invokevirtual 374, 3) := dk_182 1 118 (dk_at dksX5_both_2 6 rfl rfl)
theorem dX5_both_56 : decode cX5_both 56 = .ok (.iload_n 2, 1) := dk_28 (dk_at dksX5_both_2 9 rfl rfl)
theorem dX5_both_57 : decode cX5_both 57 = .ok (.invokestatic 380, 3) := dk_184 1 124 (dk_at dksX5_both_2 10 rfl rfl)
theorem dX5_both_60 : decode cX5_both 60 = .ok (.ifCond .eq 7, 3) := dk_153 0 7 (dk_at dksX5_both_2 13 rfl rfl)
theorem dX5_both_63 : decode cX5_both 63 = .ok (.iconst 1, 1) := dk_4 (dk_at dksX5_both_2 16 rfl rfl)
theorem dX5_both_64 : decode cX5_both 64 = .ok (.goto 4, 3) := dk_167 0 4 (dk_at dksX5_both_2 17 rfl rfl)
theorem dX5_both_67 : decode cX5_both 67 = .ok (.iconst 0, 1) := dk_3 (dk_at dksX5_both_2 20 rfl rfl)
theorem dX5_both_68 : decode cX5_both 68 = .ok (.iadd, 1) := dk_96 (dk_at dksX5_both_2 21 rfl rfl)
theorem dX5_both_69 : decode cX5_both 69 = .ok (.istore_n 3, 1) := dk_62 (dk_at dksX5_both_2 22 rfl rfl)
theorem dX5_both_70 : decode cX5_both 70 = .ok (.iinc 4 1, 3) := dk_132 4 1 (dk_at dksX5_both_3 0 rfl rfl)
theorem dX5_both_73 : decode cX5_both 73 = .ok (.goto (-45), 3) := dk_167 255 211 (dk_at dksX5_both_3 3 rfl rfl)
theorem dX5_both_76 : decode cX5_both 76 = .ok (.iload_n 3, 1) := dk_29 (dk_at dksX5_both_3 6 rfl rfl)
theorem dX5_both_77 : decode cX5_both 77 = .ok (.ireturn, 1) := dk_172 (dk_at dksX5_both_3 7 rfl rfl)
abbrev cX5_bitOf : ByteArray := prog_19_method_8_code
def yX5_bitOf : MethodName := ⟨RX5, "bitOf", "(II)Z"⟩
def dkwX5_bitOf_0 : List UInt8 := [26, 27, 122, 4, 126, 4, 160, 0, 7, 4, 167, 0, 4, 3, 172]
abbrev dktX5_bitOf_0 : List UInt8 := dkwX5_bitOf_0 ++ []
theorem dksX5_bitOf_0 : cX5_bitOf.data.toList.drop 0 = dktX5_bitOf_0 := by decide +kernel
theorem dX5_bitOf_0 : decode cX5_bitOf 0 = .ok (.iload_n 0, 1) := dk_26 (dk_at dksX5_bitOf_0 0 rfl rfl)
theorem dX5_bitOf_1 : decode cX5_bitOf 1 = .ok (.iload_n 1, 1) := dk_27 (dk_at dksX5_bitOf_0 1 rfl rfl)
theorem dX5_bitOf_2 : decode cX5_bitOf 2 = .ok (.ishr, 1) := dk_122 (dk_at dksX5_bitOf_0 2 rfl rfl)
theorem dX5_bitOf_3 : decode cX5_bitOf 3 = .ok (.iconst 1, 1) := dk_4 (dk_at dksX5_bitOf_0 3 rfl rfl)
theorem dX5_bitOf_4 : decode cX5_bitOf 4 = .ok (.iand, 1) := dk_126 (dk_at dksX5_bitOf_0 4 rfl rfl)
theorem dX5_bitOf_5 : decode cX5_bitOf 5 = .ok (.iconst 1, 1) := dk_4 (dk_at dksX5_bitOf_0 5 rfl rfl)
theorem dX5_bitOf_6 : decode cX5_bitOf 6 = .ok (.if_icmp .ne 7, 3) := dk_160 0 7 (dk_at dksX5_bitOf_0 6 rfl rfl)
theorem dX5_bitOf_9 : decode cX5_bitOf 9 = .ok (.iconst 1, 1) := dk_4 (dk_at dksX5_bitOf_0 9 rfl rfl)
theorem dX5_bitOf_10 : decode cX5_bitOf 10 = .ok (.goto 4, 3) := dk_167 0 4 (dk_at dksX5_bitOf_0 10 rfl rfl)
theorem dX5_bitOf_13 : decode cX5_bitOf 13 = .ok (.iconst 0, 1) := dk_3 (dk_at dksX5_bitOf_0 13 rfl rfl)
theorem dX5_bitOf_14 : decode cX5_bitOf 14 = .ok (.ireturn, 1) := dk_172 (dk_at dksX5_bitOf_0 14 rfl rfl)
abbrev cX5_years : ByteArray := prog_19_method_87_code
def yX5_years : MethodName := ⟨RX5, "years", "(III)I"⟩
def dkwX5_years_8 : List UInt8 := [182, 1, 44, 132, 4, 1, 167, 255, 140, 42, 180, 0, 33, 17, 1, 173, 46, 172]
abbrev dktX5_years_8 : List UInt8 := dkwX5_years_8 ++ []
def dkwX5_years_7 : List UInt8 := [180, 0, 33, 4, 46, 182, 1, 131, 54, 6, 42, 16, 12, 21, 6, 104, 21, 5, 96, 182, 1, 47, 87, 42]
abbrev dktX5_years_7 : List UInt8 := dkwX5_years_7 ++ dktX5_years_8
def dkwX5_years_6 : List UInt8 := [16, 6, 182, 1, 131, 154, 0, 40, 42, 42, 180, 0, 33, 3, 46, 182, 1, 131, 54, 5, 42, 42]
abbrev dktX5_years_6 : List UInt8 := dkwX5_years_6 ++ dktX5_years_7
def dkwX5_years_5 : List UInt8 := [21, 6, 21, 7, 42, 180, 0, 33, 16, 13, 21, 6, 96, 46, 182, 1, 33, 132, 5, 1, 167, 255, 205, 42]
abbrev dktX5_years_5 : List UInt8 := dkwX5_years_5 ++ dktX5_years_6
def dkwX5_years_4 : List UInt8 := [180, 0, 33, 5, 46, 182, 1, 131, 54, 6, 42, 42, 180, 0, 33, 6, 46, 182, 1, 131, 54, 7, 42]
abbrev dktX5_years_4 : List UInt8 := dkwX5_years_4 ++ dktX5_years_5
def dkwX5_years_3 : List UInt8 := [181, 1, 127, 3, 54, 4, 21, 4, 27, 162, 0, 116, 3, 54, 5, 21, 5, 28, 162, 0, 51, 42, 42]
abbrev dktX5_years_3 : List UInt8 := dkwX5_years_3 ++ dktX5_years_4
def dkwX5_years_2 : List UInt8 := [180, 0, 33, 17, 1, 173, 46, 27, 96, 17, 3, 231, 164, 0, 5, 2, 172, 42, 182, 1, 30, 42, 29]
abbrev dktX5_years_2 : List UInt8 := dkwX5_years_2 ++ dktX5_years_3
def dkwX5_years_1 : List UInt8 := [153, 0, 37, 42, 180, 0, 33, 5, 46, 153, 0, 28, 42, 180, 0, 33, 6, 46, 153, 0, 19, 42]
abbrev dktX5_years_1 : List UInt8 := dkwX5_years_1 ++ dktX5_years_2
def dkwX5_years_0 : List UInt8 := [42, 3, 181, 0, 1, 27, 4, 16, 60, 184, 0, 191, 153, 0, 47, 28, 4, 16, 9, 184, 0, 191]
abbrev dktX5_years_0 : List UInt8 := dkwX5_years_0 ++ dktX5_years_1
theorem dksX5_years_0 : cX5_years.data.toList.drop 0 = dktX5_years_0 := by decide +kernel
theorem dksX5_years_1 : cX5_years.data.toList.drop 22 = dktX5_years_1 := dk_seg dksX5_years_0 22 rfl rfl
theorem dksX5_years_2 : cX5_years.data.toList.drop 44 = dktX5_years_2 := dk_seg dksX5_years_1 22 rfl rfl
theorem dksX5_years_3 : cX5_years.data.toList.drop 67 = dktX5_years_3 := dk_seg dksX5_years_2 23 rfl rfl
theorem dksX5_years_4 : cX5_years.data.toList.drop 90 = dktX5_years_4 := dk_seg dksX5_years_3 23 rfl rfl
theorem dksX5_years_5 : cX5_years.data.toList.drop 113 = dktX5_years_5 := dk_seg dksX5_years_4 23 rfl rfl
theorem dksX5_years_6 : cX5_years.data.toList.drop 137 = dktX5_years_6 := dk_seg dksX5_years_5 24 rfl rfl
theorem dksX5_years_7 : cX5_years.data.toList.drop 159 = dktX5_years_7 := dk_seg dksX5_years_6 22 rfl rfl
theorem dksX5_years_8 : cX5_years.data.toList.drop 183 = dktX5_years_8 := dk_seg dksX5_years_7 24 rfl rfl
theorem dX5_years_0 : decode cX5_years 0 = .ok (.aload_n 0, 1) := dk_42 (dk_at dksX5_years_0 0 rfl rfl)
theorem dX5_years_1 : decode cX5_years 1 = .ok (.iconst 0, 1) := dk_3 (dk_at dksX5_years_0 1 rfl rfl)
theorem dX5_years_2 : decode cX5_years 2 = .ok (.putfield 1, 3) := dk_181 0 1 (dk_at dksX5_years_0 2 rfl rfl)
theorem dX5_years_5 : decode cX5_years 5 = .ok (.iload_n 1, 1) := dk_27 (dk_at dksX5_years_0 5 rfl rfl)
theorem dX5_years_6 : decode cX5_years 6 = .ok (.iconst 1, 1) := dk_4 (dk_at dksX5_years_0 6 rfl rfl)
theorem dX5_years_7 : decode cX5_years 7 = .ok (.bipush 60, 2) := dk_16 60 (dk_at dksX5_years_0 7 rfl rfl)
theorem dX5_years_9 : decode cX5_years 9 = .ok (.invokestatic 191, 3) := dk_184 0 191 (dk_at dksX5_years_0 9 rfl rfl)
theorem dX5_years_12 : decode cX5_years 12 = .ok (.ifCond .eq 47, 3) := dk_153 0 47 (dk_at dksX5_years_0 12 rfl rfl)
theorem dX5_years_15 : decode cX5_years 15 = .ok (.iload_n 2, 1) := dk_28 (dk_at dksX5_years_0 15 rfl rfl)
theorem dX5_years_16 : decode cX5_years 16 = .ok (.iconst 1, 1) := dk_4 (dk_at dksX5_years_0 16 rfl rfl)
theorem dX5_years_17 : decode cX5_years 17 = .ok (.bipush 9, 2) := dk_16 9 (dk_at dksX5_years_0 17 rfl rfl)
theorem dX5_years_19 : decode cX5_years 19 = .ok (.invokestatic 191, 3) := dk_184 0 191 (dk_at dksX5_years_0 19 rfl rfl)
theorem dX5_years_22 : decode cX5_years 22 = .ok (.ifCond .eq 37, 3) := dk_153 0 37 (dk_at dksX5_years_1 0 rfl rfl)
theorem dX5_years_25 : decode cX5_years 25 = .ok (.aload_n 0, 1) := dk_42 (dk_at dksX5_years_1 3 rfl rfl)
theorem dX5_years_26 : decode cX5_years 26 = .ok (.getfield 33, 3) := dk_180 0 33 (dk_at dksX5_years_1 4 rfl rfl)
theorem dX5_years_29 : decode cX5_years 29 = .ok (.iconst 2, 1) := dk_5 (dk_at dksX5_years_1 7 rfl rfl)
theorem dX5_years_30 : decode cX5_years 30 = .ok (.iaload, 1) := dk_46 (dk_at dksX5_years_1 8 rfl rfl)
theorem dX5_years_31 : decode cX5_years 31 = .ok (.ifCond .eq 28, 3) := dk_153 0 28 (dk_at dksX5_years_1 9 rfl rfl)
theorem dX5_years_34 : decode cX5_years 34 = .ok (.aload_n 0, 1) := dk_42 (dk_at dksX5_years_1 12 rfl rfl)
theorem dX5_years_35 : decode cX5_years 35 = .ok (.getfield 33, 3) := dk_180 0 33 (dk_at dksX5_years_1 13 rfl rfl)
theorem dX5_years_38 : decode cX5_years 38 = .ok (.iconst 3, 1) := dk_6 (dk_at dksX5_years_1 16 rfl rfl)
theorem dX5_years_39 : decode cX5_years 39 = .ok (.iaload, 1) := dk_46 (dk_at dksX5_years_1 17 rfl rfl)
theorem dX5_years_40 : decode cX5_years 40 = .ok (.ifCond .eq 19, 3) := dk_153 0 19 (dk_at dksX5_years_1 18 rfl rfl)
theorem dX5_years_43 : decode cX5_years 43 = .ok (.aload_n 0, 1) := dk_42 (dk_at dksX5_years_1 21 rfl rfl)
theorem dX5_years_44 : decode cX5_years 44 = .ok (.getfield 33, 3) := dk_180 0 33 (dk_at dksX5_years_2 0 rfl rfl)
theorem dX5_years_47 : decode cX5_years 47 = .ok (.sipush 429, 3) := dk_17 1 173 (dk_at dksX5_years_2 3 rfl rfl)
theorem dX5_years_50 : decode cX5_years 50 = .ok (.iaload, 1) := dk_46 (dk_at dksX5_years_2 6 rfl rfl)
theorem dX5_years_51 : decode cX5_years 51 = .ok (.iload_n 1, 1) := dk_27 (dk_at dksX5_years_2 7 rfl rfl)
theorem dX5_years_52 : decode cX5_years 52 = .ok (.iadd, 1) := dk_96 (dk_at dksX5_years_2 8 rfl rfl)
theorem dX5_years_53 : decode cX5_years 53 = .ok (.sipush 999, 3) := dk_17 3 231 (dk_at dksX5_years_2 9 rfl rfl)
theorem dX5_years_56 : decode cX5_years 56 = .ok (.if_icmp .le 5, 3) := dk_164 0 5 (dk_at dksX5_years_2 12 rfl rfl)
theorem dX5_years_59 : decode cX5_years 59 = .ok (.iconst (-1), 1) := dk_2 (dk_at dksX5_years_2 15 rfl rfl)
theorem dX5_years_60 : decode cX5_years 60 = .ok (.ireturn, 1) := dk_172 (dk_at dksX5_years_2 16 rfl rfl)
theorem dX5_years_61 : decode cX5_years 61 = .ok (.aload_n 0, 1) := dk_42 (dk_at dksX5_years_2 17 rfl rfl)
theorem dX5_years_62 : decode cX5_years 62 = .ok (.invokevirtual 286, 3) := dk_182 1 30 (dk_at dksX5_years_2 18 rfl rfl)
theorem dX5_years_65 : decode cX5_years 65 = .ok (.aload_n 0, 1) := dk_42 (dk_at dksX5_years_2 21 rfl rfl)
theorem dX5_years_66 : decode cX5_years 66 = .ok (.iload_n 3, 1) := dk_29 (dk_at dksX5_years_2 22 rfl rfl)
theorem dX5_years_67 : decode cX5_years 67 = .ok (.putfield 383, 3) := dk_181 1 127 (dk_at dksX5_years_3 0 rfl rfl)
theorem dX5_years_70 : decode cX5_years 70 = .ok (.iconst 0, 1) := dk_3 (dk_at dksX5_years_3 3 rfl rfl)
theorem dX5_years_71 : decode cX5_years 71 = .ok (.istore 4, 2) := dk_54 4 (dk_at dksX5_years_3 4 rfl rfl)
theorem dX5_years_73 : decode cX5_years 73 = .ok (.iload 4, 2) := dk_21 4 (dk_at dksX5_years_3 6 rfl rfl)
theorem dX5_years_75 : decode cX5_years 75 = .ok (.iload_n 1, 1) := dk_27 (dk_at dksX5_years_3 8 rfl rfl)
theorem dX5_years_76 : decode cX5_years 76 = .ok (.if_icmp .ge 116, 3) := dk_162 0 116 (dk_at dksX5_years_3 9 rfl rfl)
theorem dX5_years_79 : decode cX5_years 79 = .ok (.iconst 0, 1) := dk_3 (dk_at dksX5_years_3 12 rfl rfl)
theorem dX5_years_80 : decode cX5_years 80 = .ok (.istore 5, 2) := dk_54 5 (dk_at dksX5_years_3 13 rfl rfl)
theorem dX5_years_82 : decode cX5_years 82 = .ok (.iload 5, 2) := dk_21 5 (dk_at dksX5_years_3 15 rfl rfl)
theorem dX5_years_84 : decode cX5_years 84 = .ok (.iload_n 2, 1) := dk_28 (dk_at dksX5_years_3 17 rfl rfl)
theorem dX5_years_85 : decode cX5_years 85 = .ok (.if_icmp .ge 51, 3) := dk_162 0 51 (dk_at dksX5_years_3 18 rfl rfl)
theorem dX5_years_88 : decode cX5_years 88 = .ok (.aload_n 0, 1) := dk_42 (dk_at dksX5_years_3 21 rfl rfl)
theorem dX5_years_89 : decode cX5_years 89 = .ok (.aload_n 0, 1) := dk_42 (dk_at dksX5_years_3 22 rfl rfl)
theorem dX5_years_90 : decode cX5_years 90 = .ok (.getfield 33, 3) := dk_180 0 33 (dk_at dksX5_years_4 0 rfl rfl)
theorem dX5_years_93 : decode cX5_years 93 = .ok (.iconst 2, 1) := dk_5 (dk_at dksX5_years_4 3 rfl rfl)
theorem dX5_years_94 : decode cX5_years 94 = .ok (.iaload, 1) := dk_46 (dk_at dksX5_years_4 4 rfl rfl)
theorem dX5_years_95 : decode cX5_years 95 = .ok (.invokevirtual 387, 3) := dk_182 1 131 (dk_at dksX5_years_4 5 rfl rfl)
theorem dX5_years_98 : decode cX5_years 98 = .ok (.istore 6, 2) := dk_54 6 (dk_at dksX5_years_4 8 rfl rfl)
theorem dX5_years_100 : decode cX5_years 100 = .ok (.aload_n 0, 1) := dk_42 (dk_at dksX5_years_4 10 rfl rfl)
theorem dX5_years_101 : decode cX5_years 101 = .ok (.aload_n 0, 1) := dk_42 (dk_at dksX5_years_4 11 rfl rfl)
theorem dX5_years_102 : decode cX5_years 102 = .ok (.getfield 33, 3) := dk_180 0 33 (dk_at dksX5_years_4 12 rfl rfl)
theorem dX5_years_105 : decode cX5_years 105 = .ok (.iconst 3, 1) := dk_6 (dk_at dksX5_years_4 15 rfl rfl)
theorem dX5_years_106 : decode cX5_years 106 = .ok (.iaload, 1) := dk_46 (dk_at dksX5_years_4 16 rfl rfl)
theorem dX5_years_107 : decode cX5_years 107 = .ok (.invokevirtual 387, 3) := dk_182 1 131 (dk_at dksX5_years_4 17 rfl rfl)
theorem dX5_years_110 : decode cX5_years 110 = .ok (.istore 7, 2) := dk_54 7 (dk_at dksX5_years_4 20 rfl rfl)
theorem dX5_years_112 : decode cX5_years 112 = .ok (.aload_n 0, 1) := dk_42 (dk_at dksX5_years_4 22 rfl rfl)
theorem dX5_years_113 : decode cX5_years 113 = .ok (.iload 6, 2) := dk_21 6 (dk_at dksX5_years_5 0 rfl rfl)
theorem dX5_years_115 : decode cX5_years 115 = .ok (.iload 7, 2) := dk_21 7 (dk_at dksX5_years_5 2 rfl rfl)
theorem dX5_years_117 : decode cX5_years 117 = .ok (.aload_n 0, 1) := dk_42 (dk_at dksX5_years_5 4 rfl rfl)
theorem dX5_years_118 : decode cX5_years 118 = .ok (.getfield 33, 3) := dk_180 0 33 (dk_at dksX5_years_5 5 rfl rfl)
theorem dX5_years_121 : decode cX5_years 121 = .ok (.bipush 13, 2) := dk_16 13 (dk_at dksX5_years_5 8 rfl rfl)
theorem dX5_years_123 : decode cX5_years 123 = .ok (.iload 6, 2) := dk_21 6 (dk_at dksX5_years_5 10 rfl rfl)
theorem dX5_years_125 : decode cX5_years 125 = .ok (.iadd, 1) := dk_96 (dk_at dksX5_years_5 12 rfl rfl)
theorem dX5_years_126 : decode cX5_years 126 = .ok (.iaload, 1) := dk_46 (dk_at dksX5_years_5 13 rfl rfl)
theorem dX5_years_127 : decode cX5_years 127 = .ok (.invokevirtual 289, 3) := dk_182 1 33 (dk_at dksX5_years_5 14 rfl rfl)
theorem dX5_years_130 : decode cX5_years 130 = .ok (.iinc 5 1, 3) := dk_132 5 1 (dk_at dksX5_years_5 17 rfl rfl)
theorem dX5_years_133 : decode cX5_years 133 = .ok (.goto (-51), 3) := dk_167 255 205 (dk_at dksX5_years_5 20 rfl rfl)
theorem dX5_years_136 : decode cX5_years 136 = .ok (.aload_n 0, 1) := dk_42 (dk_at dksX5_years_5 23 rfl rfl)
theorem dX5_years_137 : decode cX5_years 137 = .ok (.bipush 6, 2) := dk_16 6 (dk_at dksX5_years_6 0 rfl rfl)
theorem dX5_years_139 : decode cX5_years 139 = .ok (.invokevirtual 387, 3) := dk_182 1 131 (dk_at dksX5_years_6 2 rfl rfl)
theorem dX5_years_142 : decode cX5_years 142 = .ok (.ifCond .ne 40, 3) := dk_154 0 40 (dk_at dksX5_years_6 5 rfl rfl)
theorem dX5_years_145 : decode cX5_years 145 = .ok (.aload_n 0, 1) := dk_42 (dk_at dksX5_years_6 8 rfl rfl)
theorem dX5_years_146 : decode cX5_years 146 = .ok (.aload_n 0, 1) := dk_42 (dk_at dksX5_years_6 9 rfl rfl)
theorem dX5_years_147 : decode cX5_years 147 = .ok (.getfield 33, 3) := dk_180 0 33 (dk_at dksX5_years_6 10 rfl rfl)
theorem dX5_years_150 : decode cX5_years 150 = .ok (.iconst 0, 1) := dk_3 (dk_at dksX5_years_6 13 rfl rfl)
theorem dX5_years_151 : decode cX5_years 151 = .ok (.iaload, 1) := dk_46 (dk_at dksX5_years_6 14 rfl rfl)
theorem dX5_years_152 : decode cX5_years 152 = .ok (.invokevirtual 387, 3) := dk_182 1 131 (dk_at dksX5_years_6 15 rfl rfl)
theorem dX5_years_155 : decode cX5_years 155 = .ok (.istore 5, 2) := dk_54 5 (dk_at dksX5_years_6 18 rfl rfl)
theorem dX5_years_157 : decode cX5_years 157 = .ok (.aload_n 0, 1) := dk_42 (dk_at dksX5_years_6 20 rfl rfl)
theorem dX5_years_158 : decode cX5_years 158 = .ok (.aload_n 0, 1) := dk_42 (dk_at dksX5_years_6 21 rfl rfl)
theorem dX5_years_159 : decode cX5_years 159 = .ok (.getfield 33, 3) := dk_180 0 33 (dk_at dksX5_years_7 0 rfl rfl)
theorem dX5_years_162 : decode cX5_years 162 = .ok (.iconst 1, 1) := dk_4 (dk_at dksX5_years_7 3 rfl rfl)
theorem dX5_years_163 : decode cX5_years 163 = .ok (.iaload, 1) := dk_46 (dk_at dksX5_years_7 4 rfl rfl)
theorem dX5_years_164 : decode cX5_years 164 = .ok (.invokevirtual 387, 3) := dk_182 1 131 (dk_at dksX5_years_7 5 rfl rfl)
theorem dX5_years_167 : decode cX5_years 167 = .ok (.istore 6, 2) := dk_54 6 (dk_at dksX5_years_7 8 rfl rfl)
theorem dX5_years_169 : decode cX5_years 169 = .ok (.aload_n 0, 1) := dk_42 (dk_at dksX5_years_7 10 rfl rfl)
theorem dX5_years_170 : decode cX5_years 170 = .ok (.bipush 12, 2) := dk_16 12 (dk_at dksX5_years_7 11 rfl rfl)
theorem dX5_years_172 : decode cX5_years 172 = .ok (.iload 6, 2) := dk_21 6 (dk_at dksX5_years_7 13 rfl rfl)
theorem dX5_years_174 : decode cX5_years 174 = .ok (.imul, 1) := dk_104 (dk_at dksX5_years_7 15 rfl rfl)
theorem dX5_years_175 : decode cX5_years 175 = .ok (.iload 5, 2) := dk_21 5 (dk_at dksX5_years_7 16 rfl rfl)
theorem dX5_years_177 : decode cX5_years 177 = .ok (.iadd, 1) := dk_96 (dk_at dksX5_years_7 18 rfl rfl)
theorem dX5_years_178 : decode cX5_years 178 = .ok (.invokevirtual 303, 3) := dk_182 1 47 (dk_at dksX5_years_7 19 rfl rfl)
theorem dX5_years_181 : decode cX5_years 181 = .ok (.pop, 1) := dk_87 (dk_at dksX5_years_7 22 rfl rfl)
theorem dX5_years_182 : decode cX5_years 182 = .ok (.aload_n 0, 1) := dk_42 (dk_at dksX5_years_7 23 rfl rfl)
theorem dX5_years_183 : decode cX5_years 183 = .ok (.invokevirtual 300, 3) := dk_182 1 44 (dk_at dksX5_years_8 0 rfl rfl)
theorem dX5_years_186 : decode cX5_years 186 = .ok (.iinc 4 1, 3) := dk_132 4 1 (dk_at dksX5_years_8 3 rfl rfl)
theorem dX5_years_189 : decode cX5_years 189 = .ok (.goto (-116), 3) := dk_167 255 140 (dk_at dksX5_years_8 6 rfl rfl)
theorem dX5_years_192 : decode cX5_years 192 = .ok (.aload_n 0, 1) := dk_42 (dk_at dksX5_years_8 9 rfl rfl)
theorem dX5_years_193 : decode cX5_years 193 = .ok (.getfield 33, 3) := dk_180 0 33 (dk_at dksX5_years_8 10 rfl rfl)
theorem dX5_years_196 : decode cX5_years 196 = .ok (.sipush 429, 3) := dk_17 1 173 (dk_at dksX5_years_8 13 rfl rfl)
theorem dX5_years_199 : decode cX5_years 199 = .ok (.iaload, 1) := dk_46 (dk_at dksX5_years_8 16 rfl rfl)
theorem dX5_years_200 : decode cX5_years 200 = .ok (.ireturn, 1) := dk_172 (dk_at dksX5_years_8 17 rfl rfl)
abbrev cX5_draw : ByteArray := prog_19_method_86_code
def yX5_draw : MethodName := ⟨RX5, "draw", "(I)I"⟩
def dkwX5_draw_1 : List UInt8 := [112, 172]
abbrev dktX5_draw_1 : List UInt8 := dkwX5_draw_1 ++ []
def dkwX5_draw_0 : List UInt8 := [42, 42, 180, 1, 127, 19, 1, 130, 104, 17, 48, 57, 96, 181, 1, 127, 42, 180, 1, 127, 16, 8, 124, 27]
abbrev dktX5_draw_0 : List UInt8 := dkwX5_draw_0 ++ dktX5_draw_1
theorem dksX5_draw_0 : cX5_draw.data.toList.drop 0 = dktX5_draw_0 := by decide +kernel
theorem dksX5_draw_1 : cX5_draw.data.toList.drop 24 = dktX5_draw_1 := dk_seg dksX5_draw_0 24 rfl rfl
theorem dX5_draw_0 : decode cX5_draw 0 = .ok (.aload_n 0, 1) := dk_42 (dk_at dksX5_draw_0 0 rfl rfl)
theorem dX5_draw_1 : decode cX5_draw 1 = .ok (.aload_n 0, 1) := dk_42 (dk_at dksX5_draw_0 1 rfl rfl)
theorem dX5_draw_2 : decode cX5_draw 2 = .ok (.getfield 383, 3) := dk_180 1 127 (dk_at dksX5_draw_0 2 rfl rfl)
theorem dX5_draw_5 : decode cX5_draw 5 = .ok (.ldc_w 386, 3) := dk_19 1 130 (dk_at dksX5_draw_0 5 rfl rfl)
theorem dX5_draw_8 : decode cX5_draw 8 = .ok (.imul, 1) := dk_104 (dk_at dksX5_draw_0 8 rfl rfl)
theorem dX5_draw_9 : decode cX5_draw 9 = .ok (.sipush 12345, 3) := dk_17 48 57 (dk_at dksX5_draw_0 9 rfl rfl)
theorem dX5_draw_12 : decode cX5_draw 12 = .ok (.iadd, 1) := dk_96 (dk_at dksX5_draw_0 12 rfl rfl)
theorem dX5_draw_13 : decode cX5_draw 13 = .ok (.putfield 383, 3) := dk_181 1 127 (dk_at dksX5_draw_0 13 rfl rfl)
theorem dX5_draw_16 : decode cX5_draw 16 = .ok (.aload_n 0, 1) := dk_42 (dk_at dksX5_draw_0 16 rfl rfl)
theorem dX5_draw_17 : decode cX5_draw 17 = .ok (.getfield 383, 3) := dk_180 1 127 (dk_at dksX5_draw_0 17 rfl rfl)
theorem dX5_draw_20 : decode cX5_draw 20 = .ok (.bipush 8, 2) := dk_16 8 (dk_at dksX5_draw_0 20 rfl rfl)
theorem dX5_draw_22 : decode cX5_draw 22 = .ok (.iushr, 1) := dk_124 (dk_at dksX5_draw_0 22 rfl rfl)
theorem dX5_draw_23 : decode cX5_draw 23 = .ok (.iload_n 1, 1) := dk_27 (dk_at dksX5_draw_0 23 rfl rfl)
theorem dX5_draw_24 : decode cX5_draw 24 = .ok (.irem, 1) := dk_112 (dk_at dksX5_draw_1 0 rfl rfl)
theorem dX5_draw_25 : decode cX5_draw 25 = .ok (.ireturn, 1) := dk_172 (dk_at dksX5_draw_1 1 rfl rfl)
abbrev cX5_rarest : ByteArray := prog_19_method_88_code
def yX5_rarest : MethodName := ⟨RX5, "rarest", "()I"⟩
def dkwX5_rarest_2 : List UInt8 := [132, 2, 1, 167, 255, 214, 27, 172]
abbrev dktX5_rarest_2 : List UInt8 := dkwX5_rarest_2 ++ []
def dkwX5_rarest_1 : List UInt8 := [180, 0, 33, 17, 1, 174, 28, 96, 46, 42, 180, 0, 33, 17, 1, 174, 27, 96, 46, 162, 0, 5, 28, 60]
abbrev dktX5_rarest_1 : List UInt8 := dkwX5_rarest_1 ++ dktX5_rarest_2
def dkwX5_rarest_0 : List UInt8 := [42, 3, 181, 0, 1, 2, 60, 3, 61, 28, 42, 180, 0, 33, 5, 46, 162, 0, 38, 27, 155, 0, 26, 42]
abbrev dktX5_rarest_0 : List UInt8 := dkwX5_rarest_0 ++ dktX5_rarest_1
theorem dksX5_rarest_0 : cX5_rarest.data.toList.drop 0 = dktX5_rarest_0 := by decide +kernel
theorem dksX5_rarest_1 : cX5_rarest.data.toList.drop 24 = dktX5_rarest_1 := dk_seg dksX5_rarest_0 24 rfl rfl
theorem dksX5_rarest_2 : cX5_rarest.data.toList.drop 48 = dktX5_rarest_2 := dk_seg dksX5_rarest_1 24 rfl rfl
theorem dX5_rarest_0 : decode cX5_rarest 0 = .ok (.aload_n 0, 1) := dk_42 (dk_at dksX5_rarest_0 0 rfl rfl)
theorem dX5_rarest_1 : decode cX5_rarest 1 = .ok (.iconst 0, 1) := dk_3 (dk_at dksX5_rarest_0 1 rfl rfl)
theorem dX5_rarest_2 : decode cX5_rarest 2 = .ok (.putfield 1, 3) := dk_181 0 1 (dk_at dksX5_rarest_0 2 rfl rfl)
theorem dX5_rarest_5 : decode cX5_rarest 5 = .ok (.iconst (-1), 1) := dk_2 (dk_at dksX5_rarest_0 5 rfl rfl)
theorem dX5_rarest_6 : decode cX5_rarest 6 = .ok (.istore_n 1, 1) := dk_60 (dk_at dksX5_rarest_0 6 rfl rfl)
theorem dX5_rarest_7 : decode cX5_rarest 7 = .ok (.iconst 0, 1) := dk_3 (dk_at dksX5_rarest_0 7 rfl rfl)
theorem dX5_rarest_8 : decode cX5_rarest 8 = .ok (.istore_n 2, 1) := dk_61 (dk_at dksX5_rarest_0 8 rfl rfl)
theorem dX5_rarest_9 : decode cX5_rarest 9 = .ok (.iload_n 2, 1) := dk_28 (dk_at dksX5_rarest_0 9 rfl rfl)
theorem dX5_rarest_10 : decode cX5_rarest 10 = .ok (.aload_n 0, 1) := dk_42 (dk_at dksX5_rarest_0 10 rfl rfl)
theorem dX5_rarest_11 : decode cX5_rarest 11 = .ok (.getfield 33, 3) := dk_180 0 33 (dk_at dksX5_rarest_0 11 rfl rfl)
theorem dX5_rarest_14 : decode cX5_rarest 14 = .ok (.iconst 2, 1) := dk_5 (dk_at dksX5_rarest_0 14 rfl rfl)
theorem dX5_rarest_15 : decode cX5_rarest 15 = .ok (.iaload, 1) := dk_46 (dk_at dksX5_rarest_0 15 rfl rfl)
theorem dX5_rarest_16 : decode cX5_rarest 16 = .ok (.if_icmp .ge 38, 3) := dk_162 0 38 (dk_at dksX5_rarest_0 16 rfl rfl)
theorem dX5_rarest_19 : decode cX5_rarest 19 = .ok (.iload_n 1, 1) := dk_27 (dk_at dksX5_rarest_0 19 rfl rfl)
theorem dX5_rarest_20 : decode cX5_rarest 20 = .ok (.ifCond .lt 26, 3) := dk_155 0 26 (dk_at dksX5_rarest_0 20 rfl rfl)
theorem dX5_rarest_23 : decode cX5_rarest 23 = .ok (.aload_n 0, 1) := dk_42 (dk_at dksX5_rarest_0 23 rfl rfl)
theorem dX5_rarest_24 : decode cX5_rarest 24 = .ok (.getfield 33, 3) := dk_180 0 33 (dk_at dksX5_rarest_1 0 rfl rfl)
theorem dX5_rarest_27 : decode cX5_rarest 27 = .ok (.sipush 430, 3) := dk_17 1 174 (dk_at dksX5_rarest_1 3 rfl rfl)
theorem dX5_rarest_30 : decode cX5_rarest 30 = .ok (.iload_n 2, 1) := dk_28 (dk_at dksX5_rarest_1 6 rfl rfl)
theorem dX5_rarest_31 : decode cX5_rarest 31 = .ok (.iadd, 1) := dk_96 (dk_at dksX5_rarest_1 7 rfl rfl)
theorem dX5_rarest_32 : decode cX5_rarest 32 = .ok (.iaload, 1) := dk_46 (dk_at dksX5_rarest_1 8 rfl rfl)
theorem dX5_rarest_33 : decode cX5_rarest 33 = .ok (.aload_n 0, 1) := dk_42 (dk_at dksX5_rarest_1 9 rfl rfl)
theorem dX5_rarest_34 : decode cX5_rarest 34 = .ok (.getfield 33, 3) := dk_180 0 33 (dk_at dksX5_rarest_1 10 rfl rfl)
theorem dX5_rarest_37 : decode cX5_rarest 37 = .ok (.sipush 430, 3) := dk_17 1 174 (dk_at dksX5_rarest_1 13 rfl rfl)
theorem dX5_rarest_40 : decode cX5_rarest 40 = .ok (.iload_n 1, 1) := dk_27 (dk_at dksX5_rarest_1 16 rfl rfl)
theorem dX5_rarest_41 : decode cX5_rarest 41 = .ok (.iadd, 1) := dk_96 (dk_at dksX5_rarest_1 17 rfl rfl)
theorem dX5_rarest_42 : decode cX5_rarest 42 = .ok (.iaload, 1) := dk_46 (dk_at dksX5_rarest_1 18 rfl rfl)
theorem dX5_rarest_43 : decode cX5_rarest 43 = .ok (.if_icmp .ge 5, 3) := dk_162 0 5 (dk_at dksX5_rarest_1 19 rfl rfl)
theorem dX5_rarest_46 : decode cX5_rarest 46 = .ok (.iload_n 2, 1) := dk_28 (dk_at dksX5_rarest_1 22 rfl rfl)
theorem dX5_rarest_47 : decode cX5_rarest 47 = .ok (.istore_n 1, 1) := dk_60 (dk_at dksX5_rarest_1 23 rfl rfl)
theorem dX5_rarest_48 : decode cX5_rarest 48 = .ok (.iinc 2 1, 3) := dk_132 2 1 (dk_at dksX5_rarest_2 0 rfl rfl)
theorem dX5_rarest_51 : decode cX5_rarest 51 = .ok (.goto (-42), 3) := dk_167 255 214 (dk_at dksX5_rarest_2 3 rfl rfl)
theorem dX5_rarest_54 : decode cX5_rarest 54 = .ok (.iload_n 1, 1) := dk_27 (dk_at dksX5_rarest_2 6 rfl rfl)
theorem dX5_rarest_55 : decode cX5_rarest 55 = .ok (.ireturn, 1) := dk_172 (dk_at dksX5_rarest_2 7 rfl rfl)
abbrev cX5_sentence : ByteArray := prog_19_method_95_code
def yX5_sentence : MethodName := ⟨RX5, "sentence", "()I"⟩
def dkwX5_sentence_7 : List UInt8 := [180, 0, 40, 28, 46, 79, 132, 2, 1, 167, 255, 227, 42, 180, 1, 149, 172]
abbrev dktX5_sentence_7 : List UInt8 := dkwX5_sentence_7 ++ []
def dkwX5_sentence_6 : List UInt8 := [79, 3, 61, 28, 6, 42, 180, 1, 134, 104, 162, 0, 25, 42, 180, 0, 33, 17, 39, 101, 28, 96, 42]
abbrev dktX5_sentence_6 : List UInt8 := dkwX5_sentence_6 ++ dktX5_sentence_7
def dkwX5_sentence_5 : List UInt8 := [182, 1, 164, 154, 255, 182, 2, 42, 180, 0, 179, 100, 172, 42, 180, 0, 33, 17, 39, 100, 42, 180, 1, 134]
abbrev dktX5_sentence_5 : List UInt8 := dkwX5_sentence_5 ++ dktX5_sentence_6
def dkwX5_sentence_4 : List UInt8 := [172, 3, 60, 167, 255, 206, 42, 180, 1, 152, 153, 0, 13, 42, 182, 1, 161, 154, 255, 192, 167, 0, 10, 42]
abbrev dktX5_sentence_4 : List UInt8 := dkwX5_sentence_4 ++ dktX5_sentence_5
def dkwX5_sentence_3 : List UInt8 := [16, 12, 182, 1, 158, 42, 180, 1, 137, 158, 0, 16, 42, 4, 182, 0, 185, 87, 2, 42, 180, 0, 179, 100]
abbrev dktX5_sentence_3 : List UInt8 := dkwX5_sentence_3 ++ dktX5_sentence_4
def dkwX5_sentence_2 : List UInt8 := [27, 153, 0, 83, 42, 180, 1, 152, 153, 0, 45, 42, 180, 0, 159, 154, 0, 38, 42, 182, 1, 155, 42]
abbrev dktX5_sentence_2 : List UInt8 := dkwX5_sentence_2 ++ dktX5_sentence_3
def dkwX5_sentence_1 : List UInt8 := [181, 1, 149, 42, 3, 181, 1, 137, 42, 4, 181, 1, 143, 42, 3, 181, 1, 152, 42, 182, 0, 188, 4, 60]
abbrev dktX5_sentence_1 : List UInt8 := dkwX5_sentence_1 ++ dktX5_sentence_2
def dkwX5_sentence_0 : List UInt8 := [42, 3, 181, 0, 1, 42, 17, 0, 200, 182, 0, 237, 42, 3, 181, 0, 176, 42, 3, 181, 1, 134, 42, 3]
abbrev dktX5_sentence_0 : List UInt8 := dkwX5_sentence_0 ++ dktX5_sentence_1
theorem dksX5_sentence_0 : cX5_sentence.data.toList.drop 0 = dktX5_sentence_0 := by decide +kernel
theorem dksX5_sentence_1 : cX5_sentence.data.toList.drop 24 = dktX5_sentence_1 := dk_seg dksX5_sentence_0 24 rfl rfl
theorem dksX5_sentence_2 : cX5_sentence.data.toList.drop 48 = dktX5_sentence_2 := dk_seg dksX5_sentence_1 24 rfl rfl
theorem dksX5_sentence_3 : cX5_sentence.data.toList.drop 71 = dktX5_sentence_3 := dk_seg dksX5_sentence_2 23 rfl rfl
theorem dksX5_sentence_4 : cX5_sentence.data.toList.drop 95 = dktX5_sentence_4 := dk_seg dksX5_sentence_3 24 rfl rfl
theorem dksX5_sentence_5 : cX5_sentence.data.toList.drop 119 = dktX5_sentence_5 := dk_seg dksX5_sentence_4 24 rfl rfl
theorem dksX5_sentence_6 : cX5_sentence.data.toList.drop 143 = dktX5_sentence_6 := dk_seg dksX5_sentence_5 24 rfl rfl
theorem dksX5_sentence_7 : cX5_sentence.data.toList.drop 166 = dktX5_sentence_7 := dk_seg dksX5_sentence_6 23 rfl rfl
theorem dX5_sentence_0 : decode cX5_sentence 0 = .ok (.aload_n 0, 1) := dk_42 (dk_at dksX5_sentence_0 0 rfl rfl)
theorem dX5_sentence_1 : decode cX5_sentence 1 = .ok (.iconst 0, 1) := dk_3 (dk_at dksX5_sentence_0 1 rfl rfl)
theorem dX5_sentence_2 : decode cX5_sentence 2 = .ok (.putfield 1, 3) := dk_181 0 1 (dk_at dksX5_sentence_0 2 rfl rfl)
theorem dX5_sentence_5 : decode cX5_sentence 5 = .ok (.aload_n 0, 1) := dk_42 (dk_at dksX5_sentence_0 5 rfl rfl)
theorem dX5_sentence_6 : decode cX5_sentence 6 = .ok (.sipush 200, 3) := dk_17 0 200 (dk_at dksX5_sentence_0 6 rfl rfl)
theorem dX5_sentence_9 : decode cX5_sentence 9 = .ok (.invokevirtual 237, 3) := dk_182 0 237 (dk_at dksX5_sentence_0 9 rfl rfl)
theorem dX5_sentence_12 : decode cX5_sentence 12 = .ok (.aload_n 0, 1) := dk_42 (dk_at dksX5_sentence_0 12 rfl rfl)
theorem dX5_sentence_13 : decode cX5_sentence 13 = .ok (.iconst 0, 1) := dk_3 (dk_at dksX5_sentence_0 13 rfl rfl)
theorem dX5_sentence_14 : decode cX5_sentence 14 = .ok (.putfield 176, 3) := dk_181 0 176 (dk_at dksX5_sentence_0 14 rfl rfl)
theorem dX5_sentence_17 : decode cX5_sentence 17 = .ok (.aload_n 0, 1) := dk_42 (dk_at dksX5_sentence_0 17 rfl rfl)
theorem dX5_sentence_18 : decode cX5_sentence 18 = .ok (.iconst 0, 1) := dk_3 (dk_at dksX5_sentence_0 18 rfl rfl)
theorem dX5_sentence_19 : decode cX5_sentence 19 = .ok (.putfield 390, 3) := dk_181 1 134 (dk_at dksX5_sentence_0 19 rfl rfl)
theorem dX5_sentence_22 : decode cX5_sentence 22 = .ok (.aload_n 0, 1) := dk_42 (dk_at dksX5_sentence_0 22 rfl rfl)
theorem dX5_sentence_23 : decode cX5_sentence 23 = .ok (.iconst 0, 1) := dk_3 (dk_at dksX5_sentence_0 23 rfl rfl)
theorem dX5_sentence_24 : decode cX5_sentence 24 = .ok (.putfield 405, 3) := dk_181 1 149 (dk_at dksX5_sentence_1 0 rfl rfl)
theorem dX5_sentence_27 : decode cX5_sentence 27 = .ok (.aload_n 0, 1) := dk_42 (dk_at dksX5_sentence_1 3 rfl rfl)
theorem dX5_sentence_28 : decode cX5_sentence 28 = .ok (.iconst 0, 1) := dk_3 (dk_at dksX5_sentence_1 4 rfl rfl)
theorem dX5_sentence_29 : decode cX5_sentence 29 = .ok (.putfield 393, 3) := dk_181 1 137 (dk_at dksX5_sentence_1 5 rfl rfl)
theorem dX5_sentence_32 : decode cX5_sentence 32 = .ok (.aload_n 0, 1) := dk_42 (dk_at dksX5_sentence_1 8 rfl rfl)
theorem dX5_sentence_33 : decode cX5_sentence 33 = .ok (.iconst 1, 1) := dk_4 (dk_at dksX5_sentence_1 9 rfl rfl)
theorem dX5_sentence_34 : decode cX5_sentence 34 = .ok (.putfield 399, 3) := dk_181 1 143 (dk_at dksX5_sentence_1 10 rfl rfl)
theorem dX5_sentence_37 : decode cX5_sentence 37 = .ok (.aload_n 0, 1) := dk_42 (dk_at dksX5_sentence_1 13 rfl rfl)
theorem dX5_sentence_38 : decode cX5_sentence 38 = .ok (.iconst 0, 1) := dk_3 (dk_at dksX5_sentence_1 14 rfl rfl)
theorem dX5_sentence_39 : decode cX5_sentence 39 = .ok (.putfield 408, 3) := dk_181 1 152 (dk_at dksX5_sentence_1 15 rfl rfl)
theorem dX5_sentence_42 : decode cX5_sentence 42 = .ok (.aload_n 0, 1) := dk_42 (dk_at dksX5_sentence_1 18 rfl rfl)
theorem dX5_sentence_43 : decode cX5_sentence 43 = .ok (.invokevirtual 188, 3) := dk_182 0 188 (dk_at dksX5_sentence_1 19 rfl rfl)
theorem dX5_sentence_46 : decode cX5_sentence 46 = .ok (.iconst 1, 1) := dk_4 (dk_at dksX5_sentence_1 22 rfl rfl)
theorem dX5_sentence_47 : decode cX5_sentence 47 = .ok (.istore_n 1, 1) := dk_60 (dk_at dksX5_sentence_1 23 rfl rfl)
theorem dX5_sentence_48 : decode cX5_sentence 48 = .ok (.iload_n 1, 1) := dk_27 (dk_at dksX5_sentence_2 0 rfl rfl)
theorem dX5_sentence_49 : decode cX5_sentence 49 = .ok (.ifCond .eq 83, 3) := dk_153 0 83 (dk_at dksX5_sentence_2 1 rfl rfl)
theorem dX5_sentence_52 : decode cX5_sentence 52 = .ok (.aload_n 0, 1) := dk_42 (dk_at dksX5_sentence_2 4 rfl rfl)
theorem dX5_sentence_53 : decode cX5_sentence 53 = .ok (.getfield 408, 3) := dk_180 1 152 (dk_at dksX5_sentence_2 5 rfl rfl)
theorem dX5_sentence_56 : decode cX5_sentence 56 = .ok (.ifCond .eq 45, 3) := dk_153 0 45 (dk_at dksX5_sentence_2 8 rfl rfl)
theorem dX5_sentence_59 : decode cX5_sentence 59 = .ok (.aload_n 0, 1) := dk_42 (dk_at dksX5_sentence_2 11 rfl rfl)
theorem dX5_sentence_60 : decode cX5_sentence 60 = .ok (.getfield 159, 3) := dk_180 0 159 (dk_at dksX5_sentence_2 12 rfl rfl)
theorem dX5_sentence_63 : decode cX5_sentence 63 = .ok (.ifCond .ne 38, 3) := dk_154 0 38 (dk_at dksX5_sentence_2 15 rfl rfl)
theorem dX5_sentence_66 : decode cX5_sentence 66 = .ok (.aload_n 0, 1) := dk_42 (dk_at dksX5_sentence_2 18 rfl rfl)
theorem dX5_sentence_67 : decode cX5_sentence 67 = .ok (.invokevirtual 411, 3) := dk_182 1 155 (dk_at dksX5_sentence_2 19 rfl rfl)
theorem dX5_sentence_70 : decode cX5_sentence 70 = .ok (.aload_n 0, 1) := dk_42 (dk_at dksX5_sentence_2 22 rfl rfl)
theorem dX5_sentence_71 : decode cX5_sentence 71 = .ok (.bipush 12, 2) := dk_16 12 (dk_at dksX5_sentence_3 0 rfl rfl)
theorem dX5_sentence_73 : decode cX5_sentence 73 = .ok (.invokevirtual 414, 3) := dk_182 1 158 (dk_at dksX5_sentence_3 2 rfl rfl)
theorem dX5_sentence_76 : decode cX5_sentence 76 = .ok (.aload_n 0, 1) := dk_42 (dk_at dksX5_sentence_3 5 rfl rfl)
theorem dX5_sentence_77 : decode cX5_sentence 77 = .ok (.getfield 393, 3) := dk_180 1 137 (dk_at dksX5_sentence_3 6 rfl rfl)
theorem dX5_sentence_80 : decode cX5_sentence 80 = .ok (.ifCond .le 16, 3) := dk_158 0 16 (dk_at dksX5_sentence_3 9 rfl rfl)
theorem dX5_sentence_83 : decode cX5_sentence 83 = .ok (.aload_n 0, 1) := dk_42 (dk_at dksX5_sentence_3 12 rfl rfl)
theorem dX5_sentence_84 : decode cX5_sentence 84 = .ok (.iconst 1, 1) := dk_4 (dk_at dksX5_sentence_3 13 rfl rfl)
theorem dX5_sentence_85 : decode cX5_sentence 85 = .ok (.invokevirtual 185, 3) := dk_182 0 185 (dk_at dksX5_sentence_3 14 rfl rfl)
theorem dX5_sentence_88 : decode cX5_sentence 88 = .ok (.pop, 1) := dk_87 (dk_at dksX5_sentence_3 17 rfl rfl)
theorem dX5_sentence_89 : decode cX5_sentence 89 = .ok (.iconst (-1), 1) := dk_2 (dk_at dksX5_sentence_3 18 rfl rfl)
theorem dX5_sentence_90 : decode cX5_sentence 90 = .ok (.aload_n 0, 1) := dk_42 (dk_at dksX5_sentence_3 19 rfl rfl)
theorem dX5_sentence_91 : decode cX5_sentence 91 = .ok (.getfield 179, 3) := dk_180 0 179 (dk_at dksX5_sentence_3 20 rfl rfl)
theorem dX5_sentence_94 : decode cX5_sentence 94 = .ok (.isub, 1) := dk_100 (dk_at dksX5_sentence_3 23 rfl rfl)
theorem dX5_sentence_95 : decode cX5_sentence 95 = .ok (.ireturn, 1) := dk_172 (dk_at dksX5_sentence_4 0 rfl rfl)
theorem dX5_sentence_96 : decode cX5_sentence 96 = .ok (.iconst 0, 1) := dk_3 (dk_at dksX5_sentence_4 1 rfl rfl)
theorem dX5_sentence_97 : decode cX5_sentence 97 = .ok (.istore_n 1, 1) := dk_60 (dk_at dksX5_sentence_4 2 rfl rfl)
theorem dX5_sentence_98 : decode cX5_sentence 98 = .ok (.goto (-50), 3) := dk_167 255 206 (dk_at dksX5_sentence_4 3 rfl rfl)
theorem dX5_sentence_101 : decode cX5_sentence 101 = .ok (.aload_n 0, 1) := dk_42 (dk_at dksX5_sentence_4 6 rfl rfl)
theorem dX5_sentence_102 : decode cX5_sentence 102 = .ok (.getfield 408, 3) := dk_180 1 152 (dk_at dksX5_sentence_4 7 rfl rfl)
theorem dX5_sentence_105 : decode cX5_sentence 105 = .ok (.ifCond .eq 13, 3) := dk_153 0 13 (dk_at dksX5_sentence_4 10 rfl rfl)
theorem dX5_sentence_108 : decode cX5_sentence 108 = .ok (.aload_n 0, 1) := dk_42 (dk_at dksX5_sentence_4 13 rfl rfl)
theorem dX5_sentence_109 : decode cX5_sentence 109 = .ok (.invokevirtual 417, 3) := dk_182 1 161 (dk_at dksX5_sentence_4 14 rfl rfl)
theorem dX5_sentence_112 : decode cX5_sentence 112 = .ok (.ifCond .ne (-64), 3) := dk_154 255 192 (dk_at dksX5_sentence_4 17 rfl rfl)
theorem dX5_sentence_115 : decode cX5_sentence 115 = .ok (.goto 10, 3) := dk_167 0 10 (dk_at dksX5_sentence_4 20 rfl rfl)
theorem dX5_sentence_118 : decode cX5_sentence 118 = .ok (.aload_n 0, 1) := dk_42 (dk_at dksX5_sentence_4 23 rfl rfl)
theorem dX5_sentence_119 : decode cX5_sentence 119 = .ok (.invokevirtual 420, 3) := dk_182 1 164 (dk_at dksX5_sentence_5 0 rfl rfl)
theorem dX5_sentence_122 : decode cX5_sentence 122 = .ok (.ifCond .ne (-74), 3) := dk_154 255 182 (dk_at dksX5_sentence_5 3 rfl rfl)
theorem dX5_sentence_125 : decode cX5_sentence 125 = .ok (.iconst (-1), 1) := dk_2 (dk_at dksX5_sentence_5 6 rfl rfl)
theorem dX5_sentence_126 : decode cX5_sentence 126 = .ok (.aload_n 0, 1) := dk_42 (dk_at dksX5_sentence_5 7 rfl rfl)
theorem dX5_sentence_127 : decode cX5_sentence 127 = .ok (.getfield 179, 3) := dk_180 0 179 (dk_at dksX5_sentence_5 8 rfl rfl)
theorem dX5_sentence_130 : decode cX5_sentence 130 = .ok (.isub, 1) := dk_100 (dk_at dksX5_sentence_5 11 rfl rfl)
theorem dX5_sentence_131 : decode cX5_sentence 131 = .ok (.ireturn, 1) := dk_172 (dk_at dksX5_sentence_5 12 rfl rfl)
theorem dX5_sentence_132 : decode cX5_sentence 132 = .ok (.aload_n 0, 1) := dk_42 (dk_at dksX5_sentence_5 13 rfl rfl)
theorem dX5_sentence_133 : decode cX5_sentence 133 = .ok (.getfield 33, 3) := dk_180 0 33 (dk_at dksX5_sentence_5 14 rfl rfl)
theorem dX5_sentence_136 : decode cX5_sentence 136 = .ok (.sipush 10084, 3) := dk_17 39 100 (dk_at dksX5_sentence_5 17 rfl rfl)
theorem dX5_sentence_139 : decode cX5_sentence 139 = .ok (.aload_n 0, 1) := dk_42 (dk_at dksX5_sentence_5 20 rfl rfl)
theorem dX5_sentence_140 : decode cX5_sentence 140 = .ok (.getfield 390, 3) := dk_180 1 134 (dk_at dksX5_sentence_5 21 rfl rfl)
theorem dX5_sentence_143 : decode cX5_sentence 143 = .ok (.iastore, 1) := dk_79 (dk_at dksX5_sentence_6 0 rfl rfl)
theorem dX5_sentence_144 : decode cX5_sentence 144 = .ok (.iconst 0, 1) := dk_3 (dk_at dksX5_sentence_6 1 rfl rfl)
theorem dX5_sentence_145 : decode cX5_sentence 145 = .ok (.istore_n 2, 1) := dk_61 (dk_at dksX5_sentence_6 2 rfl rfl)
theorem dX5_sentence_146 : decode cX5_sentence 146 = .ok (.iload_n 2, 1) := dk_28 (dk_at dksX5_sentence_6 3 rfl rfl)
theorem dX5_sentence_147 : decode cX5_sentence 147 = .ok (.iconst 3, 1) := dk_6 (dk_at dksX5_sentence_6 4 rfl rfl)
theorem dX5_sentence_148 : decode cX5_sentence 148 = .ok (.aload_n 0, 1) := dk_42 (dk_at dksX5_sentence_6 5 rfl rfl)
theorem dX5_sentence_149 : decode cX5_sentence 149 = .ok (.getfield 390, 3) := dk_180 1 134 (dk_at dksX5_sentence_6 6 rfl rfl)
theorem dX5_sentence_152 : decode cX5_sentence 152 = .ok (.imul, 1) := dk_104 (dk_at dksX5_sentence_6 9 rfl rfl)
theorem dX5_sentence_153 : decode cX5_sentence 153 = .ok (.if_icmp .ge 25, 3) := dk_162 0 25 (dk_at dksX5_sentence_6 10 rfl rfl)
theorem dX5_sentence_156 : decode cX5_sentence 156 = .ok (.aload_n 0, 1) := dk_42 (dk_at dksX5_sentence_6 13 rfl rfl)
theorem dX5_sentence_157 : decode cX5_sentence 157 = .ok (.getfield 33, 3) := dk_180 0 33 (dk_at dksX5_sentence_6 14 rfl rfl)
theorem dX5_sentence_160 : decode cX5_sentence 160 = .ok (.sipush 10085, 3) := dk_17 39 101 (dk_at dksX5_sentence_6 17 rfl rfl)
theorem dX5_sentence_163 : decode cX5_sentence 163 = .ok (.iload_n 2, 1) := dk_28 (dk_at dksX5_sentence_6 20 rfl rfl)
theorem dX5_sentence_164 : decode cX5_sentence 164 = .ok (.iadd, 1) := dk_96 (dk_at dksX5_sentence_6 21 rfl rfl)
theorem dX5_sentence_165 : decode cX5_sentence 165 = .ok (.aload_n 0, 1) := dk_42 (dk_at dksX5_sentence_6 22 rfl rfl)
theorem dX5_sentence_166 : decode cX5_sentence 166 = .ok (.getfield 40, 3) := dk_180 0 40 (dk_at dksX5_sentence_7 0 rfl rfl)
theorem dX5_sentence_169 : decode cX5_sentence 169 = .ok (.iload_n 2, 1) := dk_28 (dk_at dksX5_sentence_7 3 rfl rfl)
theorem dX5_sentence_170 : decode cX5_sentence 170 = .ok (.iaload, 1) := dk_46 (dk_at dksX5_sentence_7 4 rfl rfl)
theorem dX5_sentence_171 : decode cX5_sentence 171 = .ok (.iastore, 1) := dk_79 (dk_at dksX5_sentence_7 5 rfl rfl)
theorem dX5_sentence_172 : decode cX5_sentence 172 = .ok (.iinc 2 1, 3) := dk_132 2 1 (dk_at dksX5_sentence_7 6 rfl rfl)
theorem dX5_sentence_175 : decode cX5_sentence 175 = .ok (.goto (-29), 3) := dk_167 255 227 (dk_at dksX5_sentence_7 9 rfl rfl)
theorem dX5_sentence_178 : decode cX5_sentence 178 = .ok (.aload_n 0, 1) := dk_42 (dk_at dksX5_sentence_7 12 rfl rfl)
theorem dX5_sentence_179 : decode cX5_sentence 179 = .ok (.getfield 405, 3) := dk_180 1 149 (dk_at dksX5_sentence_7 13 rfl rfl)
theorem dX5_sentence_182 : decode cX5_sentence 182 = .ok (.ireturn, 1) := dk_172 (dk_at dksX5_sentence_7 16 rfl rfl)
abbrev cX5_nots : ByteArray := prog_19_method_91_code
def yX5_nots : MethodName := ⟨RX5, "nots", "()V"⟩
def dkwX5_nots_2 : List UInt8 := [182, 1, 140, 167, 255, 205, 177]
abbrev dktX5_nots_2 : List UInt8 := dkwX5_nots_2 ++ []
def dkwX5_nots_1 : List UInt8 := [89, 180, 1, 137, 4, 100, 181, 1, 137, 42, 89, 180, 1, 143, 4, 100, 181, 1, 143, 42, 16, 10, 3, 3]
abbrev dktX5_nots_1 : List UInt8 := dkwX5_nots_1 ++ dktX5_nots_2
def dkwX5_nots_0 : List UInt8 := [42, 180, 1, 137, 158, 0, 50, 42, 180, 0, 94, 42, 180, 1, 137, 4, 100, 46, 16, 10, 160, 0, 34, 42]
abbrev dktX5_nots_0 : List UInt8 := dkwX5_nots_0 ++ dktX5_nots_1
theorem dksX5_nots_0 : cX5_nots.data.toList.drop 0 = dktX5_nots_0 := by decide +kernel
theorem dksX5_nots_1 : cX5_nots.data.toList.drop 24 = dktX5_nots_1 := dk_seg dksX5_nots_0 24 rfl rfl
theorem dksX5_nots_2 : cX5_nots.data.toList.drop 48 = dktX5_nots_2 := dk_seg dksX5_nots_1 24 rfl rfl
theorem dX5_nots_0 : decode cX5_nots 0 = .ok (.aload_n 0, 1) := dk_42 (dk_at dksX5_nots_0 0 rfl rfl)
theorem dX5_nots_1 : decode cX5_nots 1 = .ok (.getfield 393, 3) := dk_180 1 137 (dk_at dksX5_nots_0 1 rfl rfl)
theorem dX5_nots_4 : decode cX5_nots 4 = .ok (.ifCond .le 50, 3) := dk_158 0 50 (dk_at dksX5_nots_0 4 rfl rfl)
theorem dX5_nots_7 : decode cX5_nots 7 = .ok (.aload_n 0, 1) := dk_42 (dk_at dksX5_nots_0 7 rfl rfl)
theorem dX5_nots_8 : decode cX5_nots 8 = .ok (.getfield 94, 3) := dk_180 0 94 (dk_at dksX5_nots_0 8 rfl rfl)
theorem dX5_nots_11 : decode cX5_nots 11 = .ok (.aload_n 0, 1) := dk_42 (dk_at dksX5_nots_0 11 rfl rfl)
theorem dX5_nots_12 : decode cX5_nots 12 = .ok (.getfield 393, 3) := dk_180 1 137 (dk_at dksX5_nots_0 12 rfl rfl)
theorem dX5_nots_15 : decode cX5_nots 15 = .ok (.iconst 1, 1) := dk_4 (dk_at dksX5_nots_0 15 rfl rfl)
theorem dX5_nots_16 : decode cX5_nots 16 = .ok (.isub, 1) := dk_100 (dk_at dksX5_nots_0 16 rfl rfl)
theorem dX5_nots_17 : decode cX5_nots 17 = .ok (.iaload, 1) := dk_46 (dk_at dksX5_nots_0 17 rfl rfl)
theorem dX5_nots_18 : decode cX5_nots 18 = .ok (.bipush 10, 2) := dk_16 10 (dk_at dksX5_nots_0 18 rfl rfl)
theorem dX5_nots_20 : decode cX5_nots 20 = .ok (.if_icmp .ne 34, 3) := dk_160 0 34 (dk_at dksX5_nots_0 20 rfl rfl)
theorem dX5_nots_23 : decode cX5_nots 23 = .ok (.aload_n 0, 1) := dk_42 (dk_at dksX5_nots_0 23 rfl rfl)
theorem dX5_nots_24 : decode cX5_nots 24 = .ok (.dup, 1) := dk_89 (dk_at dksX5_nots_1 0 rfl rfl)
theorem dX5_nots_25 : decode cX5_nots 25 = .ok (.getfield 393, 3) := dk_180 1 137 (dk_at dksX5_nots_1 1 rfl rfl)
theorem dX5_nots_28 : decode cX5_nots 28 = .ok (.iconst 1, 1) := dk_4 (dk_at dksX5_nots_1 4 rfl rfl)
theorem dX5_nots_29 : decode cX5_nots 29 = .ok (.isub, 1) := dk_100 (dk_at dksX5_nots_1 5 rfl rfl)
theorem dX5_nots_30 : decode cX5_nots 30 = .ok (.putfield 393, 3) := dk_181 1 137 (dk_at dksX5_nots_1 6 rfl rfl)
theorem dX5_nots_33 : decode cX5_nots 33 = .ok (.aload_n 0, 1) := dk_42 (dk_at dksX5_nots_1 9 rfl rfl)
theorem dX5_nots_34 : decode cX5_nots 34 = .ok (.dup, 1) := dk_89 (dk_at dksX5_nots_1 10 rfl rfl)
theorem dX5_nots_35 : decode cX5_nots 35 = .ok (.getfield 399, 3) := dk_180 1 143 (dk_at dksX5_nots_1 11 rfl rfl)
theorem dX5_nots_38 : decode cX5_nots 38 = .ok (.iconst 1, 1) := dk_4 (dk_at dksX5_nots_1 14 rfl rfl)
theorem dX5_nots_39 : decode cX5_nots 39 = .ok (.isub, 1) := dk_100 (dk_at dksX5_nots_1 15 rfl rfl)
theorem dX5_nots_40 : decode cX5_nots 40 = .ok (.putfield 399, 3) := dk_181 1 143 (dk_at dksX5_nots_1 16 rfl rfl)
theorem dX5_nots_43 : decode cX5_nots 43 = .ok (.aload_n 0, 1) := dk_42 (dk_at dksX5_nots_1 19 rfl rfl)
theorem dX5_nots_44 : decode cX5_nots 44 = .ok (.bipush 10, 2) := dk_16 10 (dk_at dksX5_nots_1 20 rfl rfl)
theorem dX5_nots_46 : decode cX5_nots 46 = .ok (.iconst 0, 1) := dk_3 (dk_at dksX5_nots_1 22 rfl rfl)
theorem dX5_nots_47 : decode cX5_nots 47 = .ok (.iconst 0, 1) := dk_3 (dk_at dksX5_nots_1 23 rfl rfl)
theorem dX5_nots_48 : decode cX5_nots 48 = .ok (.invokevirtual 396, 3) := dk_182 1 140 (dk_at dksX5_nots_2 0 rfl rfl)
theorem dX5_nots_51 : decode cX5_nots 51 = .ok (.goto (-51), 3) := dk_167 255 205 (dk_at dksX5_nots_2 3 rfl rfl)
theorem dX5_nots_54 : decode cX5_nots 54 = .ok (.return_, 1) := dk_177 (dk_at dksX5_nots_2 6 rfl rfl)
abbrev cX5_code : ByteArray := prog_19_method_89_code
def yX5_code : MethodName := ⟨RX5, "code", "(III)V"⟩
def dkwX5_code_2 : List UInt8 := [181, 1, 134, 177]
abbrev dktX5_code_2 : List UInt8 := dkwX5_code_2 ++ []
def dkwX5_code_1 : List UInt8 := [28, 79, 42, 180, 0, 40, 6, 42, 180, 1, 134, 104, 5, 96, 29, 79, 42, 89, 180, 1, 134, 4, 96]
abbrev dktX5_code_1 : List UInt8 := dkwX5_code_1 ++ dktX5_code_2
def dkwX5_code_0 : List UInt8 := [42, 180, 0, 40, 6, 42, 180, 1, 134, 104, 27, 79, 42, 180, 0, 40, 6, 42, 180, 1, 134, 104, 4, 96]
abbrev dktX5_code_0 : List UInt8 := dkwX5_code_0 ++ dktX5_code_1
theorem dksX5_code_0 : cX5_code.data.toList.drop 0 = dktX5_code_0 := by decide +kernel
theorem dksX5_code_1 : cX5_code.data.toList.drop 24 = dktX5_code_1 := dk_seg dksX5_code_0 24 rfl rfl
theorem dksX5_code_2 : cX5_code.data.toList.drop 47 = dktX5_code_2 := dk_seg dksX5_code_1 23 rfl rfl
theorem dX5_code_0 : decode cX5_code 0 = .ok (.aload_n 0, 1) := dk_42 (dk_at dksX5_code_0 0 rfl rfl)
theorem dX5_code_1 : decode cX5_code 1 = .ok (.getfield 40, 3) := dk_180 0 40 (dk_at dksX5_code_0 1 rfl rfl)
theorem dX5_code_4 : decode cX5_code 4 = .ok (.iconst 3, 1) := dk_6 (dk_at dksX5_code_0 4 rfl rfl)
theorem dX5_code_5 : decode cX5_code 5 = .ok (.aload_n 0, 1) := dk_42 (dk_at dksX5_code_0 5 rfl rfl)
theorem dX5_code_6 : decode cX5_code 6 = .ok (.getfield 390, 3) := dk_180 1 134 (dk_at dksX5_code_0 6 rfl rfl)
theorem dX5_code_9 : decode cX5_code 9 = .ok (.imul, 1) := dk_104 (dk_at dksX5_code_0 9 rfl rfl)
theorem dX5_code_10 : decode cX5_code 10 = .ok (.iload_n 1, 1) := dk_27 (dk_at dksX5_code_0 10 rfl rfl)
theorem dX5_code_11 : decode cX5_code 11 = .ok (.iastore, 1) := dk_79 (dk_at dksX5_code_0 11 rfl rfl)
theorem dX5_code_12 : decode cX5_code 12 = .ok (.aload_n 0, 1) := dk_42 (dk_at dksX5_code_0 12 rfl rfl)
theorem dX5_code_13 : decode cX5_code 13 = .ok (.getfield 40, 3) := dk_180 0 40 (dk_at dksX5_code_0 13 rfl rfl)
theorem dX5_code_16 : decode cX5_code 16 = .ok (.iconst 3, 1) := dk_6 (dk_at dksX5_code_0 16 rfl rfl)
theorem dX5_code_17 : decode cX5_code 17 = .ok (.aload_n 0, 1) := dk_42 (dk_at dksX5_code_0 17 rfl rfl)
theorem dX5_code_18 : decode cX5_code 18 = .ok (.getfield 390, 3) := dk_180 1 134 (dk_at dksX5_code_0 18 rfl rfl)
theorem dX5_code_21 : decode cX5_code 21 = .ok (.imul, 1) := dk_104 (dk_at dksX5_code_0 21 rfl rfl)
theorem dX5_code_22 : decode cX5_code 22 = .ok (.iconst 1, 1) := dk_4 (dk_at dksX5_code_0 22 rfl rfl)
theorem dX5_code_23 : decode cX5_code 23 = .ok (.iadd, 1) := dk_96 (dk_at dksX5_code_0 23 rfl rfl)
theorem dX5_code_24 : decode cX5_code 24 = .ok (.iload_n 2, 1) := dk_28 (dk_at dksX5_code_1 0 rfl rfl)
theorem dX5_code_25 : decode cX5_code 25 = .ok (.iastore, 1) := dk_79 (dk_at dksX5_code_1 1 rfl rfl)
theorem dX5_code_26 : decode cX5_code 26 = .ok (.aload_n 0, 1) := dk_42 (dk_at dksX5_code_1 2 rfl rfl)
theorem dX5_code_27 : decode cX5_code 27 = .ok (.getfield 40, 3) := dk_180 0 40 (dk_at dksX5_code_1 3 rfl rfl)
theorem dX5_code_30 : decode cX5_code 30 = .ok (.iconst 3, 1) := dk_6 (dk_at dksX5_code_1 6 rfl rfl)
theorem dX5_code_31 : decode cX5_code 31 = .ok (.aload_n 0, 1) := dk_42 (dk_at dksX5_code_1 7 rfl rfl)
theorem dX5_code_32 : decode cX5_code 32 = .ok (.getfield 390, 3) := dk_180 1 134 (dk_at dksX5_code_1 8 rfl rfl)
theorem dX5_code_35 : decode cX5_code 35 = .ok (.imul, 1) := dk_104 (dk_at dksX5_code_1 11 rfl rfl)
theorem dX5_code_36 : decode cX5_code 36 = .ok (.iconst 2, 1) := dk_5 (dk_at dksX5_code_1 12 rfl rfl)
theorem dX5_code_37 : decode cX5_code 37 = .ok (.iadd, 1) := dk_96 (dk_at dksX5_code_1 13 rfl rfl)
theorem dX5_code_38 : decode cX5_code 38 = .ok (.iload_n 3, 1) := dk_29 (dk_at dksX5_code_1 14 rfl rfl)
theorem dX5_code_39 : decode cX5_code 39 = .ok (.iastore, 1) := dk_79 (dk_at dksX5_code_1 15 rfl rfl)
theorem dX5_code_40 : decode cX5_code 40 = .ok (.aload_n 0, 1) := dk_42 (dk_at dksX5_code_1 16 rfl rfl)
theorem dX5_code_41 : decode cX5_code 41 = .ok (.dup, 1) := dk_89 (dk_at dksX5_code_1 17 rfl rfl)
theorem dX5_code_42 : decode cX5_code 42 = .ok (.getfield 390, 3) := dk_180 1 134 (dk_at dksX5_code_1 18 rfl rfl)
theorem dX5_code_45 : decode cX5_code 45 = .ok (.iconst 1, 1) := dk_4 (dk_at dksX5_code_1 21 rfl rfl)
theorem dX5_code_46 : decode cX5_code 46 = .ok (.iadd, 1) := dk_96 (dk_at dksX5_code_1 22 rfl rfl)
theorem dX5_code_47 : decode cX5_code 47 = .ok (.putfield 390, 3) := dk_181 1 134 (dk_at dksX5_code_2 0 rfl rfl)
theorem dX5_code_50 : decode cX5_code 50 = .ok (.return_, 1) := dk_177 (dk_at dksX5_code_2 3 rfl rfl)
abbrev cX5_joins : ByteArray := prog_19_method_90_code
def yX5_joins : MethodName := ⟨RX5, "joins", "(I)V"⟩
def dkwX5_joins_3 : List UInt8 := [167, 255, 186, 177]
abbrev dktX5_joins_3 : List UInt8 := dkwX5_joins_3 ++ []
def dkwX5_joins_2 : List UInt8 := [180, 1, 137, 4, 100, 181, 1, 137, 42, 42, 180, 0, 94, 42, 180, 1, 137, 46, 3, 3, 182, 1, 140]
abbrev dktX5_joins_2 : List UInt8 := dkwX5_joins_2 ++ dktX5_joins_3
def dkwX5_joins_1 : List UInt8 := [180, 0, 94, 42, 180, 1, 137, 4, 100, 46, 16, 12, 160, 0, 37, 27, 16, 12, 160, 0, 31, 42, 89]
abbrev dktX5_joins_1 : List UInt8 := dkwX5_joins_1 ++ dktX5_joins_2
def dkwX5_joins_0 : List UInt8 := [42, 180, 1, 137, 158, 0, 69, 42, 180, 0, 94, 42, 180, 1, 137, 4, 100, 46, 16, 11, 159, 0, 25, 42]
abbrev dktX5_joins_0 : List UInt8 := dkwX5_joins_0 ++ dktX5_joins_1
theorem dksX5_joins_0 : cX5_joins.data.toList.drop 0 = dktX5_joins_0 := by decide +kernel
theorem dksX5_joins_1 : cX5_joins.data.toList.drop 24 = dktX5_joins_1 := dk_seg dksX5_joins_0 24 rfl rfl
theorem dksX5_joins_2 : cX5_joins.data.toList.drop 47 = dktX5_joins_2 := dk_seg dksX5_joins_1 23 rfl rfl
theorem dksX5_joins_3 : cX5_joins.data.toList.drop 70 = dktX5_joins_3 := dk_seg dksX5_joins_2 23 rfl rfl
theorem dX5_joins_0 : decode cX5_joins 0 = .ok (.aload_n 0, 1) := dk_42 (dk_at dksX5_joins_0 0 rfl rfl)
theorem dX5_joins_1 : decode cX5_joins 1 = .ok (.getfield 393, 3) := dk_180 1 137 (dk_at dksX5_joins_0 1 rfl rfl)
theorem dX5_joins_4 : decode cX5_joins 4 = .ok (.ifCond .le 69, 3) := dk_158 0 69 (dk_at dksX5_joins_0 4 rfl rfl)
theorem dX5_joins_7 : decode cX5_joins 7 = .ok (.aload_n 0, 1) := dk_42 (dk_at dksX5_joins_0 7 rfl rfl)
theorem dX5_joins_8 : decode cX5_joins 8 = .ok (.getfield 94, 3) := dk_180 0 94 (dk_at dksX5_joins_0 8 rfl rfl)
theorem dX5_joins_11 : decode cX5_joins 11 = .ok (.aload_n 0, 1) := dk_42 (dk_at dksX5_joins_0 11 rfl rfl)
theorem dX5_joins_12 : decode cX5_joins 12 = .ok (.getfield 393, 3) := dk_180 1 137 (dk_at dksX5_joins_0 12 rfl rfl)
theorem dX5_joins_15 : decode cX5_joins 15 = .ok (.iconst 1, 1) := dk_4 (dk_at dksX5_joins_0 15 rfl rfl)
theorem dX5_joins_16 : decode cX5_joins 16 = .ok (.isub, 1) := dk_100 (dk_at dksX5_joins_0 16 rfl rfl)
theorem dX5_joins_17 : decode cX5_joins 17 = .ok (.iaload, 1) := dk_46 (dk_at dksX5_joins_0 17 rfl rfl)
theorem dX5_joins_18 : decode cX5_joins 18 = .ok (.bipush 11, 2) := dk_16 11 (dk_at dksX5_joins_0 18 rfl rfl)
theorem dX5_joins_20 : decode cX5_joins 20 = .ok (.if_icmp .eq 25, 3) := dk_159 0 25 (dk_at dksX5_joins_0 20 rfl rfl)
theorem dX5_joins_23 : decode cX5_joins 23 = .ok (.aload_n 0, 1) := dk_42 (dk_at dksX5_joins_0 23 rfl rfl)
theorem dX5_joins_24 : decode cX5_joins 24 = .ok (.getfield 94, 3) := dk_180 0 94 (dk_at dksX5_joins_1 0 rfl rfl)
theorem dX5_joins_27 : decode cX5_joins 27 = .ok (.aload_n 0, 1) := dk_42 (dk_at dksX5_joins_1 3 rfl rfl)
theorem dX5_joins_28 : decode cX5_joins 28 = .ok (.getfield 393, 3) := dk_180 1 137 (dk_at dksX5_joins_1 4 rfl rfl)
theorem dX5_joins_31 : decode cX5_joins 31 = .ok (.iconst 1, 1) := dk_4 (dk_at dksX5_joins_1 7 rfl rfl)
theorem dX5_joins_32 : decode cX5_joins 32 = .ok (.isub, 1) := dk_100 (dk_at dksX5_joins_1 8 rfl rfl)
theorem dX5_joins_33 : decode cX5_joins 33 = .ok (.iaload, 1) := dk_46 (dk_at dksX5_joins_1 9 rfl rfl)
theorem dX5_joins_34 : decode cX5_joins 34 = .ok (.bipush 12, 2) := dk_16 12 (dk_at dksX5_joins_1 10 rfl rfl)
theorem dX5_joins_36 : decode cX5_joins 36 = .ok (.if_icmp .ne 37, 3) := dk_160 0 37 (dk_at dksX5_joins_1 12 rfl rfl)
theorem dX5_joins_39 : decode cX5_joins 39 = .ok (.iload_n 1, 1) := dk_27 (dk_at dksX5_joins_1 15 rfl rfl)
theorem dX5_joins_40 : decode cX5_joins 40 = .ok (.bipush 12, 2) := dk_16 12 (dk_at dksX5_joins_1 16 rfl rfl)
theorem dX5_joins_42 : decode cX5_joins 42 = .ok (.if_icmp .ne 31, 3) := dk_160 0 31 (dk_at dksX5_joins_1 18 rfl rfl)
theorem dX5_joins_45 : decode cX5_joins 45 = .ok (.aload_n 0, 1) := dk_42 (dk_at dksX5_joins_1 21 rfl rfl)
theorem dX5_joins_46 : decode cX5_joins 46 = .ok (.dup, 1) := dk_89 (dk_at dksX5_joins_1 22 rfl rfl)
theorem dX5_joins_47 : decode cX5_joins 47 = .ok (.getfield 393, 3) := dk_180 1 137 (dk_at dksX5_joins_2 0 rfl rfl)
theorem dX5_joins_50 : decode cX5_joins 50 = .ok (.iconst 1, 1) := dk_4 (dk_at dksX5_joins_2 3 rfl rfl)
theorem dX5_joins_51 : decode cX5_joins 51 = .ok (.isub, 1) := dk_100 (dk_at dksX5_joins_2 4 rfl rfl)
theorem dX5_joins_52 : decode cX5_joins 52 = .ok (.putfield 393, 3) := dk_181 1 137 (dk_at dksX5_joins_2 5 rfl rfl)
theorem dX5_joins_55 : decode cX5_joins 55 = .ok (.aload_n 0, 1) := dk_42 (dk_at dksX5_joins_2 8 rfl rfl)
theorem dX5_joins_56 : decode cX5_joins 56 = .ok (.aload_n 0, 1) := dk_42 (dk_at dksX5_joins_2 9 rfl rfl)
theorem dX5_joins_57 : decode cX5_joins 57 = .ok (.getfield 94, 3) := dk_180 0 94 (dk_at dksX5_joins_2 10 rfl rfl)
theorem dX5_joins_60 : decode cX5_joins 60 = .ok (.aload_n 0, 1) := dk_42 (dk_at dksX5_joins_2 13 rfl rfl)
theorem dX5_joins_61 : decode cX5_joins 61 = .ok (.getfield 393, 3) := dk_180 1 137 (dk_at dksX5_joins_2 14 rfl rfl)
theorem dX5_joins_64 : decode cX5_joins 64 = .ok (.iaload, 1) := dk_46 (dk_at dksX5_joins_2 17 rfl rfl)
theorem dX5_joins_65 : decode cX5_joins 65 = .ok (.iconst 0, 1) := dk_3 (dk_at dksX5_joins_2 18 rfl rfl)
theorem dX5_joins_66 : decode cX5_joins 66 = .ok (.iconst 0, 1) := dk_3 (dk_at dksX5_joins_2 19 rfl rfl)
theorem dX5_joins_67 : decode cX5_joins 67 = .ok (.invokevirtual 396, 3) := dk_182 1 140 (dk_at dksX5_joins_2 20 rfl rfl)
theorem dX5_joins_70 : decode cX5_joins 70 = .ok (.goto (-70), 3) := dk_167 255 186 (dk_at dksX5_joins_3 0 rfl rfl)
theorem dX5_joins_73 : decode cX5_joins 73 = .ok (.return_, 1) := dk_177 (dk_at dksX5_joins_3 3 rfl rfl)
abbrev cX5_behind : ByteArray := prog_19_method_94_code
def yX5_behind : MethodName := ⟨RX5, "behind", "()Z"⟩
def dkwX5_behind_6 : List UInt8 := [42, 182, 0, 188, 4, 172]
abbrev dktX5_behind_6 : List UInt8 := dkwX5_behind_6 ++ []
def dkwX5_behind_5 : List UInt8 := [182, 0, 185, 172, 42, 89, 180, 1, 137, 4, 100, 181, 1, 137, 42, 89, 180, 1, 143, 4, 100, 181, 1, 143]
abbrev dktX5_behind_5 : List UInt8 := dkwX5_behind_5 ++ dktX5_behind_6
def dkwX5_behind_4 : List UInt8 := [16, 12, 182, 1, 158, 42, 16, 41, 182, 0, 182, 153, 0, 10, 42, 180, 1, 137, 154, 0, 9, 42, 4]
abbrev dktX5_behind_4 : List UInt8 := dkwX5_behind_4 ++ dktX5_behind_5
def dkwX5_behind_3 : List UInt8 := [79, 42, 89, 180, 1, 137, 4, 96, 181, 1, 137, 42, 3, 181, 1, 152, 42, 182, 0, 188, 4, 172, 42]
abbrev dktX5_behind_3 : List UInt8 := dkwX5_behind_3 ++ dktX5_behind_4
def dkwX5_behind_2 : List UInt8 := [180, 0, 94, 42, 180, 1, 137, 42, 20, 0, 131, 182, 0, 206, 153, 0, 8, 16, 11, 167, 0, 5, 16, 12]
abbrev dktX5_behind_2 : List UInt8 := dkwX5_behind_2 ++ dktX5_behind_3
def dkwX5_behind_1 : List UInt8 := [42, 42, 20, 0, 131, 182, 0, 206, 153, 0, 8, 16, 11, 167, 0, 5, 16, 12, 182, 1, 158, 42]
abbrev dktX5_behind_1 : List UInt8 := dkwX5_behind_1 ++ dktX5_behind_2
def dkwX5_behind_0 : List UInt8 := [42, 182, 1, 155, 42, 20, 0, 131, 182, 0, 206, 154, 0, 13, 42, 20, 0, 129, 182, 0, 206, 153, 0, 71]
abbrev dktX5_behind_0 : List UInt8 := dkwX5_behind_0 ++ dktX5_behind_1
theorem dksX5_behind_0 : cX5_behind.data.toList.drop 0 = dktX5_behind_0 := by decide +kernel
theorem dksX5_behind_1 : cX5_behind.data.toList.drop 24 = dktX5_behind_1 := dk_seg dksX5_behind_0 24 rfl rfl
theorem dksX5_behind_2 : cX5_behind.data.toList.drop 46 = dktX5_behind_2 := dk_seg dksX5_behind_1 22 rfl rfl
theorem dksX5_behind_3 : cX5_behind.data.toList.drop 70 = dktX5_behind_3 := dk_seg dksX5_behind_2 24 rfl rfl
theorem dksX5_behind_4 : cX5_behind.data.toList.drop 93 = dktX5_behind_4 := dk_seg dksX5_behind_3 23 rfl rfl
theorem dksX5_behind_5 : cX5_behind.data.toList.drop 116 = dktX5_behind_5 := dk_seg dksX5_behind_4 23 rfl rfl
theorem dksX5_behind_6 : cX5_behind.data.toList.drop 140 = dktX5_behind_6 := dk_seg dksX5_behind_5 24 rfl rfl
theorem dX5_behind_0 : decode cX5_behind 0 = .ok (.aload_n 0, 1) := dk_42 (dk_at dksX5_behind_0 0 rfl rfl)
theorem dX5_behind_1 : decode cX5_behind 1 = .ok (.invokevirtual 411, 3) := dk_182 1 155 (dk_at dksX5_behind_0 1 rfl rfl)
theorem dX5_behind_4 : decode cX5_behind 4 = .ok (.aload_n 0, 1) := dk_42 (dk_at dksX5_behind_0 4 rfl rfl)
theorem dX5_behind_5 : decode cX5_behind 5 = .ok (.ldc2_w 131, 3) := dk_20 0 131 (dk_at dksX5_behind_0 5 rfl rfl)
theorem dX5_behind_8 : decode cX5_behind 8 = .ok (.invokevirtual 206, 3) := dk_182 0 206 (dk_at dksX5_behind_0 8 rfl rfl)
theorem dX5_behind_11 : decode cX5_behind 11 = .ok (.ifCond .ne 13, 3) := dk_154 0 13 (dk_at dksX5_behind_0 11 rfl rfl)
theorem dX5_behind_14 : decode cX5_behind 14 = .ok (.aload_n 0, 1) := dk_42 (dk_at dksX5_behind_0 14 rfl rfl)
theorem dX5_behind_15 : decode cX5_behind 15 = .ok (.ldc2_w 129, 3) := dk_20 0 129 (dk_at dksX5_behind_0 15 rfl rfl)
theorem dX5_behind_18 : decode cX5_behind 18 = .ok (.invokevirtual 206, 3) := dk_182 0 206 (dk_at dksX5_behind_0 18 rfl rfl)
theorem dX5_behind_21 : decode cX5_behind 21 = .ok (.ifCond .eq 71, 3) := dk_153 0 71 (dk_at dksX5_behind_0 21 rfl rfl)
theorem dX5_behind_24 : decode cX5_behind 24 = .ok (.aload_n 0, 1) := dk_42 (dk_at dksX5_behind_1 0 rfl rfl)
theorem dX5_behind_25 : decode cX5_behind 25 = .ok (.aload_n 0, 1) := dk_42 (dk_at dksX5_behind_1 1 rfl rfl)
theorem dX5_behind_26 : decode cX5_behind 26 = .ok (.ldc2_w 131, 3) := dk_20 0 131 (dk_at dksX5_behind_1 2 rfl rfl)
theorem dX5_behind_29 : decode cX5_behind 29 = .ok (.invokevirtual 206, 3) := dk_182 0 206 (dk_at dksX5_behind_1 5 rfl rfl)
theorem dX5_behind_32 : decode cX5_behind 32 = .ok (.ifCond .eq 8, 3) := dk_153 0 8 (dk_at dksX5_behind_1 8 rfl rfl)
theorem dX5_behind_35 : decode cX5_behind 35 = .ok (.bipush 11, 2) := dk_16 11 (dk_at dksX5_behind_1 11 rfl rfl)
theorem dX5_behind_37 : decode cX5_behind 37 = .ok (.goto 5, 3) := dk_167 0 5 (dk_at dksX5_behind_1 13 rfl rfl)
theorem dX5_behind_40 : decode cX5_behind 40 = .ok (.bipush 12, 2) := dk_16 12 (dk_at dksX5_behind_1 16 rfl rfl)
theorem dX5_behind_42 : decode cX5_behind 42 = .ok (.invokevirtual 414, 3) := dk_182 1 158 (dk_at dksX5_behind_1 18 rfl rfl)
theorem dX5_behind_45 : decode cX5_behind 45 = .ok (.aload_n 0, 1) := dk_42 (dk_at dksX5_behind_1 21 rfl rfl)
theorem dX5_behind_46 : decode cX5_behind 46 = .ok (.getfield 94, 3) := dk_180 0 94 (dk_at dksX5_behind_2 0 rfl rfl)
theorem dX5_behind_49 : decode cX5_behind 49 = .ok (.aload_n 0, 1) := dk_42 (dk_at dksX5_behind_2 3 rfl rfl)
theorem dX5_behind_50 : decode cX5_behind 50 = .ok (.getfield 393, 3) := dk_180 1 137 (dk_at dksX5_behind_2 4 rfl rfl)
theorem dX5_behind_53 : decode cX5_behind 53 = .ok (.aload_n 0, 1) := dk_42 (dk_at dksX5_behind_2 7 rfl rfl)
theorem dX5_behind_54 : decode cX5_behind 54 = .ok (.ldc2_w 131, 3) := dk_20 0 131 (dk_at dksX5_behind_2 8 rfl rfl)
theorem dX5_behind_57 : decode cX5_behind 57 = .ok (.invokevirtual 206, 3) := dk_182 0 206 (dk_at dksX5_behind_2 11 rfl rfl)
theorem dX5_behind_60 : decode cX5_behind 60 = .ok (.ifCond .eq 8, 3) := dk_153 0 8 (dk_at dksX5_behind_2 14 rfl rfl)
theorem dX5_behind_63 : decode cX5_behind 63 = .ok (.bipush 11, 2) := dk_16 11 (dk_at dksX5_behind_2 17 rfl rfl)
theorem dX5_behind_65 : decode cX5_behind 65 = .ok (.goto 5, 3) := dk_167 0 5 (dk_at dksX5_behind_2 19 rfl rfl)
theorem dX5_behind_68 : decode cX5_behind 68 = .ok (.bipush 12, 2) := dk_16 12 (dk_at dksX5_behind_2 22 rfl rfl)
theorem dX5_behind_70 : decode cX5_behind 70 = .ok (.iastore, 1) := dk_79 (dk_at dksX5_behind_3 0 rfl rfl)
theorem dX5_behind_71 : decode cX5_behind 71 = .ok (.aload_n 0, 1) := dk_42 (dk_at dksX5_behind_3 1 rfl rfl)
theorem dX5_behind_72 : decode cX5_behind 72 = .ok (.dup, 1) := dk_89 (dk_at dksX5_behind_3 2 rfl rfl)
theorem dX5_behind_73 : decode cX5_behind 73 = .ok (.getfield 393, 3) := dk_180 1 137 (dk_at dksX5_behind_3 3 rfl rfl)
theorem dX5_behind_76 : decode cX5_behind 76 = .ok (.iconst 1, 1) := dk_4 (dk_at dksX5_behind_3 6 rfl rfl)
theorem dX5_behind_77 : decode cX5_behind 77 = .ok (.iadd, 1) := dk_96 (dk_at dksX5_behind_3 7 rfl rfl)
theorem dX5_behind_78 : decode cX5_behind 78 = .ok (.putfield 393, 3) := dk_181 1 137 (dk_at dksX5_behind_3 8 rfl rfl)
theorem dX5_behind_81 : decode cX5_behind 81 = .ok (.aload_n 0, 1) := dk_42 (dk_at dksX5_behind_3 11 rfl rfl)
theorem dX5_behind_82 : decode cX5_behind 82 = .ok (.iconst 0, 1) := dk_3 (dk_at dksX5_behind_3 12 rfl rfl)
theorem dX5_behind_83 : decode cX5_behind 83 = .ok (.putfield 408, 3) := dk_181 1 152 (dk_at dksX5_behind_3 13 rfl rfl)
theorem dX5_behind_86 : decode cX5_behind 86 = .ok (.aload_n 0, 1) := dk_42 (dk_at dksX5_behind_3 16 rfl rfl)
theorem dX5_behind_87 : decode cX5_behind 87 = .ok (.invokevirtual 188, 3) := dk_182 0 188 (dk_at dksX5_behind_3 17 rfl rfl)
theorem dX5_behind_90 : decode cX5_behind 90 = .ok (.iconst 1, 1) := dk_4 (dk_at dksX5_behind_3 20 rfl rfl)
theorem dX5_behind_91 : decode cX5_behind 91 = .ok (.ireturn, 1) := dk_172 (dk_at dksX5_behind_3 21 rfl rfl)
theorem dX5_behind_92 : decode cX5_behind 92 = .ok (.aload_n 0, 1) := dk_42 (dk_at dksX5_behind_3 22 rfl rfl)
theorem dX5_behind_93 : decode cX5_behind 93 = .ok (.bipush 12, 2) := dk_16 12 (dk_at dksX5_behind_4 0 rfl rfl)
theorem dX5_behind_95 : decode cX5_behind 95 = .ok (.invokevirtual 414, 3) := dk_182 1 158 (dk_at dksX5_behind_4 2 rfl rfl)
theorem dX5_behind_98 : decode cX5_behind 98 = .ok (.aload_n 0, 1) := dk_42 (dk_at dksX5_behind_4 5 rfl rfl)
theorem dX5_behind_99 : decode cX5_behind 99 = .ok (.bipush 41, 2) := dk_16 41 (dk_at dksX5_behind_4 6 rfl rfl)
theorem dX5_behind_101 : decode cX5_behind 101 = .ok (.invokevirtual 182, 3) := dk_182 0 182 (dk_at dksX5_behind_4 8 rfl rfl)
theorem dX5_behind_104 : decode cX5_behind 104 = .ok (.ifCond .eq 10, 3) := dk_153 0 10 (dk_at dksX5_behind_4 11 rfl rfl)
theorem dX5_behind_107 : decode cX5_behind 107 = .ok (.aload_n 0, 1) := dk_42 (dk_at dksX5_behind_4 14 rfl rfl)
theorem dX5_behind_108 : decode cX5_behind 108 = .ok (.getfield 393, 3) := dk_180 1 137 (dk_at dksX5_behind_4 15 rfl rfl)
theorem dX5_behind_111 : decode cX5_behind 111 = .ok (.ifCond .ne 9, 3) := dk_154 0 9 (dk_at dksX5_behind_4 18 rfl rfl)
theorem dX5_behind_114 : decode cX5_behind 114 = .ok (.aload_n 0, 1) := dk_42 (dk_at dksX5_behind_4 21 rfl rfl)
theorem dX5_behind_115 : decode cX5_behind 115 = .ok (.iconst 1, 1) := dk_4 (dk_at dksX5_behind_4 22 rfl rfl)
theorem dX5_behind_116 : decode cX5_behind 116 = .ok (.invokevirtual 185, 3) := dk_182 0 185 (dk_at dksX5_behind_5 0 rfl rfl)
theorem dX5_behind_119 : decode cX5_behind 119 = .ok (.ireturn, 1) := dk_172 (dk_at dksX5_behind_5 3 rfl rfl)
theorem dX5_behind_120 : decode cX5_behind 120 = .ok (.aload_n 0, 1) := dk_42 (dk_at dksX5_behind_5 4 rfl rfl)
theorem dX5_behind_121 : decode cX5_behind 121 = .ok (.dup, 1) := dk_89 (dk_at dksX5_behind_5 5 rfl rfl)
theorem dX5_behind_122 : decode cX5_behind 122 = .ok (.getfield 393, 3) := dk_180 1 137 (dk_at dksX5_behind_5 6 rfl rfl)
theorem dX5_behind_125 : decode cX5_behind 125 = .ok (.iconst 1, 1) := dk_4 (dk_at dksX5_behind_5 9 rfl rfl)
theorem dX5_behind_126 : decode cX5_behind 126 = .ok (.isub, 1) := dk_100 (dk_at dksX5_behind_5 10 rfl rfl)
theorem dX5_behind_127 : decode cX5_behind 127 = .ok (.putfield 393, 3) := dk_181 1 137 (dk_at dksX5_behind_5 11 rfl rfl)
theorem dX5_behind_130 : decode cX5_behind 130 = .ok (.aload_n 0, 1) := dk_42 (dk_at dksX5_behind_5 14 rfl rfl)
theorem dX5_behind_131 : decode cX5_behind 131 = .ok (.dup, 1) := dk_89 (dk_at dksX5_behind_5 15 rfl rfl)
theorem dX5_behind_132 : decode cX5_behind 132 = .ok (.getfield 399, 3) := dk_180 1 143 (dk_at dksX5_behind_5 16 rfl rfl)
theorem dX5_behind_135 : decode cX5_behind 135 = .ok (.iconst 1, 1) := dk_4 (dk_at dksX5_behind_5 19 rfl rfl)
theorem dX5_behind_136 : decode cX5_behind 136 = .ok (.isub, 1) := dk_100 (dk_at dksX5_behind_5 20 rfl rfl)
theorem dX5_behind_137 : decode cX5_behind 137 = .ok (.putfield 399, 3) := dk_181 1 143 (dk_at dksX5_behind_5 21 rfl rfl)
theorem dX5_behind_140 : decode cX5_behind 140 = .ok (.aload_n 0, 1) := dk_42 (dk_at dksX5_behind_6 0 rfl rfl)
theorem dX5_behind_141 : decode cX5_behind 141 = .ok (.invokevirtual 188, 3) := dk_182 0 188 (dk_at dksX5_behind_6 1 rfl rfl)
theorem dX5_behind_144 : decode cX5_behind 144 = .ok (.iconst 1, 1) := dk_4 (dk_at dksX5_behind_6 4 rfl rfl)
theorem dX5_behind_145 : decode cX5_behind 145 = .ok (.ireturn, 1) := dk_172 (dk_at dksX5_behind_6 5 rfl rfl)
abbrev cX5_operand : ByteArray := prog_19_method_93_code
def yX5_operand : MethodName := ⟨RX5, "operand", "()Z"⟩
def dkwX5_operand_10 : List UInt8 := [182, 0, 185, 172, 42, 29, 21, 4, 42, 180, 0, 169, 182, 1, 140, 42, 182, 0, 188, 4, 172]
abbrev dktX5_operand_10 : List UInt8 := dkwX5_operand_10 ++ []
def dkwX5_operand_9 : List UInt8 := [182, 0, 185, 172, 42, 180, 0, 169, 54, 4, 42, 182, 0, 188, 42, 180, 0, 159, 5, 159, 0, 9, 42, 4]
abbrev dktX5_operand_9 : List UInt8 := dkwX5_operand_9 ++ dktX5_operand_10
def dkwX5_operand_8 : List UInt8 := [160, 0, 21, 42, 180, 0, 169, 16, 60, 161, 0, 12, 42, 180, 0, 169, 16, 62, 164, 0, 9, 42, 4]
abbrev dktX5_operand_8 : List UInt8 := dkwX5_operand_8 ++ dktX5_operand_9
def dkwX5_operand_7 : List UInt8 := [6, 182, 0, 185, 172, 42, 29, 3, 21, 4, 182, 1, 140, 42, 182, 0, 188, 4, 172, 42, 180, 0, 159, 6]
abbrev dktX5_operand_7 : List UInt8 := dkwX5_operand_7 ++ dktX5_operand_8
def dkwX5_operand_6 : List UInt8 := [182, 0, 185, 172, 42, 16, 6, 42, 180, 0, 33, 6, 46, 182, 0, 202, 54, 4, 21, 4, 156, 0, 9, 42]
abbrev dktX5_operand_6 : List UInt8 := dkwX5_operand_6 ++ dktX5_operand_7
def dkwX5_operand_5 : List UInt8 := [96, 181, 1, 143, 4, 172, 42, 4, 181, 1, 152, 29, 154, 0, 55, 42, 182, 0, 198, 154, 0, 9, 42, 4]
abbrev dktX5_operand_5 : List UInt8 := dkwX5_operand_5 ++ dktX5_operand_6
def dkwX5_operand_4 : List UInt8 := [16, 10, 167, 0, 5, 16, 13, 79, 42, 89, 180, 1, 137, 4, 96, 181, 1, 137, 42, 89, 180, 1, 143, 4]
abbrev dktX5_operand_4 : List UInt8 := dkwX5_operand_4 ++ dktX5_operand_5
def dkwX5_operand_3 : List UInt8 := [42, 182, 0, 188, 27, 154, 0, 7, 28, 153, 0, 45, 42, 180, 0, 94, 42, 180, 1, 137, 27, 153, 0, 8]
abbrev dktX5_operand_3 : List UInt8 := dkwX5_operand_3 ++ dktX5_operand_4
def dkwX5_operand_2 : List UInt8 := [180, 1, 143, 16, 8, 164, 0, 9, 42, 7, 182, 0, 185, 172, 42, 89, 180, 1, 149, 4, 96, 181, 1, 149]
abbrev dktX5_operand_2 : List UInt8 := dkwX5_operand_2 ++ dktX5_operand_3
def dkwX5_operand_1 : List UInt8 := [28, 154, 0, 13, 29, 156, 0, 9, 42, 4, 182, 0, 185, 172, 42, 180, 1, 149, 16, 20, 159, 0, 12, 42]
abbrev dktX5_operand_1 : List UInt8 := dkwX5_operand_1 ++ dktX5_operand_2
def dkwX5_operand_0 : List UInt8 := [42, 20, 0, 133, 182, 0, 206, 60, 42, 16, 40, 182, 0, 182, 61, 42, 182, 1, 146, 62, 27, 154, 0, 17]
abbrev dktX5_operand_0 : List UInt8 := dkwX5_operand_0 ++ dktX5_operand_1
theorem dksX5_operand_0 : cX5_operand.data.toList.drop 0 = dktX5_operand_0 := by decide +kernel
theorem dksX5_operand_1 : cX5_operand.data.toList.drop 24 = dktX5_operand_1 := dk_seg dksX5_operand_0 24 rfl rfl
theorem dksX5_operand_2 : cX5_operand.data.toList.drop 48 = dktX5_operand_2 := dk_seg dksX5_operand_1 24 rfl rfl
theorem dksX5_operand_3 : cX5_operand.data.toList.drop 72 = dktX5_operand_3 := dk_seg dksX5_operand_2 24 rfl rfl
theorem dksX5_operand_4 : cX5_operand.data.toList.drop 96 = dktX5_operand_4 := dk_seg dksX5_operand_3 24 rfl rfl
theorem dksX5_operand_5 : cX5_operand.data.toList.drop 120 = dktX5_operand_5 := dk_seg dksX5_operand_4 24 rfl rfl
theorem dksX5_operand_6 : cX5_operand.data.toList.drop 144 = dktX5_operand_6 := dk_seg dksX5_operand_5 24 rfl rfl
theorem dksX5_operand_7 : cX5_operand.data.toList.drop 168 = dktX5_operand_7 := dk_seg dksX5_operand_6 24 rfl rfl
theorem dksX5_operand_8 : cX5_operand.data.toList.drop 192 = dktX5_operand_8 := dk_seg dksX5_operand_7 24 rfl rfl
theorem dksX5_operand_9 : cX5_operand.data.toList.drop 215 = dktX5_operand_9 := dk_seg dksX5_operand_8 23 rfl rfl
theorem dksX5_operand_10 : cX5_operand.data.toList.drop 239 = dktX5_operand_10 := dk_seg dksX5_operand_9 24 rfl rfl
theorem dX5_operand_0 : decode cX5_operand 0 = .ok (.aload_n 0, 1) := dk_42 (dk_at dksX5_operand_0 0 rfl rfl)
theorem dX5_operand_1 : decode cX5_operand 1 = .ok (.ldc2_w 133, 3) := dk_20 0 133 (dk_at dksX5_operand_0 1 rfl rfl)
theorem dX5_operand_4 : decode cX5_operand 4 = .ok (.invokevirtual 206, 3) := dk_182 0 206 (dk_at dksX5_operand_0 4 rfl rfl)
theorem dX5_operand_7 : decode cX5_operand 7 = .ok (.istore_n 1, 1) := dk_60 (dk_at dksX5_operand_0 7 rfl rfl)
theorem dX5_operand_8 : decode cX5_operand 8 = .ok (.aload_n 0, 1) := dk_42 (dk_at dksX5_operand_0 8 rfl rfl)
theorem dX5_operand_9 : decode cX5_operand 9 = .ok (.bipush 40, 2) := dk_16 40 (dk_at dksX5_operand_0 9 rfl rfl)
theorem dX5_operand_11 : decode cX5_operand 11 = .ok (.invokevirtual 182, 3) := dk_182 0 182 (dk_at dksX5_operand_0 11 rfl rfl)
theorem dX5_operand_14 : decode cX5_operand 14 = .ok (.istore_n 2, 1) := dk_61 (dk_at dksX5_operand_0 14 rfl rfl)
theorem dX5_operand_15 : decode cX5_operand 15 = .ok (.aload_n 0, 1) := dk_42 (dk_at dksX5_operand_0 15 rfl rfl)
theorem dX5_operand_16 : decode cX5_operand 16 = .ok (.invokevirtual 402, 3) := dk_182 1 146 (dk_at dksX5_operand_0 16 rfl rfl)
theorem dX5_operand_19 : decode cX5_operand 19 = .ok (.istore_n 3, 1) := dk_62 (dk_at dksX5_operand_0 19 rfl rfl)
theorem dX5_operand_20 : decode cX5_operand 20 = .ok (.iload_n 1, 1) := dk_27 (dk_at dksX5_operand_0 20 rfl rfl)
theorem dX5_operand_21 : decode cX5_operand 21 = .ok (.ifCond .ne 17, 3) := dk_154 0 17 (dk_at dksX5_operand_0 21 rfl rfl)
theorem dX5_operand_24 : decode cX5_operand 24 = .ok (.iload_n 2, 1) := dk_28 (dk_at dksX5_operand_1 0 rfl rfl)
theorem dX5_operand_25 : decode cX5_operand 25 = .ok (.ifCond .ne 13, 3) := dk_154 0 13 (dk_at dksX5_operand_1 1 rfl rfl)
theorem dX5_operand_28 : decode cX5_operand 28 = .ok (.iload_n 3, 1) := dk_29 (dk_at dksX5_operand_1 4 rfl rfl)
theorem dX5_operand_29 : decode cX5_operand 29 = .ok (.ifCond .ge 9, 3) := dk_156 0 9 (dk_at dksX5_operand_1 5 rfl rfl)
theorem dX5_operand_32 : decode cX5_operand 32 = .ok (.aload_n 0, 1) := dk_42 (dk_at dksX5_operand_1 8 rfl rfl)
theorem dX5_operand_33 : decode cX5_operand 33 = .ok (.iconst 1, 1) := dk_4 (dk_at dksX5_operand_1 9 rfl rfl)
theorem dX5_operand_34 : decode cX5_operand 34 = .ok (.invokevirtual 185, 3) := dk_182 0 185 (dk_at dksX5_operand_1 10 rfl rfl)
theorem dX5_operand_37 : decode cX5_operand 37 = .ok (.ireturn, 1) := dk_172 (dk_at dksX5_operand_1 13 rfl rfl)
theorem dX5_operand_38 : decode cX5_operand 38 = .ok (.aload_n 0, 1) := dk_42 (dk_at dksX5_operand_1 14 rfl rfl)
theorem dX5_operand_39 : decode cX5_operand 39 = .ok (.getfield 405, 3) := dk_180 1 149 (dk_at dksX5_operand_1 15 rfl rfl)
theorem dX5_operand_42 : decode cX5_operand 42 = .ok (.bipush 20, 2) := dk_16 20 (dk_at dksX5_operand_1 18 rfl rfl)
theorem dX5_operand_44 : decode cX5_operand 44 = .ok (.if_icmp .eq 12, 3) := dk_159 0 12 (dk_at dksX5_operand_1 20 rfl rfl)
theorem dX5_operand_47 : decode cX5_operand 47 = .ok (.aload_n 0, 1) := dk_42 (dk_at dksX5_operand_1 23 rfl rfl)
theorem dX5_operand_48 : decode cX5_operand 48 = .ok (.getfield 399, 3) := dk_180 1 143 (dk_at dksX5_operand_2 0 rfl rfl)
theorem dX5_operand_51 : decode cX5_operand 51 = .ok (.bipush 8, 2) := dk_16 8 (dk_at dksX5_operand_2 3 rfl rfl)
theorem dX5_operand_53 : decode cX5_operand 53 = .ok (.if_icmp .le 9, 3) := dk_164 0 9 (dk_at dksX5_operand_2 5 rfl rfl)
theorem dX5_operand_56 : decode cX5_operand 56 = .ok (.aload_n 0, 1) := dk_42 (dk_at dksX5_operand_2 8 rfl rfl)
theorem dX5_operand_57 : decode cX5_operand 57 = .ok (.iconst 4, 1) := dk_7 (dk_at dksX5_operand_2 9 rfl rfl)
theorem dX5_operand_58 : decode cX5_operand 58 = .ok (.invokevirtual 185, 3) := dk_182 0 185 (dk_at dksX5_operand_2 10 rfl rfl)
theorem dX5_operand_61 : decode cX5_operand 61 = .ok (.ireturn, 1) := dk_172 (dk_at dksX5_operand_2 13 rfl rfl)
theorem dX5_operand_62 : decode cX5_operand 62 = .ok (.aload_n 0, 1) := dk_42 (dk_at dksX5_operand_2 14 rfl rfl)
theorem dX5_operand_63 : decode cX5_operand 63 = .ok (.dup, 1) := dk_89 (dk_at dksX5_operand_2 15 rfl rfl)
theorem dX5_operand_64 : decode cX5_operand 64 = .ok (.getfield 405, 3) := dk_180 1 149 (dk_at dksX5_operand_2 16 rfl rfl)
theorem dX5_operand_67 : decode cX5_operand 67 = .ok (.iconst 1, 1) := dk_4 (dk_at dksX5_operand_2 19 rfl rfl)
theorem dX5_operand_68 : decode cX5_operand 68 = .ok (.iadd, 1) := dk_96 (dk_at dksX5_operand_2 20 rfl rfl)
theorem dX5_operand_69 : decode cX5_operand 69 = .ok (.putfield 405, 3) := dk_181 1 149 (dk_at dksX5_operand_2 21 rfl rfl)
theorem dX5_operand_72 : decode cX5_operand 72 = .ok (.aload_n 0, 1) := dk_42 (dk_at dksX5_operand_3 0 rfl rfl)
theorem dX5_operand_73 : decode cX5_operand 73 = .ok (.invokevirtual 188, 3) := dk_182 0 188 (dk_at dksX5_operand_3 1 rfl rfl)
theorem dX5_operand_76 : decode cX5_operand 76 = .ok (.iload_n 1, 1) := dk_27 (dk_at dksX5_operand_3 4 rfl rfl)
theorem dX5_operand_77 : decode cX5_operand 77 = .ok (.ifCond .ne 7, 3) := dk_154 0 7 (dk_at dksX5_operand_3 5 rfl rfl)
theorem dX5_operand_80 : decode cX5_operand 80 = .ok (.iload_n 2, 1) := dk_28 (dk_at dksX5_operand_3 8 rfl rfl)
theorem dX5_operand_81 : decode cX5_operand 81 = .ok (.ifCond .eq 45, 3) := dk_153 0 45 (dk_at dksX5_operand_3 9 rfl rfl)
theorem dX5_operand_84 : decode cX5_operand 84 = .ok (.aload_n 0, 1) := dk_42 (dk_at dksX5_operand_3 12 rfl rfl)
theorem dX5_operand_85 : decode cX5_operand 85 = .ok (.getfield 94, 3) := dk_180 0 94 (dk_at dksX5_operand_3 13 rfl rfl)
theorem dX5_operand_88 : decode cX5_operand 88 = .ok (.aload_n 0, 1) := dk_42 (dk_at dksX5_operand_3 16 rfl rfl)
theorem dX5_operand_89 : decode cX5_operand 89 = .ok (.getfield 393, 3) := dk_180 1 137 (dk_at dksX5_operand_3 17 rfl rfl)
theorem dX5_operand_92 : decode cX5_operand 92 = .ok (.iload_n 1, 1) := dk_27 (dk_at dksX5_operand_3 20 rfl rfl)
theorem dX5_operand_93 : decode cX5_operand 93 = .ok (.ifCond .eq 8, 3) := dk_153 0 8 (dk_at dksX5_operand_3 21 rfl rfl)
theorem dX5_operand_96 : decode cX5_operand 96 = .ok (.bipush 10, 2) := dk_16 10 (dk_at dksX5_operand_4 0 rfl rfl)
theorem dX5_operand_98 : decode cX5_operand 98 = .ok (.goto 5, 3) := dk_167 0 5 (dk_at dksX5_operand_4 2 rfl rfl)
theorem dX5_operand_101 : decode cX5_operand 101 = .ok (.bipush 13, 2) := dk_16 13 (dk_at dksX5_operand_4 5 rfl rfl)
theorem dX5_operand_103 : decode cX5_operand 103 = .ok (.iastore, 1) := dk_79 (dk_at dksX5_operand_4 7 rfl rfl)
theorem dX5_operand_104 : decode cX5_operand 104 = .ok (.aload_n 0, 1) := dk_42 (dk_at dksX5_operand_4 8 rfl rfl)
theorem dX5_operand_105 : decode cX5_operand 105 = .ok (.dup, 1) := dk_89 (dk_at dksX5_operand_4 9 rfl rfl)
theorem dX5_operand_106 : decode cX5_operand 106 = .ok (.getfield 393, 3) := dk_180 1 137 (dk_at dksX5_operand_4 10 rfl rfl)
theorem dX5_operand_109 : decode cX5_operand 109 = .ok (.iconst 1, 1) := dk_4 (dk_at dksX5_operand_4 13 rfl rfl)
theorem dX5_operand_110 : decode cX5_operand 110 = .ok (.iadd, 1) := dk_96 (dk_at dksX5_operand_4 14 rfl rfl)
theorem dX5_operand_111 : decode cX5_operand 111 = .ok (.putfield 393, 3) := dk_181 1 137 (dk_at dksX5_operand_4 15 rfl rfl)
theorem dX5_operand_114 : decode cX5_operand 114 = .ok (.aload_n 0, 1) := dk_42 (dk_at dksX5_operand_4 18 rfl rfl)
theorem dX5_operand_115 : decode cX5_operand 115 = .ok (.dup, 1) := dk_89 (dk_at dksX5_operand_4 19 rfl rfl)
theorem dX5_operand_116 : decode cX5_operand 116 = .ok (.getfield 399, 3) := dk_180 1 143 (dk_at dksX5_operand_4 20 rfl rfl)
theorem dX5_operand_119 : decode cX5_operand 119 = .ok (.iconst 1, 1) := dk_4 (dk_at dksX5_operand_4 23 rfl rfl)
theorem dX5_operand_120 : decode cX5_operand 120 = .ok (.iadd, 1) := dk_96 (dk_at dksX5_operand_5 0 rfl rfl)
theorem dX5_operand_121 : decode cX5_operand 121 = .ok (.putfield 399, 3) := dk_181 1 143 (dk_at dksX5_operand_5 1 rfl rfl)
theorem dX5_operand_124 : decode cX5_operand 124 = .ok (.iconst 1, 1) := dk_4 (dk_at dksX5_operand_5 4 rfl rfl)
theorem dX5_operand_125 : decode cX5_operand 125 = .ok (.ireturn, 1) := dk_172 (dk_at dksX5_operand_5 5 rfl rfl)
theorem dX5_operand_126 : decode cX5_operand 126 = .ok (.aload_n 0, 1) := dk_42 (dk_at dksX5_operand_5 6 rfl rfl)
theorem dX5_operand_127 : decode cX5_operand 127 = .ok (.iconst 1, 1) := dk_4 (dk_at dksX5_operand_5 7 rfl rfl)
theorem dX5_operand_128 : decode cX5_operand 128 = .ok (.putfield 408, 3) := dk_181 1 152 (dk_at dksX5_operand_5 8 rfl rfl)
theorem dX5_operand_131 : decode cX5_operand 131 = .ok (.iload_n 3, 1) := dk_29 (dk_at dksX5_operand_5 11 rfl rfl)
theorem dX5_operand_132 : decode cX5_operand 132 = .ok (.ifCond .ne 55, 3) := dk_154 0 55 (dk_at dksX5_operand_5 12 rfl rfl)
theorem dX5_operand_135 : decode cX5_operand 135 = .ok (.aload_n 0, 1) := dk_42 (dk_at dksX5_operand_5 15 rfl rfl)
theorem dX5_operand_136 : decode cX5_operand 136 = .ok (.invokevirtual 198, 3) := dk_182 0 198 (dk_at dksX5_operand_5 16 rfl rfl)
theorem dX5_operand_139 : decode cX5_operand 139 = .ok (.ifCond .ne 9, 3) := dk_154 0 9 (dk_at dksX5_operand_5 19 rfl rfl)
theorem dX5_operand_142 : decode cX5_operand 142 = .ok (.aload_n 0, 1) := dk_42 (dk_at dksX5_operand_5 22 rfl rfl)
theorem dX5_operand_143 : decode cX5_operand 143 = .ok (.iconst 1, 1) := dk_4 (dk_at dksX5_operand_5 23 rfl rfl)
theorem dX5_operand_144 : decode cX5_operand 144 = .ok (.invokevirtual 185, 3) := dk_182 0 185 (dk_at dksX5_operand_6 0 rfl rfl)
theorem dX5_operand_147 : decode cX5_operand 147 = .ok (.ireturn, 1) := dk_172 (dk_at dksX5_operand_6 3 rfl rfl)
theorem dX5_operand_148 : decode cX5_operand 148 = .ok (.aload_n 0, 1) := dk_42 (dk_at dksX5_operand_6 4 rfl rfl)
theorem dX5_operand_149 : decode cX5_operand 149 = .ok (.bipush 6, 2) := dk_16 6 (dk_at dksX5_operand_6 5 rfl rfl)
theorem dX5_operand_151 : decode cX5_operand 151 = .ok (.aload_n 0, 1) := dk_42 (dk_at dksX5_operand_6 7 rfl rfl)
theorem dX5_operand_152 : decode cX5_operand 152 = .ok (.getfield 33, 3) := dk_180 0 33 (dk_at dksX5_operand_6 8 rfl rfl)
theorem dX5_operand_155 : decode cX5_operand 155 = .ok (.iconst 3, 1) := dk_6 (dk_at dksX5_operand_6 11 rfl rfl)
theorem dX5_operand_156 : decode cX5_operand 156 = .ok (.iaload, 1) := dk_46 (dk_at dksX5_operand_6 12 rfl rfl)
theorem dX5_operand_157 : decode cX5_operand 157 = .ok (.invokevirtual 202, 3) := dk_182 0 202 (dk_at dksX5_operand_6 13 rfl rfl)
theorem dX5_operand_160 : decode cX5_operand 160 = .ok (.istore 4, 2) := dk_54 4 (dk_at dksX5_operand_6 16 rfl rfl)
theorem dX5_operand_162 : decode cX5_operand 162 = .ok (.iload 4, 2) := dk_21 4 (dk_at dksX5_operand_6 18 rfl rfl)
theorem dX5_operand_164 : decode cX5_operand 164 = .ok (.ifCond .ge 9, 3) := dk_156 0 9 (dk_at dksX5_operand_6 20 rfl rfl)
theorem dX5_operand_167 : decode cX5_operand 167 = .ok (.aload_n 0, 1) := dk_42 (dk_at dksX5_operand_6 23 rfl rfl)
theorem dX5_operand_168 : decode cX5_operand 168 = .ok (.iconst 3, 1) := dk_6 (dk_at dksX5_operand_7 0 rfl rfl)
theorem dX5_operand_169 : decode cX5_operand 169 = .ok (.invokevirtual 185, 3) := dk_182 0 185 (dk_at dksX5_operand_7 1 rfl rfl)
theorem dX5_operand_172 : decode cX5_operand 172 = .ok (.ireturn, 1) := dk_172 (dk_at dksX5_operand_7 4 rfl rfl)
theorem dX5_operand_173 : decode cX5_operand 173 = .ok (.aload_n 0, 1) := dk_42 (dk_at dksX5_operand_7 5 rfl rfl)
theorem dX5_operand_174 : decode cX5_operand 174 = .ok (.iload_n 3, 1) := dk_29 (dk_at dksX5_operand_7 6 rfl rfl)
theorem dX5_operand_175 : decode cX5_operand 175 = .ok (.iconst 0, 1) := dk_3 (dk_at dksX5_operand_7 7 rfl rfl)
theorem dX5_operand_176 : decode cX5_operand 176 = .ok (.iload 4, 2) := dk_21 4 (dk_at dksX5_operand_7 8 rfl rfl)
theorem dX5_operand_178 : decode cX5_operand 178 = .ok (.invokevirtual 396, 3) := dk_182 1 140 (dk_at dksX5_operand_7 10 rfl rfl)
theorem dX5_operand_181 : decode cX5_operand 181 = .ok (.aload_n 0, 1) := dk_42 (dk_at dksX5_operand_7 13 rfl rfl)
theorem dX5_operand_182 : decode cX5_operand 182 = .ok (.invokevirtual 188, 3) := dk_182 0 188 (dk_at dksX5_operand_7 14 rfl rfl)
theorem dX5_operand_185 : decode cX5_operand 185 = .ok (.iconst 1, 1) := dk_4 (dk_at dksX5_operand_7 17 rfl rfl)
theorem dX5_operand_186 : decode cX5_operand 186 = .ok (.ireturn, 1) := dk_172 (dk_at dksX5_operand_7 18 rfl rfl)
theorem dX5_operand_187 : decode cX5_operand 187 = .ok (.aload_n 0, 1) := dk_42 (dk_at dksX5_operand_7 19 rfl rfl)
theorem dX5_operand_188 : decode cX5_operand 188 = .ok (.getfield 159, 3) := dk_180 0 159 (dk_at dksX5_operand_7 20 rfl rfl)
theorem dX5_operand_191 : decode cX5_operand 191 = .ok (.iconst 3, 1) := dk_6 (dk_at dksX5_operand_7 23 rfl rfl)
theorem dX5_operand_192 : decode cX5_operand 192 = .ok (.if_icmp .ne 21, 3) := dk_160 0 21 (dk_at dksX5_operand_8 0 rfl rfl)
theorem dX5_operand_195 : decode cX5_operand 195 = .ok (.aload_n 0, 1) := dk_42 (dk_at dksX5_operand_8 3 rfl rfl)
theorem dX5_operand_196 : decode cX5_operand 196 = .ok (.getfield 169, 3) := dk_180 0 169 (dk_at dksX5_operand_8 4 rfl rfl)
theorem dX5_operand_199 : decode cX5_operand 199 = .ok (.bipush 60, 2) := dk_16 60 (dk_at dksX5_operand_8 7 rfl rfl)
theorem dX5_operand_201 : decode cX5_operand 201 = .ok (.if_icmp .lt 12, 3) := dk_161 0 12 (dk_at dksX5_operand_8 9 rfl rfl)
theorem dX5_operand_204 : decode cX5_operand 204 = .ok (.aload_n 0, 1) := dk_42 (dk_at dksX5_operand_8 12 rfl rfl)
theorem dX5_operand_205 : decode cX5_operand 205 = .ok (.getfield 169, 3) := dk_180 0 169 (dk_at dksX5_operand_8 13 rfl rfl)
theorem dX5_operand_208 : decode cX5_operand 208 = .ok (.bipush 62, 2) := dk_16 62 (dk_at dksX5_operand_8 16 rfl rfl)
theorem dX5_operand_210 : decode cX5_operand 210 = .ok (.if_icmp .le 9, 3) := dk_164 0 9 (dk_at dksX5_operand_8 18 rfl rfl)
theorem dX5_operand_213 : decode cX5_operand 213 = .ok (.aload_n 0, 1) := dk_42 (dk_at dksX5_operand_8 21 rfl rfl)
theorem dX5_operand_214 : decode cX5_operand 214 = .ok (.iconst 1, 1) := dk_4 (dk_at dksX5_operand_8 22 rfl rfl)
theorem dX5_operand_215 : decode cX5_operand 215 = .ok (.invokevirtual 185, 3) := dk_182 0 185 (dk_at dksX5_operand_9 0 rfl rfl)
theorem dX5_operand_218 : decode cX5_operand 218 = .ok (.ireturn, 1) := dk_172 (dk_at dksX5_operand_9 3 rfl rfl)
theorem dX5_operand_219 : decode cX5_operand 219 = .ok (.aload_n 0, 1) := dk_42 (dk_at dksX5_operand_9 4 rfl rfl)
theorem dX5_operand_220 : decode cX5_operand 220 = .ok (.getfield 169, 3) := dk_180 0 169 (dk_at dksX5_operand_9 5 rfl rfl)
theorem dX5_operand_223 : decode cX5_operand 223 = .ok (.istore 4, 2) := dk_54 4 (dk_at dksX5_operand_9 8 rfl rfl)
theorem dX5_operand_225 : decode cX5_operand 225 = .ok (.aload_n 0, 1) := dk_42 (dk_at dksX5_operand_9 10 rfl rfl)
theorem dX5_operand_226 : decode cX5_operand 226 = .ok (.invokevirtual 188, 3) := dk_182 0 188 (dk_at dksX5_operand_9 11 rfl rfl)
theorem dX5_operand_229 : decode cX5_operand 229 = .ok (.aload_n 0, 1) := dk_42 (dk_at dksX5_operand_9 14 rfl rfl)
theorem dX5_operand_230 : decode cX5_operand 230 = .ok (.getfield 159, 3) := dk_180 0 159 (dk_at dksX5_operand_9 15 rfl rfl)
theorem dX5_operand_233 : decode cX5_operand 233 = .ok (.iconst 2, 1) := dk_5 (dk_at dksX5_operand_9 18 rfl rfl)
theorem dX5_operand_234 : decode cX5_operand 234 = .ok (.if_icmp .eq 9, 3) := dk_159 0 9 (dk_at dksX5_operand_9 19 rfl rfl)
theorem dX5_operand_237 : decode cX5_operand 237 = .ok (.aload_n 0, 1) := dk_42 (dk_at dksX5_operand_9 22 rfl rfl)
theorem dX5_operand_238 : decode cX5_operand 238 = .ok (.iconst 1, 1) := dk_4 (dk_at dksX5_operand_9 23 rfl rfl)
theorem dX5_operand_239 : decode cX5_operand 239 = .ok (.invokevirtual 185, 3) := dk_182 0 185 (dk_at dksX5_operand_10 0 rfl rfl)
theorem dX5_operand_242 : decode cX5_operand 242 = .ok (.ireturn, 1) := dk_172 (dk_at dksX5_operand_10 3 rfl rfl)
theorem dX5_operand_243 : decode cX5_operand 243 = .ok (.aload_n 0, 1) := dk_42 (dk_at dksX5_operand_10 4 rfl rfl)
theorem dX5_operand_244 : decode cX5_operand 244 = .ok (.iload_n 3, 1) := dk_29 (dk_at dksX5_operand_10 5 rfl rfl)
theorem dX5_operand_245 : decode cX5_operand 245 = .ok (.iload 4, 2) := dk_21 4 (dk_at dksX5_operand_10 6 rfl rfl)
theorem dX5_operand_247 : decode cX5_operand 247 = .ok (.aload_n 0, 1) := dk_42 (dk_at dksX5_operand_10 8 rfl rfl)
theorem dX5_operand_248 : decode cX5_operand 248 = .ok (.getfield 169, 3) := dk_180 0 169 (dk_at dksX5_operand_10 9 rfl rfl)
theorem dX5_operand_251 : decode cX5_operand 251 = .ok (.invokevirtual 396, 3) := dk_182 1 140 (dk_at dksX5_operand_10 12 rfl rfl)
theorem dX5_operand_254 : decode cX5_operand 254 = .ok (.aload_n 0, 1) := dk_42 (dk_at dksX5_operand_10 15 rfl rfl)
theorem dX5_operand_255 : decode cX5_operand 255 = .ok (.invokevirtual 188, 3) := dk_182 0 188 (dk_at dksX5_operand_10 16 rfl rfl)
theorem dX5_operand_258 : decode cX5_operand 258 = .ok (.iconst 1, 1) := dk_4 (dk_at dksX5_operand_10 19 rfl rfl)
theorem dX5_operand_259 : decode cX5_operand 259 = .ok (.ireturn, 1) := dk_172 (dk_at dksX5_operand_10 20 rfl rfl)
abbrev cX5_leafOf : ByteArray := prog_19_method_92_code
def yX5_leafOf : MethodName := ⟨RX5, "leafOf", "()I"⟩
def dkwX5_leafOf_4 : List UInt8 := [16, 6, 167, 0, 4, 2, 172]
abbrev dktX5_leafOf_4 : List UInt8 := dkwX5_leafOf_4 ++ []
def dkwX5_leafOf_3 : List UInt8 := [42, 20, 0, 145, 182, 0, 206, 153, 0, 7, 8, 167, 0, 19, 42, 20, 0, 147, 182, 0, 206, 153, 0, 8]
abbrev dktX5_leafOf_3 : List UInt8 := dkwX5_leafOf_3 ++ dktX5_leafOf_4
def dkwX5_leafOf_2 : List UInt8 := [182, 0, 206, 153, 0, 7, 6, 167, 0, 47, 42, 20, 0, 143, 182, 0, 206, 153, 0, 7, 7, 167, 0, 33]
abbrev dktX5_leafOf_2 : List UInt8 := dkwX5_leafOf_2 ++ dktX5_leafOf_3
def dkwX5_leafOf_1 : List UInt8 := [4, 167, 0, 75, 42, 20, 0, 139, 182, 0, 206, 153, 0, 7, 5, 167, 0, 61, 42, 20, 0, 141]
abbrev dktX5_leafOf_1 : List UInt8 := dkwX5_leafOf_1 ++ dktX5_leafOf_2
def dkwX5_leafOf_0 : List UInt8 := [42, 20, 0, 135, 182, 0, 206, 153, 0, 7, 3, 167, 0, 89, 42, 20, 0, 137, 182, 0, 206, 153, 0, 7]
abbrev dktX5_leafOf_0 : List UInt8 := dkwX5_leafOf_0 ++ dktX5_leafOf_1
theorem dksX5_leafOf_0 : cX5_leafOf.data.toList.drop 0 = dktX5_leafOf_0 := by decide +kernel
theorem dksX5_leafOf_1 : cX5_leafOf.data.toList.drop 24 = dktX5_leafOf_1 := dk_seg dksX5_leafOf_0 24 rfl rfl
theorem dksX5_leafOf_2 : cX5_leafOf.data.toList.drop 46 = dktX5_leafOf_2 := dk_seg dksX5_leafOf_1 22 rfl rfl
theorem dksX5_leafOf_3 : cX5_leafOf.data.toList.drop 70 = dktX5_leafOf_3 := dk_seg dksX5_leafOf_2 24 rfl rfl
theorem dksX5_leafOf_4 : cX5_leafOf.data.toList.drop 94 = dktX5_leafOf_4 := dk_seg dksX5_leafOf_3 24 rfl rfl
theorem dX5_leafOf_0 : decode cX5_leafOf 0 = .ok (.aload_n 0, 1) := dk_42 (dk_at dksX5_leafOf_0 0 rfl rfl)
theorem dX5_leafOf_1 : decode cX5_leafOf 1 = .ok (.ldc2_w 135, 3) := dk_20 0 135 (dk_at dksX5_leafOf_0 1 rfl rfl)
theorem dX5_leafOf_4 : decode cX5_leafOf 4 = .ok (.invokevirtual 206, 3) := dk_182 0 206 (dk_at dksX5_leafOf_0 4 rfl rfl)
theorem dX5_leafOf_7 : decode cX5_leafOf 7 = .ok (.ifCond .eq 7, 3) := dk_153 0 7 (dk_at dksX5_leafOf_0 7 rfl rfl)
theorem dX5_leafOf_10 : decode cX5_leafOf 10 = .ok (.iconst 0, 1) := dk_3 (dk_at dksX5_leafOf_0 10 rfl rfl)
theorem dX5_leafOf_11 : decode cX5_leafOf 11 = .ok (.goto 89, 3) := dk_167 0 89 (dk_at dksX5_leafOf_0 11 rfl rfl)
theorem dX5_leafOf_14 : decode cX5_leafOf 14 = .ok (.aload_n 0, 1) := dk_42 (dk_at dksX5_leafOf_0 14 rfl rfl)
theorem dX5_leafOf_15 : decode cX5_leafOf 15 = .ok (.ldc2_w 137, 3) := dk_20 0 137 (dk_at dksX5_leafOf_0 15 rfl rfl)
theorem dX5_leafOf_18 : decode cX5_leafOf 18 = .ok (.invokevirtual 206, 3) := dk_182 0 206 (dk_at dksX5_leafOf_0 18 rfl rfl)
theorem dX5_leafOf_21 : decode cX5_leafOf 21 = .ok (.ifCond .eq 7, 3) := dk_153 0 7 (dk_at dksX5_leafOf_0 21 rfl rfl)
theorem dX5_leafOf_24 : decode cX5_leafOf 24 = .ok (.iconst 1, 1) := dk_4 (dk_at dksX5_leafOf_1 0 rfl rfl)
theorem dX5_leafOf_25 : decode cX5_leafOf 25 = .ok (.goto 75, 3) := dk_167 0 75 (dk_at dksX5_leafOf_1 1 rfl rfl)
theorem dX5_leafOf_28 : decode cX5_leafOf 28 = .ok (.aload_n 0, 1) := dk_42 (dk_at dksX5_leafOf_1 4 rfl rfl)
theorem dX5_leafOf_29 : decode cX5_leafOf 29 = .ok (.ldc2_w 139, 3) := dk_20 0 139 (dk_at dksX5_leafOf_1 5 rfl rfl)
theorem dX5_leafOf_32 : decode cX5_leafOf 32 = .ok (.invokevirtual 206, 3) := dk_182 0 206 (dk_at dksX5_leafOf_1 8 rfl rfl)
theorem dX5_leafOf_35 : decode cX5_leafOf 35 = .ok (.ifCond .eq 7, 3) := dk_153 0 7 (dk_at dksX5_leafOf_1 11 rfl rfl)
theorem dX5_leafOf_38 : decode cX5_leafOf 38 = .ok (.iconst 2, 1) := dk_5 (dk_at dksX5_leafOf_1 14 rfl rfl)
theorem dX5_leafOf_39 : decode cX5_leafOf 39 = .ok (.goto 61, 3) := dk_167 0 61 (dk_at dksX5_leafOf_1 15 rfl rfl)
theorem dX5_leafOf_42 : decode cX5_leafOf 42 = .ok (.aload_n 0, 1) := dk_42 (dk_at dksX5_leafOf_1 18 rfl rfl)
theorem dX5_leafOf_43 : decode cX5_leafOf 43 = .ok (.ldc2_w 141, 3) := dk_20 0 141 (dk_at dksX5_leafOf_1 19 rfl rfl)
theorem dX5_leafOf_46 : decode cX5_leafOf 46 = .ok (.invokevirtual 206, 3) := dk_182 0 206 (dk_at dksX5_leafOf_2 0 rfl rfl)
theorem dX5_leafOf_49 : decode cX5_leafOf 49 = .ok (.ifCond .eq 7, 3) := dk_153 0 7 (dk_at dksX5_leafOf_2 3 rfl rfl)
theorem dX5_leafOf_52 : decode cX5_leafOf 52 = .ok (.iconst 3, 1) := dk_6 (dk_at dksX5_leafOf_2 6 rfl rfl)
theorem dX5_leafOf_53 : decode cX5_leafOf 53 = .ok (.goto 47, 3) := dk_167 0 47 (dk_at dksX5_leafOf_2 7 rfl rfl)
theorem dX5_leafOf_56 : decode cX5_leafOf 56 = .ok (.aload_n 0, 1) := dk_42 (dk_at dksX5_leafOf_2 10 rfl rfl)
theorem dX5_leafOf_57 : decode cX5_leafOf 57 = .ok (.ldc2_w 143, 3) := dk_20 0 143 (dk_at dksX5_leafOf_2 11 rfl rfl)
theorem dX5_leafOf_60 : decode cX5_leafOf 60 = .ok (.invokevirtual 206, 3) := dk_182 0 206 (dk_at dksX5_leafOf_2 14 rfl rfl)
theorem dX5_leafOf_63 : decode cX5_leafOf 63 = .ok (.ifCond .eq 7, 3) := dk_153 0 7 (dk_at dksX5_leafOf_2 17 rfl rfl)
theorem dX5_leafOf_66 : decode cX5_leafOf 66 = .ok (.iconst 4, 1) := dk_7 (dk_at dksX5_leafOf_2 20 rfl rfl)
theorem dX5_leafOf_67 : decode cX5_leafOf 67 = .ok (.goto 33, 3) := dk_167 0 33 (dk_at dksX5_leafOf_2 21 rfl rfl)
theorem dX5_leafOf_70 : decode cX5_leafOf 70 = .ok (.aload_n 0, 1) := dk_42 (dk_at dksX5_leafOf_3 0 rfl rfl)
theorem dX5_leafOf_71 : decode cX5_leafOf 71 = .ok (.ldc2_w 145, 3) := dk_20 0 145 (dk_at dksX5_leafOf_3 1 rfl rfl)
theorem dX5_leafOf_74 : decode cX5_leafOf 74 = .ok (.invokevirtual 206, 3) := dk_182 0 206 (dk_at dksX5_leafOf_3 4 rfl rfl)
theorem dX5_leafOf_77 : decode cX5_leafOf 77 = .ok (.ifCond .eq 7, 3) := dk_153 0 7 (dk_at dksX5_leafOf_3 7 rfl rfl)
theorem dX5_leafOf_80 : decode cX5_leafOf 80 = .ok (.iconst 5, 1) := dk_8 (dk_at dksX5_leafOf_3 10 rfl rfl)
theorem dX5_leafOf_81 : decode cX5_leafOf 81 = .ok (.goto 19, 3) := dk_167 0 19 (dk_at dksX5_leafOf_3 11 rfl rfl)
theorem dX5_leafOf_84 : decode cX5_leafOf 84 = .ok (.aload_n 0, 1) := dk_42 (dk_at dksX5_leafOf_3 14 rfl rfl)
theorem dX5_leafOf_85 : decode cX5_leafOf 85 = .ok (.ldc2_w 147, 3) := dk_20 0 147 (dk_at dksX5_leafOf_3 15 rfl rfl)
theorem dX5_leafOf_88 : decode cX5_leafOf 88 = .ok (.invokevirtual 206, 3) := dk_182 0 206 (dk_at dksX5_leafOf_3 18 rfl rfl)
theorem dX5_leafOf_91 : decode cX5_leafOf 91 = .ok (.ifCond .eq 8, 3) := dk_153 0 8 (dk_at dksX5_leafOf_3 21 rfl rfl)
theorem dX5_leafOf_94 : decode cX5_leafOf 94 = .ok (.bipush 6, 2) := dk_16 6 (dk_at dksX5_leafOf_4 0 rfl rfl)
theorem dX5_leafOf_96 : decode cX5_leafOf 96 = .ok (.goto 4, 3) := dk_167 0 4 (dk_at dksX5_leafOf_4 2 rfl rfl)
theorem dX5_leafOf_99 : decode cX5_leafOf 99 = .ok (.iconst (-1), 1) := dk_2 (dk_at dksX5_leafOf_4 5 rfl rfl)
theorem dX5_leafOf_100 : decode cX5_leafOf 100 = .ok (.ireturn, 1) := dk_172 (dk_at dksX5_leafOf_4 6 rfl rfl)
abbrev cX5_said : ByteArray := prog_19_method_99_code
def yX5_said : MethodName := ⟨RX5, "said", "(I)I"⟩
def dkwX5_said_3 : List UInt8 := [167, 0, 4, 2, 172]
abbrev dktX5_said_3 : List UInt8 := dkwX5_said_3 ++ []
def dkwX5_said_2 : List UInt8 := [28, 27, 160, 0, 5, 29, 172, 132, 2, 1, 132, 3, 1, 167, 255, 222, 27, 2, 160, 0, 7, 28]
abbrev dktX5_said_2 : List UInt8 := dkwX5_said_2 ++ dktX5_said_3
def dkwX5_said_1 : List UInt8 := [61, 3, 62, 29, 42, 180, 0, 33, 5, 46, 162, 0, 30, 42, 29, 182, 1, 177, 154, 0, 6, 167, 0, 13]
abbrev dktX5_said_1 : List UInt8 := dkwX5_said_1 ++ dktX5_said_2
def dkwX5_said_0 : List UInt8 := [42, 3, 181, 0, 1, 42, 180, 0, 33, 17, 39, 100, 46, 153, 0, 8, 27, 2, 162, 0, 5, 2, 172, 3]
abbrev dktX5_said_0 : List UInt8 := dkwX5_said_0 ++ dktX5_said_1
theorem dksX5_said_0 : cX5_said.data.toList.drop 0 = dktX5_said_0 := by decide +kernel
theorem dksX5_said_1 : cX5_said.data.toList.drop 24 = dktX5_said_1 := dk_seg dksX5_said_0 24 rfl rfl
theorem dksX5_said_2 : cX5_said.data.toList.drop 48 = dktX5_said_2 := dk_seg dksX5_said_1 24 rfl rfl
theorem dksX5_said_3 : cX5_said.data.toList.drop 70 = dktX5_said_3 := dk_seg dksX5_said_2 22 rfl rfl
theorem dX5_said_0 : decode cX5_said 0 = .ok (.aload_n 0, 1) := dk_42 (dk_at dksX5_said_0 0 rfl rfl)
theorem dX5_said_1 : decode cX5_said 1 = .ok (.iconst 0, 1) := dk_3 (dk_at dksX5_said_0 1 rfl rfl)
theorem dX5_said_2 : decode cX5_said 2 = .ok (.putfield 1, 3) := dk_181 0 1 (dk_at dksX5_said_0 2 rfl rfl)
theorem dX5_said_5 : decode cX5_said 5 = .ok (.aload_n 0, 1) := dk_42 (dk_at dksX5_said_0 5 rfl rfl)
theorem dX5_said_6 : decode cX5_said 6 = .ok (.getfield 33, 3) := dk_180 0 33 (dk_at dksX5_said_0 6 rfl rfl)
theorem dX5_said_9 : decode cX5_said 9 = .ok (.sipush 10084, 3) := dk_17 39 100 (dk_at dksX5_said_0 9 rfl rfl)
theorem dX5_said_12 : decode cX5_said 12 = .ok (.iaload, 1) := dk_46 (dk_at dksX5_said_0 12 rfl rfl)
theorem dX5_said_13 : decode cX5_said 13 = .ok (.ifCond .eq 8, 3) := dk_153 0 8 (dk_at dksX5_said_0 13 rfl rfl)
theorem dX5_said_16 : decode cX5_said 16 = .ok (.iload_n 1, 1) := dk_27 (dk_at dksX5_said_0 16 rfl rfl)
theorem dX5_said_17 : decode cX5_said 17 = .ok (.iconst (-1), 1) := dk_2 (dk_at dksX5_said_0 17 rfl rfl)
theorem dX5_said_18 : decode cX5_said 18 = .ok (.if_icmp .ge 5, 3) := dk_162 0 5 (dk_at dksX5_said_0 18 rfl rfl)
theorem dX5_said_21 : decode cX5_said 21 = .ok (.iconst (-1), 1) := dk_2 (dk_at dksX5_said_0 21 rfl rfl)
theorem dX5_said_22 : decode cX5_said 22 = .ok (.ireturn, 1) := dk_172 (dk_at dksX5_said_0 22 rfl rfl)
theorem dX5_said_23 : decode cX5_said 23 = .ok (.iconst 0, 1) := dk_3 (dk_at dksX5_said_0 23 rfl rfl)
theorem dX5_said_24 : decode cX5_said 24 = .ok (.istore_n 2, 1) := dk_61 (dk_at dksX5_said_1 0 rfl rfl)
theorem dX5_said_25 : decode cX5_said 25 = .ok (.iconst 0, 1) := dk_3 (dk_at dksX5_said_1 1 rfl rfl)
theorem dX5_said_26 : decode cX5_said 26 = .ok (.istore_n 3, 1) := dk_62 (dk_at dksX5_said_1 2 rfl rfl)
theorem dX5_said_27 : decode cX5_said 27 = .ok (.iload_n 3, 1) := dk_29 (dk_at dksX5_said_1 3 rfl rfl)
theorem dX5_said_28 : decode cX5_said 28 = .ok (.aload_n 0, 1) := dk_42 (dk_at dksX5_said_1 4 rfl rfl)
theorem dX5_said_29 : decode cX5_said 29 = .ok (.getfield 33, 3) := dk_180 0 33 (dk_at dksX5_said_1 5 rfl rfl)
theorem dX5_said_32 : decode cX5_said 32 = .ok (.iconst 2, 1) := dk_5 (dk_at dksX5_said_1 8 rfl rfl)
theorem dX5_said_33 : decode cX5_said 33 = .ok (.iaload, 1) := dk_46 (dk_at dksX5_said_1 9 rfl rfl)
theorem dX5_said_34 : decode cX5_said 34 = .ok (.if_icmp .ge 30, 3) := dk_162 0 30 (dk_at dksX5_said_1 10 rfl rfl)
theorem dX5_said_37 : decode cX5_said 37 = .ok (.aload_n 0, 1) := dk_42 (dk_at dksX5_said_1 13 rfl rfl)
theorem dX5_said_38 : decode cX5_said 38 = .ok (.iload_n 3, 1) := dk_29 (dk_at dksX5_said_1 14 rfl rfl)
theorem dX5_said_39 : decode cX5_said 39 = .ok (.invokevirtual 433, 3) := dk_182 1 177 (dk_at dksX5_said_1 15 rfl rfl)
theorem dX5_said_42 : decode cX5_said 42 = .ok (.ifCond .ne 6, 3) := dk_154 0 6 (dk_at dksX5_said_1 18 rfl rfl)
theorem dX5_said_45 : decode cX5_said 45 = .ok (.goto 13, 3) := dk_167 0 13 (dk_at dksX5_said_1 21 rfl rfl)
theorem dX5_said_48 : decode cX5_said 48 = .ok (.iload_n 2, 1) := dk_28 (dk_at dksX5_said_2 0 rfl rfl)
theorem dX5_said_49 : decode cX5_said 49 = .ok (.iload_n 1, 1) := dk_27 (dk_at dksX5_said_2 1 rfl rfl)
theorem dX5_said_50 : decode cX5_said 50 = .ok (.if_icmp .ne 5, 3) := dk_160 0 5 (dk_at dksX5_said_2 2 rfl rfl)
theorem dX5_said_53 : decode cX5_said 53 = .ok (.iload_n 3, 1) := dk_29 (dk_at dksX5_said_2 5 rfl rfl)
theorem dX5_said_54 : decode cX5_said 54 = .ok (.ireturn, 1) := dk_172 (dk_at dksX5_said_2 6 rfl rfl)
theorem dX5_said_55 : decode cX5_said 55 = .ok (.iinc 2 1, 3) := dk_132 2 1 (dk_at dksX5_said_2 7 rfl rfl)
theorem dX5_said_58 : decode cX5_said 58 = .ok (.iinc 3 1, 3) := dk_132 3 1 (dk_at dksX5_said_2 10 rfl rfl)
theorem dX5_said_61 : decode cX5_said 61 = .ok (.goto (-34), 3) := dk_167 255 222 (dk_at dksX5_said_2 13 rfl rfl)
theorem dX5_said_64 : decode cX5_said 64 = .ok (.iload_n 1, 1) := dk_27 (dk_at dksX5_said_2 16 rfl rfl)
theorem dX5_said_65 : decode cX5_said 65 = .ok (.iconst (-1), 1) := dk_2 (dk_at dksX5_said_2 17 rfl rfl)
theorem dX5_said_66 : decode cX5_said 66 = .ok (.if_icmp .ne 7, 3) := dk_160 0 7 (dk_at dksX5_said_2 18 rfl rfl)
theorem dX5_said_69 : decode cX5_said 69 = .ok (.iload_n 2, 1) := dk_28 (dk_at dksX5_said_2 21 rfl rfl)
theorem dX5_said_70 : decode cX5_said 70 = .ok (.goto 4, 3) := dk_167 0 4 (dk_at dksX5_said_3 0 rfl rfl)
theorem dX5_said_73 : decode cX5_said 73 = .ok (.iconst (-1), 1) := dk_2 (dk_at dksX5_said_3 3 rfl rfl)
theorem dX5_said_74 : decode cX5_said 74 = .ok (.ireturn, 1) := dk_172 (dk_at dksX5_said_3 4 rfl rfl)
abbrev cX5_isSaid : ByteArray := prog_19_method_98_code
def yX5_isSaid : MethodName := ⟨RX5, "isSaid", "(I)Z"⟩
def dkwX5_isSaid_9 : List UInt8 := [167, 255, 51, 42, 180, 0, 97, 3, 51, 172]
abbrev dktX5_isSaid_9 : List UInt8 := dkwX5_isSaid_9 ++ []
def dkwX5_isSaid_8 : List UInt8 := [4, 96, 46, 42, 180, 0, 33, 21, 4, 5, 96, 46, 182, 1, 173, 84, 132, 2, 1, 132, 3, 1]
abbrev dktX5_isSaid_8 : List UInt8 := dkwX5_isSaid_8 ++ dktX5_isSaid_9
def dkwX5_isSaid_7 : List UInt8 := [84, 167, 0, 42, 42, 180, 0, 97, 28, 42, 27, 42, 180, 0, 33, 21, 4, 46, 42, 180, 0, 33, 21, 4]
abbrev dktX5_isSaid_7 : List UInt8 := dkwX5_isSaid_7 ++ dktX5_isSaid_8
def dkwX5_isSaid_6 : List UInt8 := [180, 0, 97, 28, 4, 100, 51, 154, 0, 12, 42, 180, 0, 97, 28, 51, 153, 0, 7, 4, 167, 0, 4, 3]
abbrev dktX5_isSaid_6 : List UInt8 := dkwX5_isSaid_6 ++ dktX5_isSaid_7
def dkwX5_isSaid_5 : List UInt8 := [100, 51, 153, 0, 16, 42, 180, 0, 97, 28, 51, 153, 0, 7, 4, 167, 0, 32, 3, 167, 0, 28, 42]
abbrev dktX5_isSaid_5 : List UInt8 := dkwX5_isSaid_5 ++ dktX5_isSaid_6
def dkwX5_isSaid_4 : List UInt8 := [180, 0, 97, 28, 4, 100, 42, 180, 0, 33, 21, 4, 46, 16, 11, 160, 0, 31, 42, 180, 0, 97, 28, 4]
abbrev dktX5_isSaid_4 : List UInt8 := dkwX5_isSaid_4 ++ dktX5_isSaid_5
def dkwX5_isSaid_3 : List UInt8 := [21, 4, 46, 16, 11, 159, 0, 15, 42, 180, 0, 33, 21, 4, 46, 16, 12, 160, 0, 82, 132, 2, 255, 42]
abbrev dktX5_isSaid_3 : List UInt8 := dkwX5_isSaid_3 ++ dktX5_isSaid_4
def dkwX5_isSaid_2 : List UInt8 := [180, 0, 97, 28, 4, 100, 51, 154, 0, 7, 4, 167, 0, 4, 3, 84, 167, 0, 145, 42, 180, 0, 33]
abbrev dktX5_isSaid_2 : List UInt8 := dkwX5_isSaid_2 ++ dktX5_isSaid_3
def dkwX5_isSaid_1 : List UInt8 := [54, 4, 42, 180, 0, 33, 21, 4, 46, 16, 10, 160, 0, 30, 42, 180, 0, 97, 28, 4, 100, 42]
abbrev dktX5_isSaid_1 : List UInt8 := dkwX5_isSaid_1 ++ dktX5_isSaid_2
def dkwX5_isSaid_0 : List UInt8 := [3, 61, 3, 62, 29, 42, 180, 0, 33, 17, 39, 100, 46, 162, 0, 199, 17, 39, 101, 6, 29, 104, 96]
abbrev dktX5_isSaid_0 : List UInt8 := dkwX5_isSaid_0 ++ dktX5_isSaid_1
theorem dksX5_isSaid_0 : cX5_isSaid.data.toList.drop 0 = dktX5_isSaid_0 := by decide +kernel
theorem dksX5_isSaid_1 : cX5_isSaid.data.toList.drop 23 = dktX5_isSaid_1 := dk_seg dksX5_isSaid_0 23 rfl rfl
theorem dksX5_isSaid_2 : cX5_isSaid.data.toList.drop 45 = dktX5_isSaid_2 := dk_seg dksX5_isSaid_1 22 rfl rfl
theorem dksX5_isSaid_3 : cX5_isSaid.data.toList.drop 68 = dktX5_isSaid_3 := dk_seg dksX5_isSaid_2 23 rfl rfl
theorem dksX5_isSaid_4 : cX5_isSaid.data.toList.drop 92 = dktX5_isSaid_4 := dk_seg dksX5_isSaid_3 24 rfl rfl
theorem dksX5_isSaid_5 : cX5_isSaid.data.toList.drop 116 = dktX5_isSaid_5 := dk_seg dksX5_isSaid_4 24 rfl rfl
theorem dksX5_isSaid_6 : cX5_isSaid.data.toList.drop 139 = dktX5_isSaid_6 := dk_seg dksX5_isSaid_5 23 rfl rfl
theorem dksX5_isSaid_7 : cX5_isSaid.data.toList.drop 163 = dktX5_isSaid_7 := dk_seg dksX5_isSaid_6 24 rfl rfl
theorem dksX5_isSaid_8 : cX5_isSaid.data.toList.drop 187 = dktX5_isSaid_8 := dk_seg dksX5_isSaid_7 24 rfl rfl
theorem dksX5_isSaid_9 : cX5_isSaid.data.toList.drop 209 = dktX5_isSaid_9 := dk_seg dksX5_isSaid_8 22 rfl rfl
theorem dX5_isSaid_0 : decode cX5_isSaid 0 = .ok (.iconst 0, 1) := dk_3 (dk_at dksX5_isSaid_0 0 rfl rfl)
theorem dX5_isSaid_1 : decode cX5_isSaid 1 = .ok (.istore_n 2, 1) := dk_61 (dk_at dksX5_isSaid_0 1 rfl rfl)
theorem dX5_isSaid_2 : decode cX5_isSaid 2 = .ok (.iconst 0, 1) := dk_3 (dk_at dksX5_isSaid_0 2 rfl rfl)
theorem dX5_isSaid_3 : decode cX5_isSaid 3 = .ok (.istore_n 3, 1) := dk_62 (dk_at dksX5_isSaid_0 3 rfl rfl)
theorem dX5_isSaid_4 : decode cX5_isSaid 4 = .ok (.iload_n 3, 1) := dk_29 (dk_at dksX5_isSaid_0 4 rfl rfl)
theorem dX5_isSaid_5 : decode cX5_isSaid 5 = .ok (.aload_n 0, 1) := dk_42 (dk_at dksX5_isSaid_0 5 rfl rfl)
theorem dX5_isSaid_6 : decode cX5_isSaid 6 = .ok (.getfield 33, 3) := dk_180 0 33 (dk_at dksX5_isSaid_0 6 rfl rfl)
theorem dX5_isSaid_9 : decode cX5_isSaid 9 = .ok (.sipush 10084, 3) := dk_17 39 100 (dk_at dksX5_isSaid_0 9 rfl rfl)
theorem dX5_isSaid_12 : decode cX5_isSaid 12 = .ok (.iaload, 1) := dk_46 (dk_at dksX5_isSaid_0 12 rfl rfl)
theorem dX5_isSaid_13 : decode cX5_isSaid 13 = .ok (.if_icmp .ge 199, 3) := dk_162 0 199 (dk_at dksX5_isSaid_0 13 rfl rfl)
theorem dX5_isSaid_16 : decode cX5_isSaid 16 = .ok (.sipush 10085, 3) := dk_17 39 101 (dk_at dksX5_isSaid_0 16 rfl rfl)
theorem dX5_isSaid_19 : decode cX5_isSaid 19 = .ok (.iconst 3, 1) := dk_6 (dk_at dksX5_isSaid_0 19 rfl rfl)
theorem dX5_isSaid_20 : decode cX5_isSaid 20 = .ok (.iload_n 3, 1) := dk_29 (dk_at dksX5_isSaid_0 20 rfl rfl)
theorem dX5_isSaid_21 : decode cX5_isSaid 21 = .ok (.imul, 1) := dk_104 (dk_at dksX5_isSaid_0 21 rfl rfl)
theorem dX5_isSaid_22 : decode cX5_isSaid 22 = .ok (.iadd, 1) := dk_96 (dk_at dksX5_isSaid_0 22 rfl rfl)
theorem dX5_isSaid_23 : decode cX5_isSaid 23 = .ok (.istore 4, 2) := dk_54 4 (dk_at dksX5_isSaid_1 0 rfl rfl)
theorem dX5_isSaid_25 : decode cX5_isSaid 25 = .ok (.aload_n 0, 1) := dk_42 (dk_at dksX5_isSaid_1 2 rfl rfl)
theorem dX5_isSaid_26 : decode cX5_isSaid 26 = .ok (.getfield 33, 3) := dk_180 0 33 (dk_at dksX5_isSaid_1 3 rfl rfl)
theorem dX5_isSaid_29 : decode cX5_isSaid 29 = .ok (.iload 4, 2) := dk_21 4 (dk_at dksX5_isSaid_1 6 rfl rfl)
theorem dX5_isSaid_31 : decode cX5_isSaid 31 = .ok (.iaload, 1) := dk_46 (dk_at dksX5_isSaid_1 8 rfl rfl)
theorem dX5_isSaid_32 : decode cX5_isSaid 32 = .ok (.bipush 10, 2) := dk_16 10 (dk_at dksX5_isSaid_1 9 rfl rfl)
theorem dX5_isSaid_34 : decode cX5_isSaid 34 = .ok (.if_icmp .ne 30, 3) := dk_160 0 30 (dk_at dksX5_isSaid_1 11 rfl rfl)
theorem dX5_isSaid_37 : decode cX5_isSaid 37 = .ok (.aload_n 0, 1) := dk_42 (dk_at dksX5_isSaid_1 14 rfl rfl)
theorem dX5_isSaid_38 : decode cX5_isSaid 38 = .ok (.getfield 97, 3) := dk_180 0 97 (dk_at dksX5_isSaid_1 15 rfl rfl)
theorem dX5_isSaid_41 : decode cX5_isSaid 41 = .ok (.iload_n 2, 1) := dk_28 (dk_at dksX5_isSaid_1 18 rfl rfl)
theorem dX5_isSaid_42 : decode cX5_isSaid 42 = .ok (.iconst 1, 1) := dk_4 (dk_at dksX5_isSaid_1 19 rfl rfl)
theorem dX5_isSaid_43 : decode cX5_isSaid 43 = .ok (.isub, 1) := dk_100 (dk_at dksX5_isSaid_1 20 rfl rfl)
theorem dX5_isSaid_44 : decode cX5_isSaid 44 = .ok (.aload_n 0, 1) := dk_42 (dk_at dksX5_isSaid_1 21 rfl rfl)
theorem dX5_isSaid_45 : decode cX5_isSaid 45 = .ok (.getfield 97, 3) := dk_180 0 97 (dk_at dksX5_isSaid_2 0 rfl rfl)
theorem dX5_isSaid_48 : decode cX5_isSaid 48 = .ok (.iload_n 2, 1) := dk_28 (dk_at dksX5_isSaid_2 3 rfl rfl)
theorem dX5_isSaid_49 : decode cX5_isSaid 49 = .ok (.iconst 1, 1) := dk_4 (dk_at dksX5_isSaid_2 4 rfl rfl)
theorem dX5_isSaid_50 : decode cX5_isSaid 50 = .ok (.isub, 1) := dk_100 (dk_at dksX5_isSaid_2 5 rfl rfl)
theorem dX5_isSaid_51 : decode cX5_isSaid 51 = .ok (.baload, 1) := dk_51 (dk_at dksX5_isSaid_2 6 rfl rfl)
theorem dX5_isSaid_52 : decode cX5_isSaid 52 = .ok (.ifCond .ne 7, 3) := dk_154 0 7 (dk_at dksX5_isSaid_2 7 rfl rfl)
theorem dX5_isSaid_55 : decode cX5_isSaid 55 = .ok (.iconst 1, 1) := dk_4 (dk_at dksX5_isSaid_2 10 rfl rfl)
theorem dX5_isSaid_56 : decode cX5_isSaid 56 = .ok (.goto 4, 3) := dk_167 0 4 (dk_at dksX5_isSaid_2 11 rfl rfl)
theorem dX5_isSaid_59 : decode cX5_isSaid 59 = .ok (.iconst 0, 1) := dk_3 (dk_at dksX5_isSaid_2 14 rfl rfl)
theorem dX5_isSaid_60 : decode cX5_isSaid 60 = .ok (.bastore, 1) := dk_84 (dk_at dksX5_isSaid_2 15 rfl rfl)
theorem dX5_isSaid_61 : decode cX5_isSaid 61 = .ok (.goto 145, 3) := dk_167 0 145 (dk_at dksX5_isSaid_2 16 rfl rfl)
theorem dX5_isSaid_64 : decode cX5_isSaid 64 = .ok (.aload_n 0, 1) := dk_42 (dk_at dksX5_isSaid_2 19 rfl rfl)
theorem dX5_isSaid_65 : decode cX5_isSaid 65 = .ok (.getfield 33, 3) := dk_180 0 33 (dk_at dksX5_isSaid_2 20 rfl rfl)
theorem dX5_isSaid_68 : decode cX5_isSaid 68 = .ok (.iload 4, 2) := dk_21 4 (dk_at dksX5_isSaid_3 0 rfl rfl)
theorem dX5_isSaid_70 : decode cX5_isSaid 70 = .ok (.iaload, 1) := dk_46 (dk_at dksX5_isSaid_3 2 rfl rfl)
theorem dX5_isSaid_71 : decode cX5_isSaid 71 = .ok (.bipush 11, 2) := dk_16 11 (dk_at dksX5_isSaid_3 3 rfl rfl)
theorem dX5_isSaid_73 : decode cX5_isSaid 73 = .ok (.if_icmp .eq 15, 3) := dk_159 0 15 (dk_at dksX5_isSaid_3 5 rfl rfl)
theorem dX5_isSaid_76 : decode cX5_isSaid 76 = .ok (.aload_n 0, 1) := dk_42 (dk_at dksX5_isSaid_3 8 rfl rfl)
theorem dX5_isSaid_77 : decode cX5_isSaid 77 = .ok (.getfield 33, 3) := dk_180 0 33 (dk_at dksX5_isSaid_3 9 rfl rfl)
theorem dX5_isSaid_80 : decode cX5_isSaid 80 = .ok (.iload 4, 2) := dk_21 4 (dk_at dksX5_isSaid_3 12 rfl rfl)
theorem dX5_isSaid_82 : decode cX5_isSaid 82 = .ok (.iaload, 1) := dk_46 (dk_at dksX5_isSaid_3 14 rfl rfl)
theorem dX5_isSaid_83 : decode cX5_isSaid 83 = .ok (.bipush 12, 2) := dk_16 12 (dk_at dksX5_isSaid_3 15 rfl rfl)
theorem dX5_isSaid_85 : decode cX5_isSaid 85 = .ok (.if_icmp .ne 82, 3) := dk_160 0 82 (dk_at dksX5_isSaid_3 17 rfl rfl)
theorem dX5_isSaid_88 : decode cX5_isSaid 88 = .ok (.iinc 2 (-1), 3) := dk_132 2 255 (dk_at dksX5_isSaid_3 20 rfl rfl)
theorem dX5_isSaid_91 : decode cX5_isSaid 91 = .ok (.aload_n 0, 1) := dk_42 (dk_at dksX5_isSaid_3 23 rfl rfl)
theorem dX5_isSaid_92 : decode cX5_isSaid 92 = .ok (.getfield 97, 3) := dk_180 0 97 (dk_at dksX5_isSaid_4 0 rfl rfl)
theorem dX5_isSaid_95 : decode cX5_isSaid 95 = .ok (.iload_n 2, 1) := dk_28 (dk_at dksX5_isSaid_4 3 rfl rfl)
theorem dX5_isSaid_96 : decode cX5_isSaid 96 = .ok (.iconst 1, 1) := dk_4 (dk_at dksX5_isSaid_4 4 rfl rfl)
theorem dX5_isSaid_97 : decode cX5_isSaid 97 = .ok (.isub, 1) := dk_100 (dk_at dksX5_isSaid_4 5 rfl rfl)
theorem dX5_isSaid_98 : decode cX5_isSaid 98 = .ok (.aload_n 0, 1) := dk_42 (dk_at dksX5_isSaid_4 6 rfl rfl)
theorem dX5_isSaid_99 : decode cX5_isSaid 99 = .ok (.getfield 33, 3) := dk_180 0 33 (dk_at dksX5_isSaid_4 7 rfl rfl)
theorem dX5_isSaid_102 : decode cX5_isSaid 102 = .ok (.iload 4, 2) := dk_21 4 (dk_at dksX5_isSaid_4 10 rfl rfl)
theorem dX5_isSaid_104 : decode cX5_isSaid 104 = .ok (.iaload, 1) := dk_46 (dk_at dksX5_isSaid_4 12 rfl rfl)
theorem dX5_isSaid_105 : decode cX5_isSaid 105 = .ok (.bipush 11, 2) := dk_16 11 (dk_at dksX5_isSaid_4 13 rfl rfl)
theorem dX5_isSaid_107 : decode cX5_isSaid 107 = .ok (.if_icmp .ne 31, 3) := dk_160 0 31 (dk_at dksX5_isSaid_4 15 rfl rfl)
theorem dX5_isSaid_110 : decode cX5_isSaid 110 = .ok (.aload_n 0, 1) := dk_42 (dk_at dksX5_isSaid_4 18 rfl rfl)
theorem dX5_isSaid_111 : decode cX5_isSaid 111 = .ok (.getfield 97, 3) := dk_180 0 97 (dk_at dksX5_isSaid_4 19 rfl rfl)
theorem dX5_isSaid_114 : decode cX5_isSaid 114 = .ok (.iload_n 2, 1) := dk_28 (dk_at dksX5_isSaid_4 22 rfl rfl)
theorem dX5_isSaid_115 : decode cX5_isSaid 115 = .ok (.iconst 1, 1) := dk_4 (dk_at dksX5_isSaid_4 23 rfl rfl)
theorem dX5_isSaid_116 : decode cX5_isSaid 116 = .ok (.isub, 1) := dk_100 (dk_at dksX5_isSaid_5 0 rfl rfl)
theorem dX5_isSaid_117 : decode cX5_isSaid 117 = .ok (.baload, 1) := dk_51 (dk_at dksX5_isSaid_5 1 rfl rfl)
theorem dX5_isSaid_118 : decode cX5_isSaid 118 = .ok (.ifCond .eq 16, 3) := dk_153 0 16 (dk_at dksX5_isSaid_5 2 rfl rfl)
theorem dX5_isSaid_121 : decode cX5_isSaid 121 = .ok (.aload_n 0, 1) := dk_42 (dk_at dksX5_isSaid_5 5 rfl rfl)
theorem dX5_isSaid_122 : decode cX5_isSaid 122 = .ok (.getfield 97, 3) := dk_180 0 97 (dk_at dksX5_isSaid_5 6 rfl rfl)
theorem dX5_isSaid_125 : decode cX5_isSaid 125 = .ok (.iload_n 2, 1) := dk_28 (dk_at dksX5_isSaid_5 9 rfl rfl)
theorem dX5_isSaid_126 : decode cX5_isSaid 126 = .ok (.baload, 1) := dk_51 (dk_at dksX5_isSaid_5 10 rfl rfl)
theorem dX5_isSaid_127 : decode cX5_isSaid 127 = .ok (.ifCond .eq 7, 3) := dk_153 0 7 (dk_at dksX5_isSaid_5 11 rfl rfl)
theorem dX5_isSaid_130 : decode cX5_isSaid 130 = .ok (.iconst 1, 1) := dk_4 (dk_at dksX5_isSaid_5 14 rfl rfl)
theorem dX5_isSaid_131 : decode cX5_isSaid 131 = .ok (.goto 32, 3) := dk_167 0 32 (dk_at dksX5_isSaid_5 15 rfl rfl)
theorem dX5_isSaid_134 : decode cX5_isSaid 134 = .ok (.iconst 0, 1) := dk_3 (dk_at dksX5_isSaid_5 18 rfl rfl)
theorem dX5_isSaid_135 : decode cX5_isSaid 135 = .ok (.goto 28, 3) := dk_167 0 28 (dk_at dksX5_isSaid_5 19 rfl rfl)
theorem dX5_isSaid_138 : decode cX5_isSaid 138 = .ok (.aload_n 0, 1) := dk_42 (dk_at dksX5_isSaid_5 22 rfl rfl)
theorem dX5_isSaid_139 : decode cX5_isSaid 139 = .ok (.getfield 97, 3) := dk_180 0 97 (dk_at dksX5_isSaid_6 0 rfl rfl)
theorem dX5_isSaid_142 : decode cX5_isSaid 142 = .ok (.iload_n 2, 1) := dk_28 (dk_at dksX5_isSaid_6 3 rfl rfl)
theorem dX5_isSaid_143 : decode cX5_isSaid 143 = .ok (.iconst 1, 1) := dk_4 (dk_at dksX5_isSaid_6 4 rfl rfl)
theorem dX5_isSaid_144 : decode cX5_isSaid 144 = .ok (.isub, 1) := dk_100 (dk_at dksX5_isSaid_6 5 rfl rfl)
theorem dX5_isSaid_145 : decode cX5_isSaid 145 = .ok (.baload, 1) := dk_51 (dk_at dksX5_isSaid_6 6 rfl rfl)
theorem dX5_isSaid_146 : decode cX5_isSaid 146 = .ok (.ifCond .ne 12, 3) := dk_154 0 12 (dk_at dksX5_isSaid_6 7 rfl rfl)
theorem dX5_isSaid_149 : decode cX5_isSaid 149 = .ok (.aload_n 0, 1) := dk_42 (dk_at dksX5_isSaid_6 10 rfl rfl)
theorem dX5_isSaid_150 : decode cX5_isSaid 150 = .ok (.getfield 97, 3) := dk_180 0 97 (dk_at dksX5_isSaid_6 11 rfl rfl)
theorem dX5_isSaid_153 : decode cX5_isSaid 153 = .ok (.iload_n 2, 1) := dk_28 (dk_at dksX5_isSaid_6 14 rfl rfl)
theorem dX5_isSaid_154 : decode cX5_isSaid 154 = .ok (.baload, 1) := dk_51 (dk_at dksX5_isSaid_6 15 rfl rfl)
theorem dX5_isSaid_155 : decode cX5_isSaid 155 = .ok (.ifCond .eq 7, 3) := dk_153 0 7 (dk_at dksX5_isSaid_6 16 rfl rfl)
theorem dX5_isSaid_158 : decode cX5_isSaid 158 = .ok (.iconst 1, 1) := dk_4 (dk_at dksX5_isSaid_6 19 rfl rfl)
theorem dX5_isSaid_159 : decode cX5_isSaid 159 = .ok (.goto 4, 3) := dk_167 0 4 (dk_at dksX5_isSaid_6 20 rfl rfl)
theorem dX5_isSaid_162 : decode cX5_isSaid 162 = .ok (.iconst 0, 1) := dk_3 (dk_at dksX5_isSaid_6 23 rfl rfl)
theorem dX5_isSaid_163 : decode cX5_isSaid 163 = .ok (.bastore, 1) := dk_84 (dk_at dksX5_isSaid_7 0 rfl rfl)
theorem dX5_isSaid_164 : decode cX5_isSaid 164 = .ok (.goto 42, 3) := dk_167 0 42 (dk_at dksX5_isSaid_7 1 rfl rfl)
theorem dX5_isSaid_167 : decode cX5_isSaid 167 = .ok (.aload_n 0, 1) := dk_42 (dk_at dksX5_isSaid_7 4 rfl rfl)
theorem dX5_isSaid_168 : decode cX5_isSaid 168 = .ok (.getfield 97, 3) := dk_180 0 97 (dk_at dksX5_isSaid_7 5 rfl rfl)
theorem dX5_isSaid_171 : decode cX5_isSaid 171 = .ok (.iload_n 2, 1) := dk_28 (dk_at dksX5_isSaid_7 8 rfl rfl)
theorem dX5_isSaid_172 : decode cX5_isSaid 172 = .ok (.aload_n 0, 1) := dk_42 (dk_at dksX5_isSaid_7 9 rfl rfl)
theorem dX5_isSaid_173 : decode cX5_isSaid 173 = .ok (.iload_n 1, 1) := dk_27 (dk_at dksX5_isSaid_7 10 rfl rfl)
theorem dX5_isSaid_174 : decode cX5_isSaid 174 = .ok (.aload_n 0, 1) := dk_42 (dk_at dksX5_isSaid_7 11 rfl rfl)
theorem dX5_isSaid_175 : decode cX5_isSaid 175 = .ok (.getfield 33, 3) := dk_180 0 33 (dk_at dksX5_isSaid_7 12 rfl rfl)
theorem dX5_isSaid_178 : decode cX5_isSaid 178 = .ok (.iload 4, 2) := dk_21 4 (dk_at dksX5_isSaid_7 15 rfl rfl)
theorem dX5_isSaid_180 : decode cX5_isSaid 180 = .ok (.iaload, 1) := dk_46 (dk_at dksX5_isSaid_7 17 rfl rfl)
theorem dX5_isSaid_181 : decode cX5_isSaid 181 = .ok (.aload_n 0, 1) := dk_42 (dk_at dksX5_isSaid_7 18 rfl rfl)
theorem dX5_isSaid_182 : decode cX5_isSaid 182 = .ok (.getfield 33, 3) := dk_180 0 33 (dk_at dksX5_isSaid_7 19 rfl rfl)
theorem dX5_isSaid_185 : decode cX5_isSaid 185 = .ok (.iload 4, 2) := dk_21 4 (dk_at dksX5_isSaid_7 22 rfl rfl)
theorem dX5_isSaid_187 : decode cX5_isSaid 187 = .ok (.iconst 1, 1) := dk_4 (dk_at dksX5_isSaid_8 0 rfl rfl)
theorem dX5_isSaid_188 : decode cX5_isSaid 188 = .ok (.iadd, 1) := dk_96 (dk_at dksX5_isSaid_8 1 rfl rfl)
theorem dX5_isSaid_189 : decode cX5_isSaid 189 = .ok (.iaload, 1) := dk_46 (dk_at dksX5_isSaid_8 2 rfl rfl)
theorem dX5_isSaid_190 : decode cX5_isSaid 190 = .ok (.aload_n 0, 1) := dk_42 (dk_at dksX5_isSaid_8 3 rfl rfl)
theorem dX5_isSaid_191 : decode cX5_isSaid 191 = .ok (.getfield 33, 3) := dk_180 0 33 (dk_at dksX5_isSaid_8 4 rfl rfl)
theorem dX5_isSaid_194 : decode cX5_isSaid 194 = .ok (.iload 4, 2) := dk_21 4 (dk_at dksX5_isSaid_8 7 rfl rfl)
theorem dX5_isSaid_196 : decode cX5_isSaid 196 = .ok (.iconst 2, 1) := dk_5 (dk_at dksX5_isSaid_8 9 rfl rfl)
theorem dX5_isSaid_197 : decode cX5_isSaid 197 = .ok (.iadd, 1) := dk_96 (dk_at dksX5_isSaid_8 10 rfl rfl)
theorem dX5_isSaid_198 : decode cX5_isSaid 198 = .ok (.iaload, 1) := dk_46 (dk_at dksX5_isSaid_8 11 rfl rfl)
theorem dX5_isSaid_199 : decode cX5_isSaid 199 = .ok (.invokevirtual 429, 3) := dk_182 1 173 (dk_at dksX5_isSaid_8 12 rfl rfl)
theorem dX5_isSaid_202 : decode cX5_isSaid 202 = .ok (.bastore, 1) := dk_84 (dk_at dksX5_isSaid_8 15 rfl rfl)
theorem dX5_isSaid_203 : decode cX5_isSaid 203 = .ok (.iinc 2 1, 3) := dk_132 2 1 (dk_at dksX5_isSaid_8 16 rfl rfl)
theorem dX5_isSaid_206 : decode cX5_isSaid 206 = .ok (.iinc 3 1, 3) := dk_132 3 1 (dk_at dksX5_isSaid_8 19 rfl rfl)
theorem dX5_isSaid_209 : decode cX5_isSaid 209 = .ok (.goto (-205), 3) := dk_167 255 51 (dk_at dksX5_isSaid_9 0 rfl rfl)
theorem dX5_isSaid_212 : decode cX5_isSaid 212 = .ok (.aload_n 0, 1) := dk_42 (dk_at dksX5_isSaid_9 3 rfl rfl)
theorem dX5_isSaid_213 : decode cX5_isSaid 213 = .ok (.getfield 97, 3) := dk_180 0 97 (dk_at dksX5_isSaid_9 4 rfl rfl)
theorem dX5_isSaid_216 : decode cX5_isSaid 216 = .ok (.iconst 0, 1) := dk_3 (dk_at dksX5_isSaid_9 7 rfl rfl)
theorem dX5_isSaid_217 : decode cX5_isSaid 217 = .ok (.baload, 1) := dk_51 (dk_at dksX5_isSaid_9 8 rfl rfl)
theorem dX5_isSaid_218 : decode cX5_isSaid 218 = .ok (.ireturn, 1) := dk_172 (dk_at dksX5_isSaid_9 9 rfl rfl)
abbrev cX5_isLeaf : ByteArray := prog_19_method_97_code
def yX5_isLeaf : MethodName := ⟨RX5, "isLeaf", "(IIII)Z"⟩
def dkwX5_isLeaf_3 : List UInt8 := [3, 167, 0, 15, 21, 5, 21, 4, 164, 0, 7, 4, 167, 0, 4, 3, 172]
abbrev dktX5_isLeaf_3 : List UInt8 := dkwX5_isLeaf_3 ++ []
def dkwX5_isLeaf_2 : List UInt8 := [167, 0, 40, 3, 167, 0, 36, 29, 16, 61, 160, 0, 18, 21, 5, 21, 4, 160, 0, 7, 4, 167, 0, 19]
abbrev dktX5_isLeaf_2 : List UInt8 := dkwX5_isLeaf_2 ++ dktX5_isLeaf_3
def dkwX5_isLeaf_1 : List UInt8 := [28, 4, 100, 182, 1, 170, 54, 5, 29, 16, 60, 160, 0, 18, 21, 5, 21, 4, 162, 0, 7, 4]
abbrev dktX5_isLeaf_1 : List UInt8 := dkwX5_isLeaf_1 ++ dktX5_isLeaf_2
def dkwX5_isLeaf_0 : List UInt8 := [28, 154, 0, 11, 42, 27, 21, 4, 182, 1, 167, 172, 28, 16, 6, 160, 0, 7, 27, 167, 0, 11, 42, 27]
abbrev dktX5_isLeaf_0 : List UInt8 := dkwX5_isLeaf_0 ++ dktX5_isLeaf_1
theorem dksX5_isLeaf_0 : cX5_isLeaf.data.toList.drop 0 = dktX5_isLeaf_0 := by decide +kernel
theorem dksX5_isLeaf_1 : cX5_isLeaf.data.toList.drop 24 = dktX5_isLeaf_1 := dk_seg dksX5_isLeaf_0 24 rfl rfl
theorem dksX5_isLeaf_2 : cX5_isLeaf.data.toList.drop 46 = dktX5_isLeaf_2 := dk_seg dksX5_isLeaf_1 22 rfl rfl
theorem dksX5_isLeaf_3 : cX5_isLeaf.data.toList.drop 70 = dktX5_isLeaf_3 := dk_seg dksX5_isLeaf_2 24 rfl rfl
theorem dX5_isLeaf_0 : decode cX5_isLeaf 0 = .ok (.iload_n 2, 1) := dk_28 (dk_at dksX5_isLeaf_0 0 rfl rfl)
theorem dX5_isLeaf_1 : decode cX5_isLeaf 1 = .ok (.ifCond .ne 11, 3) := dk_154 0 11 (dk_at dksX5_isLeaf_0 1 rfl rfl)
theorem dX5_isLeaf_4 : decode cX5_isLeaf 4 = .ok (.aload_n 0, 1) := dk_42 (dk_at dksX5_isLeaf_0 4 rfl rfl)
theorem dX5_isLeaf_5 : decode cX5_isLeaf 5 = .ok (.iload_n 1, 1) := dk_27 (dk_at dksX5_isLeaf_0 5 rfl rfl)
theorem dX5_isLeaf_6 : decode cX5_isLeaf 6 = .ok (.iload 4, 2) := dk_21 4 (dk_at dksX5_isLeaf_0 6 rfl rfl)
theorem dX5_isLeaf_8 : decode cX5_isLeaf 8 = .ok (.invokevirtual 423, 3) := dk_182 1 167 (dk_at dksX5_isLeaf_0 8 rfl rfl)
theorem dX5_isLeaf_11 : decode cX5_isLeaf 11 = .ok (.ireturn, 1) := dk_172 (dk_at dksX5_isLeaf_0 11 rfl rfl)
theorem dX5_isLeaf_12 : decode cX5_isLeaf 12 = .ok (.iload_n 2, 1) := dk_28 (dk_at dksX5_isLeaf_0 12 rfl rfl)
theorem dX5_isLeaf_13 : decode cX5_isLeaf 13 = .ok (.bipush 6, 2) := dk_16 6 (dk_at dksX5_isLeaf_0 13 rfl rfl)
theorem dX5_isLeaf_15 : decode cX5_isLeaf 15 = .ok (.if_icmp .ne 7, 3) := dk_160 0 7 (dk_at dksX5_isLeaf_0 15 rfl rfl)
theorem dX5_isLeaf_18 : decode cX5_isLeaf 18 = .ok (.iload_n 1, 1) := dk_27 (dk_at dksX5_isLeaf_0 18 rfl rfl)
theorem dX5_isLeaf_19 : decode cX5_isLeaf 19 = .ok (.goto 11, 3) := dk_167 0 11 (dk_at dksX5_isLeaf_0 19 rfl rfl)
theorem dX5_isLeaf_22 : decode cX5_isLeaf 22 = .ok (.aload_n 0, 1) := dk_42 (dk_at dksX5_isLeaf_0 22 rfl rfl)
theorem dX5_isLeaf_23 : decode cX5_isLeaf 23 = .ok (.iload_n 1, 1) := dk_27 (dk_at dksX5_isLeaf_0 23 rfl rfl)
theorem dX5_isLeaf_24 : decode cX5_isLeaf 24 = .ok (.iload_n 2, 1) := dk_28 (dk_at dksX5_isLeaf_1 0 rfl rfl)
theorem dX5_isLeaf_25 : decode cX5_isLeaf 25 = .ok (.iconst 1, 1) := dk_4 (dk_at dksX5_isLeaf_1 1 rfl rfl)
theorem dX5_isLeaf_26 : decode cX5_isLeaf 26 = .ok (.isub, 1) := dk_100 (dk_at dksX5_isLeaf_1 2 rfl rfl)
theorem dX5_isLeaf_27 : decode cX5_isLeaf 27 = .ok (.invokevirtual 426, 3) := dk_182 1 170 (dk_at dksX5_isLeaf_1 3 rfl rfl)
theorem dX5_isLeaf_30 : decode cX5_isLeaf 30 = .ok (.istore 5, 2) := dk_54 5 (dk_at dksX5_isLeaf_1 6 rfl rfl)
theorem dX5_isLeaf_32 : decode cX5_isLeaf 32 = .ok (.iload_n 3, 1) := dk_29 (dk_at dksX5_isLeaf_1 8 rfl rfl)
theorem dX5_isLeaf_33 : decode cX5_isLeaf 33 = .ok (.bipush 60, 2) := dk_16 60 (dk_at dksX5_isLeaf_1 9 rfl rfl)
theorem dX5_isLeaf_35 : decode cX5_isLeaf 35 = .ok (.if_icmp .ne 18, 3) := dk_160 0 18 (dk_at dksX5_isLeaf_1 11 rfl rfl)
theorem dX5_isLeaf_38 : decode cX5_isLeaf 38 = .ok (.iload 5, 2) := dk_21 5 (dk_at dksX5_isLeaf_1 14 rfl rfl)
theorem dX5_isLeaf_40 : decode cX5_isLeaf 40 = .ok (.iload 4, 2) := dk_21 4 (dk_at dksX5_isLeaf_1 16 rfl rfl)
theorem dX5_isLeaf_42 : decode cX5_isLeaf 42 = .ok (.if_icmp .ge 7, 3) := dk_162 0 7 (dk_at dksX5_isLeaf_1 18 rfl rfl)
theorem dX5_isLeaf_45 : decode cX5_isLeaf 45 = .ok (.iconst 1, 1) := dk_4 (dk_at dksX5_isLeaf_1 21 rfl rfl)
theorem dX5_isLeaf_46 : decode cX5_isLeaf 46 = .ok (.goto 40, 3) := dk_167 0 40 (dk_at dksX5_isLeaf_2 0 rfl rfl)
theorem dX5_isLeaf_49 : decode cX5_isLeaf 49 = .ok (.iconst 0, 1) := dk_3 (dk_at dksX5_isLeaf_2 3 rfl rfl)
theorem dX5_isLeaf_50 : decode cX5_isLeaf 50 = .ok (.goto 36, 3) := dk_167 0 36 (dk_at dksX5_isLeaf_2 4 rfl rfl)
theorem dX5_isLeaf_53 : decode cX5_isLeaf 53 = .ok (.iload_n 3, 1) := dk_29 (dk_at dksX5_isLeaf_2 7 rfl rfl)
theorem dX5_isLeaf_54 : decode cX5_isLeaf 54 = .ok (.bipush 61, 2) := dk_16 61 (dk_at dksX5_isLeaf_2 8 rfl rfl)
theorem dX5_isLeaf_56 : decode cX5_isLeaf 56 = .ok (.if_icmp .ne 18, 3) := dk_160 0 18 (dk_at dksX5_isLeaf_2 10 rfl rfl)
theorem dX5_isLeaf_59 : decode cX5_isLeaf 59 = .ok (.iload 5, 2) := dk_21 5 (dk_at dksX5_isLeaf_2 13 rfl rfl)
theorem dX5_isLeaf_61 : decode cX5_isLeaf 61 = .ok (.iload 4, 2) := dk_21 4 (dk_at dksX5_isLeaf_2 15 rfl rfl)
theorem dX5_isLeaf_63 : decode cX5_isLeaf 63 = .ok (.if_icmp .ne 7, 3) := dk_160 0 7 (dk_at dksX5_isLeaf_2 17 rfl rfl)
theorem dX5_isLeaf_66 : decode cX5_isLeaf 66 = .ok (.iconst 1, 1) := dk_4 (dk_at dksX5_isLeaf_2 20 rfl rfl)
theorem dX5_isLeaf_67 : decode cX5_isLeaf 67 = .ok (.goto 19, 3) := dk_167 0 19 (dk_at dksX5_isLeaf_2 21 rfl rfl)
theorem dX5_isLeaf_70 : decode cX5_isLeaf 70 = .ok (.iconst 0, 1) := dk_3 (dk_at dksX5_isLeaf_3 0 rfl rfl)
theorem dX5_isLeaf_71 : decode cX5_isLeaf 71 = .ok (.goto 15, 3) := dk_167 0 15 (dk_at dksX5_isLeaf_3 1 rfl rfl)
theorem dX5_isLeaf_74 : decode cX5_isLeaf 74 = .ok (.iload 5, 2) := dk_21 5 (dk_at dksX5_isLeaf_3 4 rfl rfl)
theorem dX5_isLeaf_76 : decode cX5_isLeaf 76 = .ok (.iload 4, 2) := dk_21 4 (dk_at dksX5_isLeaf_3 6 rfl rfl)
theorem dX5_isLeaf_78 : decode cX5_isLeaf 78 = .ok (.if_icmp .le 7, 3) := dk_164 0 7 (dk_at dksX5_isLeaf_3 8 rfl rfl)
theorem dX5_isLeaf_81 : decode cX5_isLeaf 81 = .ok (.iconst 1, 1) := dk_4 (dk_at dksX5_isLeaf_3 11 rfl rfl)
theorem dX5_isLeaf_82 : decode cX5_isLeaf 82 = .ok (.goto 4, 3) := dk_167 0 4 (dk_at dksX5_isLeaf_3 12 rfl rfl)
theorem dX5_isLeaf_85 : decode cX5_isLeaf 85 = .ok (.iconst 0, 1) := dk_3 (dk_at dksX5_isLeaf_3 15 rfl rfl)
theorem dX5_isLeaf_86 : decode cX5_isLeaf 86 = .ok (.ireturn, 1) := dk_172 (dk_at dksX5_isLeaf_3 16 rfl rfl)
abbrev cX5_hasTrod : ByteArray := prog_19_method_96_code
def yX5_hasTrod : MethodName := ⟨RX5, "hasTrod", "(II)Z"⟩
def dkwX5_hasTrod_2 : List UInt8 := [172]
abbrev dktX5_hasTrod_2 : List UInt8 := dkwX5_hasTrod_2 ++ []
def dkwX5_hasTrod_1 : List UInt8 := [16, 41, 28, 104, 96, 29, 96, 46, 27, 182, 1, 0, 158, 0, 5, 4, 172, 132, 3, 1, 167, 255, 214, 3]
abbrev dktX5_hasTrod_1 : List UInt8 := dkwX5_hasTrod_1 ++ dktX5_hasTrod_2
def dkwX5_hasTrod_0 : List UInt8 := [3, 62, 29, 42, 180, 0, 33, 17, 0, 177, 28, 96, 46, 162, 0, 34, 42, 42, 180, 0, 33, 17, 0, 183]
abbrev dktX5_hasTrod_0 : List UInt8 := dkwX5_hasTrod_0 ++ dktX5_hasTrod_1
theorem dksX5_hasTrod_0 : cX5_hasTrod.data.toList.drop 0 = dktX5_hasTrod_0 := by decide +kernel
theorem dksX5_hasTrod_1 : cX5_hasTrod.data.toList.drop 24 = dktX5_hasTrod_1 := dk_seg dksX5_hasTrod_0 24 rfl rfl
theorem dksX5_hasTrod_2 : cX5_hasTrod.data.toList.drop 48 = dktX5_hasTrod_2 := dk_seg dksX5_hasTrod_1 24 rfl rfl
theorem dX5_hasTrod_0 : decode cX5_hasTrod 0 = .ok (.iconst 0, 1) := dk_3 (dk_at dksX5_hasTrod_0 0 rfl rfl)
theorem dX5_hasTrod_1 : decode cX5_hasTrod 1 = .ok (.istore_n 3, 1) := dk_62 (dk_at dksX5_hasTrod_0 1 rfl rfl)
theorem dX5_hasTrod_2 : decode cX5_hasTrod 2 = .ok (.iload_n 3, 1) := dk_29 (dk_at dksX5_hasTrod_0 2 rfl rfl)
theorem dX5_hasTrod_3 : decode cX5_hasTrod 3 = .ok (.aload_n 0, 1) := dk_42 (dk_at dksX5_hasTrod_0 3 rfl rfl)
theorem dX5_hasTrod_4 : decode cX5_hasTrod 4 = .ok (.getfield 33, 3) := dk_180 0 33 (dk_at dksX5_hasTrod_0 4 rfl rfl)
theorem dX5_hasTrod_7 : decode cX5_hasTrod 7 = .ok (.sipush 177, 3) := dk_17 0 177 (dk_at dksX5_hasTrod_0 7 rfl rfl)
theorem dX5_hasTrod_10 : decode cX5_hasTrod 10 = .ok (.iload_n 2, 1) := dk_28 (dk_at dksX5_hasTrod_0 10 rfl rfl)
theorem dX5_hasTrod_11 : decode cX5_hasTrod 11 = .ok (.iadd, 1) := dk_96 (dk_at dksX5_hasTrod_0 11 rfl rfl)
theorem dX5_hasTrod_12 : decode cX5_hasTrod 12 = .ok (.iaload, 1) := dk_46 (dk_at dksX5_hasTrod_0 12 rfl rfl)
theorem dX5_hasTrod_13 : decode cX5_hasTrod 13 = .ok (.if_icmp .ge 34, 3) := dk_162 0 34 (dk_at dksX5_hasTrod_0 13 rfl rfl)
theorem dX5_hasTrod_16 : decode cX5_hasTrod 16 = .ok (.aload_n 0, 1) := dk_42 (dk_at dksX5_hasTrod_0 16 rfl rfl)
theorem dX5_hasTrod_17 : decode cX5_hasTrod 17 = .ok (.aload_n 0, 1) := dk_42 (dk_at dksX5_hasTrod_0 17 rfl rfl)
theorem dX5_hasTrod_18 : decode cX5_hasTrod 18 = .ok (.getfield 33, 3) := dk_180 0 33 (dk_at dksX5_hasTrod_0 18 rfl rfl)
theorem dX5_hasTrod_21 : decode cX5_hasTrod 21 = .ok (.sipush 183, 3) := dk_17 0 183 (dk_at dksX5_hasTrod_0 21 rfl rfl)
theorem dX5_hasTrod_24 : decode cX5_hasTrod 24 = .ok (.bipush 41, 2) := dk_16 41 (dk_at dksX5_hasTrod_1 0 rfl rfl)
theorem dX5_hasTrod_26 : decode cX5_hasTrod 26 = .ok (.iload_n 2, 1) := dk_28 (dk_at dksX5_hasTrod_1 2 rfl rfl)
theorem dX5_hasTrod_27 : decode cX5_hasTrod 27 = .ok (.imul, 1) := dk_104 (dk_at dksX5_hasTrod_1 3 rfl rfl)
theorem dX5_hasTrod_28 : decode cX5_hasTrod 28 = .ok (.iadd, 1) := dk_96 (dk_at dksX5_hasTrod_1 4 rfl rfl)
theorem dX5_hasTrod_29 : decode cX5_hasTrod 29 = .ok (.iload_n 3, 1) := dk_29 (dk_at dksX5_hasTrod_1 5 rfl rfl)
theorem dX5_hasTrod_30 : decode cX5_hasTrod 30 = .ok (.iadd, 1) := dk_96 (dk_at dksX5_hasTrod_1 6 rfl rfl)
theorem dX5_hasTrod_31 : decode cX5_hasTrod 31 = .ok (.iaload, 1) := dk_46 (dk_at dksX5_hasTrod_1 7 rfl rfl)
theorem dX5_hasTrod_32 : decode cX5_hasTrod 32 = .ok (.iload_n 1, 1) := dk_27 (dk_at dksX5_hasTrod_1 8 rfl rfl)
theorem dX5_hasTrod_33 : decode cX5_hasTrod 33 = .ok (.invokevirtual 256, 3) := dk_182 1 0 (dk_at dksX5_hasTrod_1 9 rfl rfl)
theorem dX5_hasTrod_36 : decode cX5_hasTrod 36 = .ok (.ifCond .le 5, 3) := dk_158 0 5 (dk_at dksX5_hasTrod_1 12 rfl rfl)
theorem dX5_hasTrod_39 : decode cX5_hasTrod 39 = .ok (.iconst 1, 1) := dk_4 (dk_at dksX5_hasTrod_1 15 rfl rfl)
theorem dX5_hasTrod_40 : decode cX5_hasTrod 40 = .ok (.ireturn, 1) := dk_172 (dk_at dksX5_hasTrod_1 16 rfl rfl)
theorem dX5_hasTrod_41 : decode cX5_hasTrod 41 = .ok (.iinc 3 1, 3) := dk_132 3 1 (dk_at dksX5_hasTrod_1 17 rfl rfl)
theorem dX5_hasTrod_44 : decode cX5_hasTrod 44 = .ok (.goto (-42), 3) := dk_167 255 214 (dk_at dksX5_hasTrod_1 20 rfl rfl)
theorem dX5_hasTrod_47 : decode cX5_hasTrod 47 = .ok (.iconst 0, 1) := dk_3 (dk_at dksX5_hasTrod_1 23 rfl rfl)
theorem dX5_hasTrod_48 : decode cX5_hasTrod 48 = .ok (.ireturn, 1) := dk_172 (dk_at dksX5_hasTrod_2 0 rfl rfl)
abbrev cX5_image : ByteArray := prog_19_method_100_code
def yX5_image : MethodName := ⟨RX5, "image", "(I)Z"⟩
def dkwX5_image_3 : List UInt8 := [180, 0, 43, 28, 47, 80, 132, 2, 1, 167, 255, 230, 42, 180, 0, 106, 27, 4, 84, 4, 172]
abbrev dktX5_image_3 : List UInt8 := dkwX5_image_3 ++ []
def dkwX5_image_2 : List UInt8 := [167, 255, 228, 3, 61, 28, 16, 12, 162, 0, 26, 42, 180, 0, 103, 16, 12, 27, 104, 28, 96, 42]
abbrev dktX5_image_2 : List UInt8 := dkwX5_image_2 ++ dktX5_image_3
def dkwX5_image_1 : List UInt8 := [162, 0, 27, 42, 180, 0, 100, 17, 40, 25, 27, 104, 28, 96, 42, 180, 0, 33, 28, 46, 79, 132, 2, 1]
abbrev dktX5_image_1 : List UInt8 := dkwX5_image_1 ++ dktX5_image_2
def dkwX5_image_0 : List UInt8 := [42, 3, 181, 0, 1, 27, 3, 4, 184, 0, 191, 154, 0, 5, 3, 172, 3, 61, 28, 17, 40, 25]
abbrev dktX5_image_0 : List UInt8 := dkwX5_image_0 ++ dktX5_image_1
theorem dksX5_image_0 : cX5_image.data.toList.drop 0 = dktX5_image_0 := by decide +kernel
theorem dksX5_image_1 : cX5_image.data.toList.drop 22 = dktX5_image_1 := dk_seg dksX5_image_0 22 rfl rfl
theorem dksX5_image_2 : cX5_image.data.toList.drop 46 = dktX5_image_2 := dk_seg dksX5_image_1 24 rfl rfl
theorem dksX5_image_3 : cX5_image.data.toList.drop 68 = dktX5_image_3 := dk_seg dksX5_image_2 22 rfl rfl
theorem dX5_image_0 : decode cX5_image 0 = .ok (.aload_n 0, 1) := dk_42 (dk_at dksX5_image_0 0 rfl rfl)
theorem dX5_image_1 : decode cX5_image 1 = .ok (.iconst 0, 1) := dk_3 (dk_at dksX5_image_0 1 rfl rfl)
theorem dX5_image_2 : decode cX5_image 2 = .ok (.putfield 1, 3) := dk_181 0 1 (dk_at dksX5_image_0 2 rfl rfl)
theorem dX5_image_5 : decode cX5_image 5 = .ok (.iload_n 1, 1) := dk_27 (dk_at dksX5_image_0 5 rfl rfl)
theorem dX5_image_6 : decode cX5_image 6 = .ok (.iconst 0, 1) := dk_3 (dk_at dksX5_image_0 6 rfl rfl)
theorem dX5_image_7 : decode cX5_image 7 = .ok (.iconst 1, 1) := dk_4 (dk_at dksX5_image_0 7 rfl rfl)
theorem dX5_image_8 : decode cX5_image 8 = .ok (.invokestatic 191, 3) := dk_184 0 191 (dk_at dksX5_image_0 8 rfl rfl)
theorem dX5_image_11 : decode cX5_image 11 = .ok (.ifCond .ne 5, 3) := dk_154 0 5 (dk_at dksX5_image_0 11 rfl rfl)
theorem dX5_image_14 : decode cX5_image 14 = .ok (.iconst 0, 1) := dk_3 (dk_at dksX5_image_0 14 rfl rfl)
theorem dX5_image_15 : decode cX5_image 15 = .ok (.ireturn, 1) := dk_172 (dk_at dksX5_image_0 15 rfl rfl)
theorem dX5_image_16 : decode cX5_image 16 = .ok (.iconst 0, 1) := dk_3 (dk_at dksX5_image_0 16 rfl rfl)
theorem dX5_image_17 : decode cX5_image 17 = .ok (.istore_n 2, 1) := dk_61 (dk_at dksX5_image_0 17 rfl rfl)
theorem dX5_image_18 : decode cX5_image 18 = .ok (.iload_n 2, 1) := dk_28 (dk_at dksX5_image_0 18 rfl rfl)
theorem dX5_image_19 : decode cX5_image 19 = .ok (.sipush 10265, 3) := dk_17 40 25 (dk_at dksX5_image_0 19 rfl rfl)
theorem dX5_image_22 : decode cX5_image 22 = .ok (.if_icmp .ge 27, 3) := dk_162 0 27 (dk_at dksX5_image_1 0 rfl rfl)
theorem dX5_image_25 : decode cX5_image 25 = .ok (.aload_n 0, 1) := dk_42 (dk_at dksX5_image_1 3 rfl rfl)
theorem dX5_image_26 : decode cX5_image 26 = .ok (.getfield 100, 3) := dk_180 0 100 (dk_at dksX5_image_1 4 rfl rfl)
theorem dX5_image_29 : decode cX5_image 29 = .ok (.sipush 10265, 3) := dk_17 40 25 (dk_at dksX5_image_1 7 rfl rfl)
theorem dX5_image_32 : decode cX5_image 32 = .ok (.iload_n 1, 1) := dk_27 (dk_at dksX5_image_1 10 rfl rfl)
theorem dX5_image_33 : decode cX5_image 33 = .ok (.imul, 1) := dk_104 (dk_at dksX5_image_1 11 rfl rfl)
theorem dX5_image_34 : decode cX5_image 34 = .ok (.iload_n 2, 1) := dk_28 (dk_at dksX5_image_1 12 rfl rfl)
theorem dX5_image_35 : decode cX5_image 35 = .ok (.iadd, 1) := dk_96 (dk_at dksX5_image_1 13 rfl rfl)
theorem dX5_image_36 : decode cX5_image 36 = .ok (.aload_n 0, 1) := dk_42 (dk_at dksX5_image_1 14 rfl rfl)
theorem dX5_image_37 : decode cX5_image 37 = .ok (.getfield 33, 3) := dk_180 0 33 (dk_at dksX5_image_1 15 rfl rfl)
theorem dX5_image_40 : decode cX5_image 40 = .ok (.iload_n 2, 1) := dk_28 (dk_at dksX5_image_1 18 rfl rfl)
theorem dX5_image_41 : decode cX5_image 41 = .ok (.iaload, 1) := dk_46 (dk_at dksX5_image_1 19 rfl rfl)
theorem dX5_image_42 : decode cX5_image 42 = .ok (.iastore, 1) := dk_79 (dk_at dksX5_image_1 20 rfl rfl)
theorem dX5_image_43 : decode cX5_image 43 = .ok (.iinc 2 1, 3) := dk_132 2 1 (dk_at dksX5_image_1 21 rfl rfl)
theorem dX5_image_46 : decode cX5_image 46 = .ok (.goto (-28), 3) := dk_167 255 228 (dk_at dksX5_image_2 0 rfl rfl)
theorem dX5_image_49 : decode cX5_image 49 = .ok (.iconst 0, 1) := dk_3 (dk_at dksX5_image_2 3 rfl rfl)
theorem dX5_image_50 : decode cX5_image 50 = .ok (.istore_n 2, 1) := dk_61 (dk_at dksX5_image_2 4 rfl rfl)
theorem dX5_image_51 : decode cX5_image 51 = .ok (.iload_n 2, 1) := dk_28 (dk_at dksX5_image_2 5 rfl rfl)
theorem dX5_image_52 : decode cX5_image 52 = .ok (.bipush 12, 2) := dk_16 12 (dk_at dksX5_image_2 6 rfl rfl)
theorem dX5_image_54 : decode cX5_image 54 = .ok (.if_icmp .ge 26, 3) := dk_162 0 26 (dk_at dksX5_image_2 8 rfl rfl)
theorem dX5_image_57 : decode cX5_image 57 = .ok (.aload_n 0, 1) := dk_42 (dk_at dksX5_image_2 11 rfl rfl)
theorem dX5_image_58 : decode cX5_image 58 = .ok (.getfield 103, 3) := dk_180 0 103 (dk_at dksX5_image_2 12 rfl rfl)
theorem dX5_image_61 : decode cX5_image 61 = .ok (.bipush 12, 2) := dk_16 12 (dk_at dksX5_image_2 15 rfl rfl)
theorem dX5_image_63 : decode cX5_image 63 = .ok (.iload_n 1, 1) := dk_27 (dk_at dksX5_image_2 17 rfl rfl)
theorem dX5_image_64 : decode cX5_image 64 = .ok (.imul, 1) := dk_104 (dk_at dksX5_image_2 18 rfl rfl)
theorem dX5_image_65 : decode cX5_image 65 = .ok (.iload_n 2, 1) := dk_28 (dk_at dksX5_image_2 19 rfl rfl)
theorem dX5_image_66 : decode cX5_image 66 = .ok (.iadd, 1) := dk_96 (dk_at dksX5_image_2 20 rfl rfl)
theorem dX5_image_67 : decode cX5_image 67 = .ok (.aload_n 0, 1) := dk_42 (dk_at dksX5_image_2 21 rfl rfl)
theorem dX5_image_68 : decode cX5_image 68 = .ok (.getfield 43, 3) := dk_180 0 43 (dk_at dksX5_image_3 0 rfl rfl)
theorem dX5_image_71 : decode cX5_image 71 = .ok (.iload_n 2, 1) := dk_28 (dk_at dksX5_image_3 3 rfl rfl)
theorem dX5_image_72 : decode cX5_image 72 = .ok (.laload, 1) := dk_47 (dk_at dksX5_image_3 4 rfl rfl)
theorem dX5_image_73 : decode cX5_image 73 = .ok (.lastore, 1) := dk_80 (dk_at dksX5_image_3 5 rfl rfl)
theorem dX5_image_74 : decode cX5_image 74 = .ok (.iinc 2 1, 3) := dk_132 2 1 (dk_at dksX5_image_3 6 rfl rfl)
theorem dX5_image_77 : decode cX5_image 77 = .ok (.goto (-26), 3) := dk_167 255 230 (dk_at dksX5_image_3 9 rfl rfl)
theorem dX5_image_80 : decode cX5_image 80 = .ok (.aload_n 0, 1) := dk_42 (dk_at dksX5_image_3 12 rfl rfl)
theorem dX5_image_81 : decode cX5_image 81 = .ok (.getfield 106, 3) := dk_180 0 106 (dk_at dksX5_image_3 13 rfl rfl)
theorem dX5_image_84 : decode cX5_image 84 = .ok (.iload_n 1, 1) := dk_27 (dk_at dksX5_image_3 16 rfl rfl)
theorem dX5_image_85 : decode cX5_image 85 = .ok (.iconst 1, 1) := dk_4 (dk_at dksX5_image_3 17 rfl rfl)
theorem dX5_image_86 : decode cX5_image 86 = .ok (.bastore, 1) := dk_84 (dk_at dksX5_image_3 18 rfl rfl)
theorem dX5_image_87 : decode cX5_image 87 = .ok (.iconst 1, 1) := dk_4 (dk_at dksX5_image_3 19 rfl rfl)
theorem dX5_image_88 : decode cX5_image 88 = .ok (.ireturn, 1) := dk_172 (dk_at dksX5_image_3 20 rfl rfl)
abbrev cX5_restore : ByteArray := prog_19_method_101_code
def yX5_restore : MethodName := ⟨RX5, "restore", "(I)Z"⟩
def dkwX5_restore_3 : List UInt8 := [180, 0, 103, 16, 12, 27, 104, 28, 96, 47, 80, 132, 2, 1, 167, 255, 230, 42, 3, 181, 0, 249, 4, 172]
abbrev dktX5_restore_3 : List UInt8 := dkwX5_restore_3 ++ []
def dkwX5_restore_2 : List UInt8 := [28, 96, 46, 79, 132, 2, 1, 167, 255, 228, 3, 61, 28, 16, 12, 162, 0, 26, 42, 180, 0, 43, 28, 42]
abbrev dktX5_restore_2 : List UInt8 := dkwX5_restore_2 ++ dktX5_restore_3
def dkwX5_restore_1 : List UInt8 := [172, 3, 61, 28, 17, 40, 25, 162, 0, 27, 42, 180, 0, 33, 28, 42, 180, 0, 100, 17, 40, 25, 27, 104]
abbrev dktX5_restore_1 : List UInt8 := dkwX5_restore_1 ++ dktX5_restore_2
def dkwX5_restore_0 : List UInt8 := [42, 3, 181, 0, 1, 27, 3, 4, 184, 0, 191, 153, 0, 12, 42, 180, 0, 106, 27, 51, 154, 0, 5, 3]
abbrev dktX5_restore_0 : List UInt8 := dkwX5_restore_0 ++ dktX5_restore_1
theorem dksX5_restore_0 : cX5_restore.data.toList.drop 0 = dktX5_restore_0 := by decide +kernel
theorem dksX5_restore_1 : cX5_restore.data.toList.drop 24 = dktX5_restore_1 := dk_seg dksX5_restore_0 24 rfl rfl
theorem dksX5_restore_2 : cX5_restore.data.toList.drop 48 = dktX5_restore_2 := dk_seg dksX5_restore_1 24 rfl rfl
theorem dksX5_restore_3 : cX5_restore.data.toList.drop 72 = dktX5_restore_3 := dk_seg dksX5_restore_2 24 rfl rfl
theorem dX5_restore_0 : decode cX5_restore 0 = .ok (.aload_n 0, 1) := dk_42 (dk_at dksX5_restore_0 0 rfl rfl)
theorem dX5_restore_1 : decode cX5_restore 1 = .ok (.iconst 0, 1) := dk_3 (dk_at dksX5_restore_0 1 rfl rfl)
theorem dX5_restore_2 : decode cX5_restore 2 = .ok (.putfield 1, 3) := dk_181 0 1 (dk_at dksX5_restore_0 2 rfl rfl)
theorem dX5_restore_5 : decode cX5_restore 5 = .ok (.iload_n 1, 1) := dk_27 (dk_at dksX5_restore_0 5 rfl rfl)
theorem dX5_restore_6 : decode cX5_restore 6 = .ok (.iconst 0, 1) := dk_3 (dk_at dksX5_restore_0 6 rfl rfl)
theorem dX5_restore_7 : decode cX5_restore 7 = .ok (.iconst 1, 1) := dk_4 (dk_at dksX5_restore_0 7 rfl rfl)
theorem dX5_restore_8 : decode cX5_restore 8 = .ok (.invokestatic 191, 3) := dk_184 0 191 (dk_at dksX5_restore_0 8 rfl rfl)
theorem dX5_restore_11 : decode cX5_restore 11 = .ok (.ifCond .eq 12, 3) := dk_153 0 12 (dk_at dksX5_restore_0 11 rfl rfl)
theorem dX5_restore_14 : decode cX5_restore 14 = .ok (.aload_n 0, 1) := dk_42 (dk_at dksX5_restore_0 14 rfl rfl)
theorem dX5_restore_15 : decode cX5_restore 15 = .ok (.getfield 106, 3) := dk_180 0 106 (dk_at dksX5_restore_0 15 rfl rfl)
theorem dX5_restore_18 : decode cX5_restore 18 = .ok (.iload_n 1, 1) := dk_27 (dk_at dksX5_restore_0 18 rfl rfl)
theorem dX5_restore_19 : decode cX5_restore 19 = .ok (.baload, 1) := dk_51 (dk_at dksX5_restore_0 19 rfl rfl)
theorem dX5_restore_20 : decode cX5_restore 20 = .ok (.ifCond .ne 5, 3) := dk_154 0 5 (dk_at dksX5_restore_0 20 rfl rfl)
theorem dX5_restore_23 : decode cX5_restore 23 = .ok (.iconst 0, 1) := dk_3 (dk_at dksX5_restore_0 23 rfl rfl)
theorem dX5_restore_24 : decode cX5_restore 24 = .ok (.ireturn, 1) := dk_172 (dk_at dksX5_restore_1 0 rfl rfl)
theorem dX5_restore_25 : decode cX5_restore 25 = .ok (.iconst 0, 1) := dk_3 (dk_at dksX5_restore_1 1 rfl rfl)
theorem dX5_restore_26 : decode cX5_restore 26 = .ok (.istore_n 2, 1) := dk_61 (dk_at dksX5_restore_1 2 rfl rfl)
theorem dX5_restore_27 : decode cX5_restore 27 = .ok (.iload_n 2, 1) := dk_28 (dk_at dksX5_restore_1 3 rfl rfl)
theorem dX5_restore_28 : decode cX5_restore 28 = .ok (.sipush 10265, 3) := dk_17 40 25 (dk_at dksX5_restore_1 4 rfl rfl)
theorem dX5_restore_31 : decode cX5_restore 31 = .ok (.if_icmp .ge 27, 3) := dk_162 0 27 (dk_at dksX5_restore_1 7 rfl rfl)
theorem dX5_restore_34 : decode cX5_restore 34 = .ok (.aload_n 0, 1) := dk_42 (dk_at dksX5_restore_1 10 rfl rfl)
theorem dX5_restore_35 : decode cX5_restore 35 = .ok (.getfield 33, 3) := dk_180 0 33 (dk_at dksX5_restore_1 11 rfl rfl)
theorem dX5_restore_38 : decode cX5_restore 38 = .ok (.iload_n 2, 1) := dk_28 (dk_at dksX5_restore_1 14 rfl rfl)
theorem dX5_restore_39 : decode cX5_restore 39 = .ok (.aload_n 0, 1) := dk_42 (dk_at dksX5_restore_1 15 rfl rfl)
theorem dX5_restore_40 : decode cX5_restore 40 = .ok (.getfield 100, 3) := dk_180 0 100 (dk_at dksX5_restore_1 16 rfl rfl)
theorem dX5_restore_43 : decode cX5_restore 43 = .ok (.sipush 10265, 3) := dk_17 40 25 (dk_at dksX5_restore_1 19 rfl rfl)
theorem dX5_restore_46 : decode cX5_restore 46 = .ok (.iload_n 1, 1) := dk_27 (dk_at dksX5_restore_1 22 rfl rfl)
theorem dX5_restore_47 : decode cX5_restore 47 = .ok (.imul, 1) := dk_104 (dk_at dksX5_restore_1 23 rfl rfl)
theorem dX5_restore_48 : decode cX5_restore 48 = .ok (.iload_n 2, 1) := dk_28 (dk_at dksX5_restore_2 0 rfl rfl)
theorem dX5_restore_49 : decode cX5_restore 49 = .ok (.iadd, 1) := dk_96 (dk_at dksX5_restore_2 1 rfl rfl)
theorem dX5_restore_50 : decode cX5_restore 50 = .ok (.iaload, 1) := dk_46 (dk_at dksX5_restore_2 2 rfl rfl)
theorem dX5_restore_51 : decode cX5_restore 51 = .ok (.iastore, 1) := dk_79 (dk_at dksX5_restore_2 3 rfl rfl)
theorem dX5_restore_52 : decode cX5_restore 52 = .ok (.iinc 2 1, 3) := dk_132 2 1 (dk_at dksX5_restore_2 4 rfl rfl)
theorem dX5_restore_55 : decode cX5_restore 55 = .ok (.goto (-28), 3) := dk_167 255 228 (dk_at dksX5_restore_2 7 rfl rfl)
theorem dX5_restore_58 : decode cX5_restore 58 = .ok (.iconst 0, 1) := dk_3 (dk_at dksX5_restore_2 10 rfl rfl)
theorem dX5_restore_59 : decode cX5_restore 59 = .ok (.istore_n 2, 1) := dk_61 (dk_at dksX5_restore_2 11 rfl rfl)
theorem dX5_restore_60 : decode cX5_restore 60 = .ok (.iload_n 2, 1) := dk_28 (dk_at dksX5_restore_2 12 rfl rfl)
theorem dX5_restore_61 : decode cX5_restore 61 = .ok (.bipush 12, 2) := dk_16 12 (dk_at dksX5_restore_2 13 rfl rfl)
theorem dX5_restore_63 : decode cX5_restore 63 = .ok (.if_icmp .ge 26, 3) := dk_162 0 26 (dk_at dksX5_restore_2 15 rfl rfl)
theorem dX5_restore_66 : decode cX5_restore 66 = .ok (.aload_n 0, 1) := dk_42 (dk_at dksX5_restore_2 18 rfl rfl)
theorem dX5_restore_67 : decode cX5_restore 67 = .ok (.getfield 43, 3) := dk_180 0 43 (dk_at dksX5_restore_2 19 rfl rfl)
theorem dX5_restore_70 : decode cX5_restore 70 = .ok (.iload_n 2, 1) := dk_28 (dk_at dksX5_restore_2 22 rfl rfl)
theorem dX5_restore_71 : decode cX5_restore 71 = .ok (.aload_n 0, 1) := dk_42 (dk_at dksX5_restore_2 23 rfl rfl)
theorem dX5_restore_72 : decode cX5_restore 72 = .ok (.getfield 103, 3) := dk_180 0 103 (dk_at dksX5_restore_3 0 rfl rfl)
theorem dX5_restore_75 : decode cX5_restore 75 = .ok (.bipush 12, 2) := dk_16 12 (dk_at dksX5_restore_3 3 rfl rfl)
theorem dX5_restore_77 : decode cX5_restore 77 = .ok (.iload_n 1, 1) := dk_27 (dk_at dksX5_restore_3 5 rfl rfl)
theorem dX5_restore_78 : decode cX5_restore 78 = .ok (.imul, 1) := dk_104 (dk_at dksX5_restore_3 6 rfl rfl)
theorem dX5_restore_79 : decode cX5_restore 79 = .ok (.iload_n 2, 1) := dk_28 (dk_at dksX5_restore_3 7 rfl rfl)
theorem dX5_restore_80 : decode cX5_restore 80 = .ok (.iadd, 1) := dk_96 (dk_at dksX5_restore_3 8 rfl rfl)
theorem dX5_restore_81 : decode cX5_restore 81 = .ok (.laload, 1) := dk_47 (dk_at dksX5_restore_3 9 rfl rfl)
theorem dX5_restore_82 : decode cX5_restore 82 = .ok (.lastore, 1) := dk_80 (dk_at dksX5_restore_3 10 rfl rfl)
theorem dX5_restore_83 : decode cX5_restore 83 = .ok (.iinc 2 1, 3) := dk_132 2 1 (dk_at dksX5_restore_3 11 rfl rfl)
theorem dX5_restore_86 : decode cX5_restore 86 = .ok (.goto (-26), 3) := dk_167 255 230 (dk_at dksX5_restore_3 14 rfl rfl)
theorem dX5_restore_89 : decode cX5_restore 89 = .ok (.aload_n 0, 1) := dk_42 (dk_at dksX5_restore_3 17 rfl rfl)
theorem dX5_restore_90 : decode cX5_restore 90 = .ok (.iconst 0, 1) := dk_3 (dk_at dksX5_restore_3 18 rfl rfl)
theorem dX5_restore_91 : decode cX5_restore 91 = .ok (.putfield 249, 3) := dk_181 0 249 (dk_at dksX5_restore_3 19 rfl rfl)
theorem dX5_restore_94 : decode cX5_restore 94 = .ok (.iconst 1, 1) := dk_4 (dk_at dksX5_restore_3 22 rfl rfl)
theorem dX5_restore_95 : decode cX5_restore 95 = .ok (.ireturn, 1) := dk_172 (dk_at dksX5_restore_3 23 rfl rfl)
abbrev cX5_count : ByteArray := prog_19_method_102_code
def yX5_count : MethodName := ⟨RX5, "count", "(I)I"⟩
def dkwX5_count_2 : List UInt8 := [180, 0, 33, 27, 46, 167, 0, 4, 2, 172]
abbrev dktX5_count_2 : List UInt8 := dkwX5_count_2 ++ []
def dkwX5_count_1 : List UInt8 := [16, 8, 160, 0, 10, 42, 180, 0, 7, 167, 0, 23, 27, 3, 16, 6, 184, 0, 191, 153, 0, 12, 42]
abbrev dktX5_count_1 : List UInt8 := dkwX5_count_1 ++ dktX5_count_2
def dkwX5_count_0 : List UInt8 := [42, 3, 181, 0, 1, 27, 16, 7, 160, 0, 14, 42, 180, 0, 33, 17, 1, 173, 46, 167, 0, 36, 27]
abbrev dktX5_count_0 : List UInt8 := dkwX5_count_0 ++ dktX5_count_1
theorem dksX5_count_0 : cX5_count.data.toList.drop 0 = dktX5_count_0 := by decide +kernel
theorem dksX5_count_1 : cX5_count.data.toList.drop 23 = dktX5_count_1 := dk_seg dksX5_count_0 23 rfl rfl
theorem dksX5_count_2 : cX5_count.data.toList.drop 46 = dktX5_count_2 := dk_seg dksX5_count_1 23 rfl rfl
theorem dX5_count_0 : decode cX5_count 0 = .ok (.aload_n 0, 1) := dk_42 (dk_at dksX5_count_0 0 rfl rfl)
theorem dX5_count_1 : decode cX5_count 1 = .ok (.iconst 0, 1) := dk_3 (dk_at dksX5_count_0 1 rfl rfl)
theorem dX5_count_2 : decode cX5_count 2 = .ok (.putfield 1, 3) := dk_181 0 1 (dk_at dksX5_count_0 2 rfl rfl)
theorem dX5_count_5 : decode cX5_count 5 = .ok (.iload_n 1, 1) := dk_27 (dk_at dksX5_count_0 5 rfl rfl)
theorem dX5_count_6 : decode cX5_count 6 = .ok (.bipush 7, 2) := dk_16 7 (dk_at dksX5_count_0 6 rfl rfl)
theorem dX5_count_8 : decode cX5_count 8 = .ok (.if_icmp .ne 14, 3) := dk_160 0 14 (dk_at dksX5_count_0 8 rfl rfl)
theorem dX5_count_11 : decode cX5_count 11 = .ok (.aload_n 0, 1) := dk_42 (dk_at dksX5_count_0 11 rfl rfl)
theorem dX5_count_12 : decode cX5_count 12 = .ok (.getfield 33, 3) := dk_180 0 33 (dk_at dksX5_count_0 12 rfl rfl)
theorem dX5_count_15 : decode cX5_count 15 = .ok (.sipush 429, 3) := dk_17 1 173 (dk_at dksX5_count_0 15 rfl rfl)
theorem dX5_count_18 : decode cX5_count 18 = .ok (.iaload, 1) := dk_46 (dk_at dksX5_count_0 18 rfl rfl)
theorem dX5_count_19 : decode cX5_count 19 = .ok (.goto 36, 3) := dk_167 0 36 (dk_at dksX5_count_0 19 rfl rfl)
theorem dX5_count_22 : decode cX5_count 22 = .ok (.iload_n 1, 1) := dk_27 (dk_at dksX5_count_0 22 rfl rfl)
theorem dX5_count_23 : decode cX5_count 23 = .ok (.bipush 8, 2) := dk_16 8 (dk_at dksX5_count_1 0 rfl rfl)
theorem dX5_count_25 : decode cX5_count 25 = .ok (.if_icmp .ne 10, 3) := dk_160 0 10 (dk_at dksX5_count_1 2 rfl rfl)
theorem dX5_count_28 : decode cX5_count 28 = .ok (.aload_n 0, 1) := dk_42 (dk_at dksX5_count_1 5 rfl rfl)
theorem dX5_count_29 : decode cX5_count 29 = .ok (.getfield 7, 3) := dk_180 0 7 (dk_at dksX5_count_1 6 rfl rfl)
theorem dX5_count_32 : decode cX5_count 32 = .ok (.goto 23, 3) := dk_167 0 23 (dk_at dksX5_count_1 9 rfl rfl)
theorem dX5_count_35 : decode cX5_count 35 = .ok (.iload_n 1, 1) := dk_27 (dk_at dksX5_count_1 12 rfl rfl)
theorem dX5_count_36 : decode cX5_count 36 = .ok (.iconst 0, 1) := dk_3 (dk_at dksX5_count_1 13 rfl rfl)
theorem dX5_count_37 : decode cX5_count 37 = .ok (.bipush 6, 2) := dk_16 6 (dk_at dksX5_count_1 14 rfl rfl)
theorem dX5_count_39 : decode cX5_count 39 = .ok (.invokestatic 191, 3) := dk_184 0 191 (dk_at dksX5_count_1 16 rfl rfl)
theorem dX5_count_42 : decode cX5_count 42 = .ok (.ifCond .eq 12, 3) := dk_153 0 12 (dk_at dksX5_count_1 19 rfl rfl)
theorem dX5_count_45 : decode cX5_count 45 = .ok (.aload_n 0, 1) := dk_42 (dk_at dksX5_count_1 22 rfl rfl)
theorem dX5_count_46 : decode cX5_count 46 = .ok (.getfield 33, 3) := dk_180 0 33 (dk_at dksX5_count_2 0 rfl rfl)
theorem dX5_count_49 : decode cX5_count 49 = .ok (.iload_n 1, 1) := dk_27 (dk_at dksX5_count_2 3 rfl rfl)
theorem dX5_count_50 : decode cX5_count 50 = .ok (.iaload, 1) := dk_46 (dk_at dksX5_count_2 4 rfl rfl)
theorem dX5_count_51 : decode cX5_count 51 = .ok (.goto 4, 3) := dk_167 0 4 (dk_at dksX5_count_2 5 rfl rfl)
theorem dX5_count_54 : decode cX5_count 54 = .ok (.iconst (-1), 1) := dk_2 (dk_at dksX5_count_2 8 rfl rfl)
theorem dX5_count_55 : decode cX5_count 55 = .ok (.ireturn, 1) := dk_172 (dk_at dksX5_count_2 9 rfl rfl)
theorem q111 : (Jvm.Cond.initialized "RugReaderModel") ∈ lw_all := lw_g (lw_at lw_m1 9 rfl) rfl
theorem q1006 : (Jvm.Cond.selects "RugReaderModel" ({ cls := "java/lang/Object", name := "getClass", desc := "()Ljava/lang/Class;" } : Jvm.MethodName) ({ cls := "java/lang/Object", name := "getClass", desc := "()Ljava/lang/Class;" } : Jvm.MethodName)) ∈ lw_all := lw_g (lw_at lw_m4 184 rfl) rfl
theorem q1726 : (Jvm.Cond.instanceMethod ({ cls := "RugReaderModel", name := "thrown", desc := "()I" } : Jvm.MethodName)) ∈ lw_all := lw_g (lw_at lw_m7 184 rfl) rfl
theorem q1727 : (Jvm.Cond.selects "RugReaderModel" ({ cls := "RugReaderModel", name := "thrown", desc := "()I" } : Jvm.MethodName) ({ cls := "RugReaderModel", name := "thrown", desc := "()I" } : Jvm.MethodName)) ∈ lw_all := lw_g (lw_at lw_m7 185 rfl) rfl
theorem q1728 : (Jvm.Cond.code ({ cls := "RugReaderModel", name := "thrown", desc := "()I" } : Jvm.MethodName) prog_19_method_1_code (1 : Nat) (Option.some Jvm.ClassFile.FieldType.int)) ∈ lw_all := lw_g (lw_at lw_m7 186 rfl) rfl
theorem q1730 : (Jvm.Cond.instanceMethod ({ cls := "RugReaderModel", name := "feed", desc := "(IIIII)I" } : Jvm.MethodName)) ∈ lw_all := lw_g (lw_at lw_m7 188 rfl) rfl
theorem q1731 : (Jvm.Cond.selects "RugReaderModel" ({ cls := "RugReaderModel", name := "feed", desc := "(IIIII)I" } : Jvm.MethodName) ({ cls := "RugReaderModel", name := "feed", desc := "(IIIII)I" } : Jvm.MethodName)) ∈ lw_all := lw_g (lw_at lw_m7 189 rfl) rfl
theorem q1732 : (Jvm.Cond.code ({ cls := "RugReaderModel", name := "feed", desc := "(IIIII)I" } : Jvm.MethodName) prog_19_method_3_code (6 : Nat) (Option.some Jvm.ClassFile.FieldType.int)) ∈ lw_all := lw_g (lw_at lw_m7 190 rfl) rfl
theorem q1733 : (Jvm.Cond.methodLink "RugReaderModel" (10 : Nat) ({ cls := "RugReaderModel", name := "four", desc := "(I)V" } : Jvm.MethodName)) ∈ lw_all := lw_g (lw_at lw_m7 191 rfl) rfl
theorem q1734 : (Jvm.Cond.privateMethod ({ cls := "RugReaderModel", name := "four", desc := "(I)V" } : Jvm.MethodName)) ∈ lw_tbl := lw_at lw_m7 192 rfl
theorem q1735 : (Jvm.Cond.instanceMethod ({ cls := "RugReaderModel", name := "four", desc := "(I)V" } : Jvm.MethodName)) ∈ lw_all := lw_g (lw_at lw_m7 193 rfl) rfl
theorem q1736 : (Jvm.Cond.instantiable "RugReaderModel" (55 : Nat)) ∈ lw_all := lw_g (lw_at lw_m7 194 rfl) rfl
theorem q1737 : (Jvm.Cond.code ({ cls := "RugReaderModel", name := "four", desc := "(I)V" } : Jvm.MethodName) prog_19_method_4_code (3 : Nat) (Option.none : Option Jvm.ClassFile.FieldType)) ∈ lw_all := lw_g (lw_at lw_m7 195 rfl) rfl
theorem q1739 : (Jvm.Cond.instanceMethod ({ cls := "RugReaderModel", name := "end", desc := "(I)Z" } : Jvm.MethodName)) ∈ lw_all := lw_g (lw_at lw_m7 197 rfl) rfl
theorem q1740 : (Jvm.Cond.selects "RugReaderModel" ({ cls := "RugReaderModel", name := "end", desc := "(I)Z" } : Jvm.MethodName) ({ cls := "RugReaderModel", name := "end", desc := "(I)Z" } : Jvm.MethodName)) ∈ lw_all := lw_g (lw_at lw_m7 198 rfl) rfl
theorem q1741 : (Jvm.Cond.code ({ cls := "RugReaderModel", name := "end", desc := "(I)Z" } : Jvm.MethodName) prog_19_method_5_code (2 : Nat) (Option.some Jvm.ClassFile.FieldType.boolean)) ∈ lw_all := lw_g (lw_at lw_m7 199 rfl) rfl
theorem q1744 : (Jvm.Cond.instanceMethod ({ cls := "RugReaderModel", name := "<init>", desc := "()V" } : Jvm.MethodName)) ∈ lw_all := lw_g (lw_at lw_m7 202 rfl) rfl
theorem q1745 : (Jvm.Cond.code ({ cls := "RugReaderModel", name := "<init>", desc := "()V" } : Jvm.MethodName) prog_19_method_10_code (1 : Nat) (Option.none : Option Jvm.ClassFile.FieldType)) ∈ lw_all := lw_g (lw_at lw_m7 203 rfl) rfl
theorem q1746 : (Jvm.Cond.methodLink "RugReaderModel" (27 : Nat) ({ cls := "java/lang/Object", name := "<init>", desc := "()V" } : Jvm.MethodName)) ∈ lw_all := lw_g (lw_at lw_m7 204 rfl) rfl
theorem q1747 : (Jvm.Cond.constant "RugReaderModel" (50 : Nat) (57930 : Int32)) ∈ lw_all := lw_g (lw_at lw_m7 205 rfl) rfl
theorem q1748 : (Jvm.Cond.constantLong "RugReaderModel" (109 : Nat) (7501159 : Int64)) ∈ lw_all := lw_g (lw_at lw_m7 206 rfl) rfl
theorem q1749 : (Jvm.Cond.constantLong "RugReaderModel" (111 : Nat) (123581014175598 : Int64)) ∈ lw_all := lw_g (lw_at lw_m7 207 rfl) rfl
theorem q1750 : (Jvm.Cond.constantLong "RugReaderModel" (113 : Nat) (2002873452 : Int64)) ∈ lw_all := lw_g (lw_at lw_m7 208 rfl) rfl
theorem q1751 : (Jvm.Cond.constantLong "RugReaderModel" (115 : Nat) (1685024626 : Int64)) ∈ lw_all := lw_g (lw_at lw_m7 209 rfl) rfl
theorem q1752 : (Jvm.Cond.constantLong "RugReaderModel" (117 : Nat) (7823737 : Int64)) ∈ lw_all := lw_g (lw_at lw_m7 210 rfl) rfl
theorem q1753 : (Jvm.Cond.constantLong "RugReaderModel" (119 : Nat) (1717658725 : Int64)) ∈ lw_all := lw_g (lw_at lw_m7 211 rfl) rfl
theorem q1754 : (Jvm.Cond.constantLong "RugReaderModel" (121 : Nat) (110 : Int64)) ∈ lw_all := lw_g (lw_at lw_m7 212 rfl) rfl
theorem q1755 : (Jvm.Cond.constantLong "RugReaderModel" (123 : Nat) (101 : Int64)) ∈ lw_all := lw_g (lw_at lw_m7 213 rfl) rfl
theorem q1756 : (Jvm.Cond.constantLong "RugReaderModel" (125 : Nat) (115 : Int64)) ∈ lw_all := lw_g (lw_at lw_m7 214 rfl) rfl
theorem q1757 : (Jvm.Cond.constantLong "RugReaderModel" (127 : Nat) (119 : Int64)) ∈ lw_all := lw_g (lw_at lw_m7 215 rfl) rfl
theorem q1758 : (Jvm.Cond.constantLong "RugReaderModel" (129 : Nat) (28530 : Int64)) ∈ lw_all := lw_g (lw_at lw_m7 216 rfl) rfl
theorem q1759 : (Jvm.Cond.constantLong "RugReaderModel" (131 : Nat) (6385252 : Int64)) ∈ lw_all := lw_g (lw_at lw_m7 217 rfl) rfl
theorem q1760 : (Jvm.Cond.constantLong "RugReaderModel" (133 : Nat) (7237492 : Int64)) ∈ lw_all := lw_g (lw_at lw_m7 218 rfl) rfl
theorem q1761 : (Jvm.Cond.constantLong "RugReaderModel" (135 : Nat) (1953656676 : Int64)) ∈ lw_all := lw_g (lw_at lw_m7 219 rfl) rfl
theorem q1762 : (Jvm.Cond.constantLong "RugReaderModel" (137 : Nat) (131277443786868 : Int64)) ∈ lw_all := lw_g (lw_at lw_m7 220 rfl) rfl
theorem q1763 : (Jvm.Cond.constantLong "RugReaderModel" (139 : Nat) (1936682085 : Int64)) ∈ lw_all := lw_g (lw_at lw_m7 221 rfl) rfl
theorem q1764 : (Jvm.Cond.constantLong "RugReaderModel" (141 : Nat) (1885430629 : Int64)) ∈ lw_all := lw_g (lw_at lw_m7 222 rfl) rfl
theorem q1765 : (Jvm.Cond.constantLong "RugReaderModel" (143 : Nat) (123636697429107 : Int64)) ∈ lw_all := lw_g (lw_at lw_m7 223 rfl) rfl
theorem q1766 : (Jvm.Cond.constantLong "RugReaderModel" (145 : Nat) (500185855091 : Int64)) ∈ lw_all := lw_g (lw_at lw_m7 224 rfl) rfl
theorem q1767 : (Jvm.Cond.constantLong "RugReaderModel" (147 : Nat) (482854658917 : Int64)) ∈ lw_all := lw_g (lw_at lw_m7 225 rfl) rfl
theorem q1768 : (Jvm.Cond.fieldLink "RugReaderModel" (1 : Nat) "RugReaderModel" "thrown" "I") ∈ lw_all := lw_g (lw_at lw_m7 226 rfl) rfl
theorem q1769 : (Jvm.Cond.fieldLink "RugReaderModel" (14 : Nat) "RugReaderModel" "tape" "[B") ∈ lw_all := lw_g (lw_at lw_m7 227 rfl) rfl
theorem q1770 : (Jvm.Cond.fieldLink "RugReaderModel" (7 : Nat) "RugReaderModel" "length" "I") ∈ lw_all := lw_g (lw_at lw_m7 228 rfl) rfl
theorem q1771 : (Jvm.Cond.fieldLink "RugReaderModel" (18 : Nat) "RugReaderModel" "size" "I") ∈ lw_all := lw_g (lw_at lw_m7 229 rfl) rfl
theorem q1772 : (Jvm.Cond.fieldLink "RugReaderModel" (21 : Nat) "RugReaderModel" "p" "I") ∈ lw_all := lw_g (lw_at lw_m7 230 rfl) rfl
theorem q1773 : (Jvm.Cond.fieldLink "RugReaderModel" (24 : Nat) "RugReaderModel" "limit" "I") ∈ lw_all := lw_g (lw_at lw_m7 231 rfl) rfl
theorem q1774 : (Jvm.Cond.fieldLink "RugReaderModel" (33 : Nat) "RugReaderModel" "s" "[I") ∈ lw_all := lw_g (lw_at lw_m7 232 rfl) rfl
theorem q1775 : (Jvm.Cond.fieldLink "RugReaderModel" (37 : Nat) "RugReaderModel" "h" "[I") ∈ lw_all := lw_g (lw_at lw_m7 233 rfl) rfl
theorem q1776 : (Jvm.Cond.fieldLink "RugReaderModel" (40 : Nat) "RugReaderModel" "read" "[I") ∈ lw_all := lw_g (lw_at lw_m7 234 rfl) rfl
theorem q1777 : (Jvm.Cond.fieldLink "RugReaderModel" (43 : Nat) "RugReaderModel" "names" "[J") ∈ lw_all := lw_g (lw_at lw_m7 235 rfl) rfl
theorem q1778 : (Jvm.Cond.fieldLink "RugReaderModel" (47 : Nat) "RugReaderModel" "reserved" "[J") ∈ lw_all := lw_g (lw_at lw_m7 236 rfl) rfl
theorem q1779 : (Jvm.Cond.fieldLink "RugReaderModel" (159 : Nat) "RugReaderModel" "token" "I") ∈ lw_all := lw_g (lw_at lw_m7 237 rfl) rfl
theorem q1780 : (Jvm.Cond.fieldLink "RugReaderModel" (153 : Nat) "RugReaderModel" "at" "I") ∈ lw_all := lw_g (lw_at lw_m7 238 rfl) rfl
theorem q1781 : (Jvm.Cond.fieldLink "RugReaderModel" (156 : Nat) "RugReaderModel" "span" "I") ∈ lw_all := lw_g (lw_at lw_m7 239 rfl) rfl
theorem q1782 : (Jvm.Cond.fieldLink "RugReaderModel" (169 : Nat) "RugReaderModel" "number" "I") ∈ lw_all := lw_g (lw_at lw_m8 0 rfl) rfl
theorem q1783 : (Jvm.Cond.fieldLink "RugReaderModel" (176 : Nat) "RugReaderModel" "fault" "I") ∈ lw_all := lw_g (lw_at lw_m8 1 rfl) rfl
theorem q1784 : (Jvm.Cond.fieldLink "RugReaderModel" (179 : Nat) "RugReaderModel" "faultAt" "I") ∈ lw_all := lw_g (lw_at lw_m8 2 rfl) rfl
theorem q1785 : (Jvm.Cond.fieldLink "RugReaderModel" (172 : Nat) "RugReaderModel" "word" "J") ∈ lw_all := lw_g (lw_at lw_m8 3 rfl) rfl
theorem q1786 : (Jvm.Cond.fieldLink "RugReaderModel" (195 : Nat) "RugReaderModel" "got" "I") ∈ lw_all := lw_g (lw_at lw_m8 4 rfl) rfl
theorem q1787 : (Jvm.Cond.fieldLink "RugReaderModel" (240 : Nat) "RugReaderModel" "lines" "I") ∈ lw_all := lw_g (lw_at lw_m8 5 rfl) rfl
theorem q1788 : (Jvm.Cond.fieldLink "RugReaderModel" (210 : Nat) "RugReaderModel" "hasRug" "Z") ∈ lw_all := lw_g (lw_at lw_m8 6 rfl) rfl
theorem q1789 : (Jvm.Cond.fieldLink "RugReaderModel" (227 : Nat) "RugReaderModel" "hasFade" "Z") ∈ lw_all := lw_g (lw_at lw_m8 7 rfl) rfl
theorem q1790 : (Jvm.Cond.fieldLink "RugReaderModel" (51 : Nat) "RugReaderModel" "undone" "[I") ∈ lw_all := lw_g (lw_at lw_m8 8 rfl) rfl
theorem q1791 : (Jvm.Cond.fieldLink "RugReaderModel" (249 : Nat) "RugReaderModel" "undoMany" "I") ∈ lw_all := lw_g (lw_at lw_m8 9 rfl) rfl
theorem q1792 : (Jvm.Cond.fieldLink "RugReaderModel" (54 : Nat) "RugReaderModel" "treadsOf" "[I") ∈ lw_all := lw_g (lw_at lw_m8 10 rfl) rfl
theorem q1793 : (Jvm.Cond.fieldLink "RugReaderModel" (57 : Nat) "RugReaderModel" "who" "[I") ∈ lw_all := lw_g (lw_at lw_m8 11 rfl) rfl
theorem q1794 : (Jvm.Cond.fieldLink "RugReaderModel" (60 : Nat) "RugReaderModel" "firstRead" "[I") ∈ lw_all := lw_g (lw_at lw_m8 12 rfl) rfl
theorem q1795 : (Jvm.Cond.fieldLink "RugReaderModel" (63 : Nat) "RugReaderModel" "allRead" "[I") ∈ lw_all := lw_g (lw_at lw_m8 13 rfl) rfl
theorem q1796 : (Jvm.Cond.fieldLink "RugReaderModel" (66 : Nat) "RugReaderModel" "readWays" "I") ∈ lw_all := lw_g (lw_at lw_m8 14 rfl) rfl
theorem q1797 : (Jvm.Cond.fieldLink "RugReaderModel" (325 : Nat) "RugReaderModel" "fewestRead" "I") ∈ lw_all := lw_g (lw_at lw_m8 15 rfl) rfl
theorem q1798 : (Jvm.Cond.fieldLink "RugReaderModel" (69 : Nat) "RugReaderModel" "cost" "[I") ∈ lw_all := lw_g (lw_at lw_m8 16 rfl) rfl
theorem q1799 : (Jvm.Cond.fieldLink "RugReaderModel" (72 : Nat) "RugReaderModel" "walkedAt" "[I") ∈ lw_all := lw_g (lw_at lw_m8 17 rfl) rfl
theorem q1800 : (Jvm.Cond.fieldLink "RugReaderModel" (338 : Nat) "RugReaderModel" "goer" "I") ∈ lw_all := lw_g (lw_at lw_m8 18 rfl) rfl
theorem q1801 : (Jvm.Cond.fieldLink "RugReaderModel" (341 : Nat) "RugReaderModel" "startAt" "I") ∈ lw_all := lw_g (lw_at lw_m8 19 rfl) rfl
theorem q1802 : (Jvm.Cond.fieldLink "RugReaderModel" (344 : Nat) "RugReaderModel" "walkLines" "I") ∈ lw_all := lw_g (lw_at lw_m8 20 rfl) rfl
theorem q1803 : (Jvm.Cond.fieldLink "RugReaderModel" (350 : Nat) "RugReaderModel" "hasWalked" "Z") ∈ lw_all := lw_g (lw_at lw_m8 21 rfl) rfl
theorem q1804 : (Jvm.Cond.fieldLink "RugReaderModel" (75 : Nat) "RugReaderModel" "runs" "[I") ∈ lw_all := lw_g (lw_at lw_m8 22 rfl) rfl
theorem q1805 : (Jvm.Cond.fieldLink "RugReaderModel" (78 : Nat) "RugReaderModel" "over" "[I") ∈ lw_all := lw_g (lw_at lw_m8 23 rfl) rfl
theorem q1806 : (Jvm.Cond.fieldLink "RugReaderModel" (81 : Nat) "RugReaderModel" "ahead" "[I") ∈ lw_all := lw_g (lw_at lw_m8 24 rfl) rfl
theorem q1807 : (Jvm.Cond.fieldLink "RugReaderModel" (84 : Nat) "RugReaderModel" "queue" "[I") ∈ lw_all := lw_g (lw_at lw_m8 25 rfl) rfl
theorem q1808 : (Jvm.Cond.fieldLink "RugReaderModel" (87 : Nat) "RugReaderModel" "seenRow" "[I") ∈ lw_all := lw_g (lw_at lw_m8 26 rfl) rfl
theorem q1809 : (Jvm.Cond.fieldLink "RugReaderModel" (90 : Nat) "RugReaderModel" "laid" "[Z") ∈ lw_all := lw_g (lw_at lw_m8 27 rfl) rfl
theorem q1810 : (Jvm.Cond.fieldLink "RugReaderModel" (371 : Nat) "RugReaderModel" "seenMany" "I") ∈ lw_all := lw_g (lw_at lw_m8 28 rfl) rfl
theorem q1811 : (Jvm.Cond.fieldLink "RugReaderModel" (353 : Nat) "RugReaderModel" "queueMany" "I") ∈ lw_all := lw_g (lw_at lw_m8 29 rfl) rfl
theorem q1812 : (Jvm.Cond.fieldLink "RugReaderModel" (383 : Nat) "RugReaderModel" "seed" "I") ∈ lw_all := lw_g (lw_at lw_m8 30 rfl) rfl
theorem q1813 : (Jvm.Cond.fieldLink "RugReaderModel" (94 : Nat) "RugReaderModel" "stack" "[I") ∈ lw_all := lw_g (lw_at lw_m8 31 rfl) rfl
theorem q1814 : (Jvm.Cond.fieldLink "RugReaderModel" (390 : Nat) "RugReaderModel" "codes" "I") ∈ lw_all := lw_g (lw_at lw_m8 32 rfl) rfl
theorem q1815 : (Jvm.Cond.fieldLink "RugReaderModel" (405 : Nat) "RugReaderModel" "ones" "I") ∈ lw_all := lw_g (lw_at lw_m8 33 rfl) rfl
theorem q1816 : (Jvm.Cond.fieldLink "RugReaderModel" (393 : Nat) "RugReaderModel" "top" "I") ∈ lw_all := lw_g (lw_at lw_m8 34 rfl) rfl
theorem q1817 : (Jvm.Cond.fieldLink "RugReaderModel" (399 : Nat) "RugReaderModel" "deep" "I") ∈ lw_all := lw_g (lw_at lw_m8 35 rfl) rfl
theorem q1818 : (Jvm.Cond.fieldLink "RugReaderModel" (408 : Nat) "RugReaderModel" "isWhole" "Z") ∈ lw_all := lw_g (lw_at lw_m8 36 rfl) rfl
theorem q1819 : (Jvm.Cond.fieldLink "RugReaderModel" (97 : Nat) "RugReaderModel" "values" "[Z") ∈ lw_all := lw_g (lw_at lw_m8 37 rfl) rfl
theorem q1820 : (Jvm.Cond.fieldLink "RugReaderModel" (100 : Nat) "RugReaderModel" "kept" "[I") ∈ lw_all := lw_g (lw_at lw_m8 38 rfl) rfl
theorem q1821 : (Jvm.Cond.fieldLink "RugReaderModel" (103 : Nat) "RugReaderModel" "namesKept" "[J") ∈ lw_all := lw_g (lw_at lw_m8 39 rfl) rfl
theorem q1822 : (Jvm.Cond.fieldLink "RugReaderModel" (106 : Nat) "RugReaderModel" "isKept" "[Z") ∈ lw_all := lw_g (lw_at lw_m8 40 rfl) rfl
theorem q1823 : (Jvm.Cond.lays "RugReaderModel" "RugReaderModel" "thrown" "I") ∈ lw_all := lw_g (lw_at lw_m8 41 rfl) rfl
theorem q1824 : (Jvm.Cond.soleField "RugReaderModel" "thrown") ∈ lw_all := lw_g (lw_at lw_m8 42 rfl) rfl
theorem q1825 : (Jvm.Cond.laysFinal "RugReaderModel" "RugReaderModel" "tape" "[B") ∈ lw_all := lw_g (lw_at lw_m8 43 rfl) rfl
theorem q1826 : (Jvm.Cond.soleField "RugReaderModel" "tape") ∈ lw_all := lw_g (lw_at lw_m8 44 rfl) rfl
theorem q1827 : (Jvm.Cond.lays "RugReaderModel" "RugReaderModel" "length" "I") ∈ lw_all := lw_g (lw_at lw_m8 45 rfl) rfl
theorem q1828 : (Jvm.Cond.soleField "RugReaderModel" "length") ∈ lw_all := lw_g (lw_at lw_m8 46 rfl) rfl
theorem q1829 : (Jvm.Cond.lays "RugReaderModel" "RugReaderModel" "size" "I") ∈ lw_all := lw_g (lw_at lw_m8 47 rfl) rfl
theorem q1830 : (Jvm.Cond.soleField "RugReaderModel" "size") ∈ lw_all := lw_g (lw_at lw_m8 48 rfl) rfl
theorem q1831 : (Jvm.Cond.lays "RugReaderModel" "RugReaderModel" "p" "I") ∈ lw_all := lw_g (lw_at lw_m8 49 rfl) rfl
theorem q1832 : (Jvm.Cond.soleField "RugReaderModel" "p") ∈ lw_all := lw_g (lw_at lw_m8 50 rfl) rfl
theorem q1833 : (Jvm.Cond.lays "RugReaderModel" "RugReaderModel" "limit" "I") ∈ lw_all := lw_g (lw_at lw_m8 51 rfl) rfl
theorem q1834 : (Jvm.Cond.soleField "RugReaderModel" "limit") ∈ lw_all := lw_g (lw_at lw_m8 52 rfl) rfl
theorem q1835 : (Jvm.Cond.laysFinal "RugReaderModel" "RugReaderModel" "s" "[I") ∈ lw_all := lw_g (lw_at lw_m8 53 rfl) rfl
theorem q1836 : (Jvm.Cond.soleField "RugReaderModel" "s") ∈ lw_all := lw_g (lw_at lw_m8 54 rfl) rfl
theorem q1837 : (Jvm.Cond.laysFinal "RugReaderModel" "RugReaderModel" "h" "[I") ∈ lw_all := lw_g (lw_at lw_m8 55 rfl) rfl
theorem q1838 : (Jvm.Cond.soleField "RugReaderModel" "h") ∈ lw_all := lw_g (lw_at lw_m8 56 rfl) rfl
theorem q1839 : (Jvm.Cond.laysFinal "RugReaderModel" "RugReaderModel" "read" "[I") ∈ lw_all := lw_g (lw_at lw_m8 57 rfl) rfl
theorem q1840 : (Jvm.Cond.soleField "RugReaderModel" "read") ∈ lw_all := lw_g (lw_at lw_m8 58 rfl) rfl
theorem q1841 : (Jvm.Cond.laysFinal "RugReaderModel" "RugReaderModel" "names" "[J") ∈ lw_all := lw_g (lw_at lw_m8 59 rfl) rfl
theorem q1842 : (Jvm.Cond.soleField "RugReaderModel" "names") ∈ lw_all := lw_g (lw_at lw_m8 60 rfl) rfl
theorem q1843 : (Jvm.Cond.laysFinal "RugReaderModel" "RugReaderModel" "reserved" "[J") ∈ lw_all := lw_g (lw_at lw_m8 61 rfl) rfl
theorem q1844 : (Jvm.Cond.soleField "RugReaderModel" "reserved") ∈ lw_all := lw_g (lw_at lw_m8 62 rfl) rfl
theorem q1845 : (Jvm.Cond.lays "RugReaderModel" "RugReaderModel" "token" "I") ∈ lw_all := lw_g (lw_at lw_m8 63 rfl) rfl
theorem q1846 : (Jvm.Cond.soleField "RugReaderModel" "token") ∈ lw_all := lw_g (lw_at lw_m8 64 rfl) rfl
theorem q1847 : (Jvm.Cond.lays "RugReaderModel" "RugReaderModel" "at" "I") ∈ lw_all := lw_g (lw_at lw_m8 65 rfl) rfl
theorem q1848 : (Jvm.Cond.soleField "RugReaderModel" "at") ∈ lw_all := lw_g (lw_at lw_m8 66 rfl) rfl
theorem q1849 : (Jvm.Cond.lays "RugReaderModel" "RugReaderModel" "span" "I") ∈ lw_all := lw_g (lw_at lw_m8 67 rfl) rfl
theorem q1850 : (Jvm.Cond.soleField "RugReaderModel" "span") ∈ lw_all := lw_g (lw_at lw_m8 68 rfl) rfl
theorem q1851 : (Jvm.Cond.lays "RugReaderModel" "RugReaderModel" "number" "I") ∈ lw_all := lw_g (lw_at lw_m8 69 rfl) rfl
theorem q1852 : (Jvm.Cond.soleField "RugReaderModel" "number") ∈ lw_all := lw_g (lw_at lw_m8 70 rfl) rfl
theorem q1853 : (Jvm.Cond.lays "RugReaderModel" "RugReaderModel" "fault" "I") ∈ lw_all := lw_g (lw_at lw_m8 71 rfl) rfl
theorem q1854 : (Jvm.Cond.soleField "RugReaderModel" "fault") ∈ lw_all := lw_g (lw_at lw_m8 72 rfl) rfl
theorem q1855 : (Jvm.Cond.lays "RugReaderModel" "RugReaderModel" "faultAt" "I") ∈ lw_all := lw_g (lw_at lw_m8 73 rfl) rfl
theorem q1856 : (Jvm.Cond.soleField "RugReaderModel" "faultAt") ∈ lw_all := lw_g (lw_at lw_m8 74 rfl) rfl
theorem q1857 : (Jvm.Cond.lays "RugReaderModel" "RugReaderModel" "word" "J") ∈ lw_all := lw_g (lw_at lw_m8 75 rfl) rfl
theorem q1858 : (Jvm.Cond.soleField "RugReaderModel" "word") ∈ lw_all := lw_g (lw_at lw_m8 76 rfl) rfl
theorem q1859 : (Jvm.Cond.lays "RugReaderModel" "RugReaderModel" "got" "I") ∈ lw_all := lw_g (lw_at lw_m8 77 rfl) rfl
theorem q1860 : (Jvm.Cond.soleField "RugReaderModel" "got") ∈ lw_all := lw_g (lw_at lw_m8 78 rfl) rfl
theorem q1861 : (Jvm.Cond.lays "RugReaderModel" "RugReaderModel" "lines" "I") ∈ lw_all := lw_g (lw_at lw_m8 79 rfl) rfl
theorem q1862 : (Jvm.Cond.soleField "RugReaderModel" "lines") ∈ lw_all := lw_g (lw_at lw_m8 80 rfl) rfl
theorem q1863 : (Jvm.Cond.lays "RugReaderModel" "RugReaderModel" "hasRug" "Z") ∈ lw_all := lw_g (lw_at lw_m8 81 rfl) rfl
theorem q1864 : (Jvm.Cond.soleField "RugReaderModel" "hasRug") ∈ lw_all := lw_g (lw_at lw_m8 82 rfl) rfl
theorem q1865 : (Jvm.Cond.lays "RugReaderModel" "RugReaderModel" "hasFade" "Z") ∈ lw_all := lw_g (lw_at lw_m8 83 rfl) rfl
theorem q1866 : (Jvm.Cond.soleField "RugReaderModel" "hasFade") ∈ lw_all := lw_g (lw_at lw_m8 84 rfl) rfl
theorem q1867 : (Jvm.Cond.laysFinal "RugReaderModel" "RugReaderModel" "undone" "[I") ∈ lw_all := lw_g (lw_at lw_m8 85 rfl) rfl
theorem q1868 : (Jvm.Cond.soleField "RugReaderModel" "undone") ∈ lw_all := lw_g (lw_at lw_m8 86 rfl) rfl
theorem q1869 : (Jvm.Cond.lays "RugReaderModel" "RugReaderModel" "undoMany" "I") ∈ lw_all := lw_g (lw_at lw_m8 87 rfl) rfl
theorem q1870 : (Jvm.Cond.soleField "RugReaderModel" "undoMany") ∈ lw_all := lw_g (lw_at lw_m8 88 rfl) rfl
theorem q1871 : (Jvm.Cond.laysFinal "RugReaderModel" "RugReaderModel" "treadsOf" "[I") ∈ lw_all := lw_g (lw_at lw_m8 89 rfl) rfl
theorem q1872 : (Jvm.Cond.soleField "RugReaderModel" "treadsOf") ∈ lw_all := lw_g (lw_at lw_m8 90 rfl) rfl
theorem q1873 : (Jvm.Cond.laysFinal "RugReaderModel" "RugReaderModel" "who" "[I") ∈ lw_all := lw_g (lw_at lw_m8 91 rfl) rfl
theorem q1874 : (Jvm.Cond.soleField "RugReaderModel" "who") ∈ lw_all := lw_g (lw_at lw_m8 92 rfl) rfl
theorem q1875 : (Jvm.Cond.laysFinal "RugReaderModel" "RugReaderModel" "firstRead" "[I") ∈ lw_all := lw_g (lw_at lw_m8 93 rfl) rfl
theorem q1876 : (Jvm.Cond.soleField "RugReaderModel" "firstRead") ∈ lw_all := lw_g (lw_at lw_m8 94 rfl) rfl
theorem q1877 : (Jvm.Cond.laysFinal "RugReaderModel" "RugReaderModel" "allRead" "[I") ∈ lw_all := lw_g (lw_at lw_m8 95 rfl) rfl
theorem q1878 : (Jvm.Cond.soleField "RugReaderModel" "allRead") ∈ lw_all := lw_g (lw_at lw_m8 96 rfl) rfl
theorem q1879 : (Jvm.Cond.lays "RugReaderModel" "RugReaderModel" "readWays" "I") ∈ lw_all := lw_g (lw_at lw_m8 97 rfl) rfl
theorem q1880 : (Jvm.Cond.soleField "RugReaderModel" "readWays") ∈ lw_all := lw_g (lw_at lw_m8 98 rfl) rfl
theorem q1881 : (Jvm.Cond.lays "RugReaderModel" "RugReaderModel" "fewestRead" "I") ∈ lw_all := lw_g (lw_at lw_m8 99 rfl) rfl
theorem q1882 : (Jvm.Cond.soleField "RugReaderModel" "fewestRead") ∈ lw_all := lw_g (lw_at lw_m8 100 rfl) rfl
theorem q1883 : (Jvm.Cond.laysFinal "RugReaderModel" "RugReaderModel" "cost" "[I") ∈ lw_all := lw_g (lw_at lw_m8 101 rfl) rfl
theorem q1884 : (Jvm.Cond.soleField "RugReaderModel" "cost") ∈ lw_all := lw_g (lw_at lw_m8 102 rfl) rfl
theorem q1885 : (Jvm.Cond.laysFinal "RugReaderModel" "RugReaderModel" "walkedAt" "[I") ∈ lw_all := lw_g (lw_at lw_m8 103 rfl) rfl
theorem q1886 : (Jvm.Cond.soleField "RugReaderModel" "walkedAt") ∈ lw_all := lw_g (lw_at lw_m8 104 rfl) rfl
theorem q1887 : (Jvm.Cond.lays "RugReaderModel" "RugReaderModel" "goer" "I") ∈ lw_all := lw_g (lw_at lw_m8 105 rfl) rfl
theorem q1888 : (Jvm.Cond.soleField "RugReaderModel" "goer") ∈ lw_all := lw_g (lw_at lw_m8 106 rfl) rfl
theorem q1889 : (Jvm.Cond.lays "RugReaderModel" "RugReaderModel" "startAt" "I") ∈ lw_all := lw_g (lw_at lw_m8 107 rfl) rfl
theorem q1890 : (Jvm.Cond.soleField "RugReaderModel" "startAt") ∈ lw_all := lw_g (lw_at lw_m8 108 rfl) rfl
theorem q1891 : (Jvm.Cond.lays "RugReaderModel" "RugReaderModel" "walkLines" "I") ∈ lw_all := lw_g (lw_at lw_m8 109 rfl) rfl
theorem q1892 : (Jvm.Cond.soleField "RugReaderModel" "walkLines") ∈ lw_all := lw_g (lw_at lw_m8 110 rfl) rfl
theorem q1893 : (Jvm.Cond.lays "RugReaderModel" "RugReaderModel" "hasWalked" "Z") ∈ lw_all := lw_g (lw_at lw_m8 111 rfl) rfl
theorem q1894 : (Jvm.Cond.soleField "RugReaderModel" "hasWalked") ∈ lw_all := lw_g (lw_at lw_m8 112 rfl) rfl
theorem q1895 : (Jvm.Cond.laysFinal "RugReaderModel" "RugReaderModel" "runs" "[I") ∈ lw_all := lw_g (lw_at lw_m8 113 rfl) rfl
theorem q1896 : (Jvm.Cond.soleField "RugReaderModel" "runs") ∈ lw_all := lw_g (lw_at lw_m8 114 rfl) rfl
theorem q1897 : (Jvm.Cond.laysFinal "RugReaderModel" "RugReaderModel" "over" "[I") ∈ lw_all := lw_g (lw_at lw_m8 115 rfl) rfl
theorem q1898 : (Jvm.Cond.soleField "RugReaderModel" "over") ∈ lw_all := lw_g (lw_at lw_m8 116 rfl) rfl
theorem q1899 : (Jvm.Cond.laysFinal "RugReaderModel" "RugReaderModel" "ahead" "[I") ∈ lw_all := lw_g (lw_at lw_m8 117 rfl) rfl
theorem q1900 : (Jvm.Cond.soleField "RugReaderModel" "ahead") ∈ lw_all := lw_g (lw_at lw_m8 118 rfl) rfl
theorem q1901 : (Jvm.Cond.laysFinal "RugReaderModel" "RugReaderModel" "queue" "[I") ∈ lw_all := lw_g (lw_at lw_m8 119 rfl) rfl
theorem q1902 : (Jvm.Cond.soleField "RugReaderModel" "queue") ∈ lw_all := lw_g (lw_at lw_m8 120 rfl) rfl
theorem q1903 : (Jvm.Cond.laysFinal "RugReaderModel" "RugReaderModel" "seenRow" "[I") ∈ lw_all := lw_g (lw_at lw_m8 121 rfl) rfl
theorem q1904 : (Jvm.Cond.soleField "RugReaderModel" "seenRow") ∈ lw_all := lw_g (lw_at lw_m8 122 rfl) rfl
theorem q1905 : (Jvm.Cond.laysFinal "RugReaderModel" "RugReaderModel" "laid" "[Z") ∈ lw_all := lw_g (lw_at lw_m8 123 rfl) rfl
theorem q1906 : (Jvm.Cond.soleField "RugReaderModel" "laid") ∈ lw_all := lw_g (lw_at lw_m8 124 rfl) rfl
theorem q1907 : (Jvm.Cond.lays "RugReaderModel" "RugReaderModel" "seenMany" "I") ∈ lw_all := lw_g (lw_at lw_m8 125 rfl) rfl
theorem q1908 : (Jvm.Cond.soleField "RugReaderModel" "seenMany") ∈ lw_all := lw_g (lw_at lw_m8 126 rfl) rfl
theorem q1909 : (Jvm.Cond.lays "RugReaderModel" "RugReaderModel" "queueMany" "I") ∈ lw_all := lw_g (lw_at lw_m8 127 rfl) rfl
theorem q1910 : (Jvm.Cond.soleField "RugReaderModel" "queueMany") ∈ lw_all := lw_g (lw_at lw_m8 128 rfl) rfl
theorem q1911 : (Jvm.Cond.lays "RugReaderModel" "RugReaderModel" "seed" "I") ∈ lw_all := lw_g (lw_at lw_m8 129 rfl) rfl
theorem q1912 : (Jvm.Cond.soleField "RugReaderModel" "seed") ∈ lw_all := lw_g (lw_at lw_m8 130 rfl) rfl
theorem q1913 : (Jvm.Cond.laysFinal "RugReaderModel" "RugReaderModel" "stack" "[I") ∈ lw_all := lw_g (lw_at lw_m8 131 rfl) rfl
theorem q1914 : (Jvm.Cond.soleField "RugReaderModel" "stack") ∈ lw_all := lw_g (lw_at lw_m8 132 rfl) rfl
theorem q1915 : (Jvm.Cond.lays "RugReaderModel" "RugReaderModel" "codes" "I") ∈ lw_all := lw_g (lw_at lw_m8 133 rfl) rfl
theorem q1916 : (Jvm.Cond.soleField "RugReaderModel" "codes") ∈ lw_all := lw_g (lw_at lw_m8 134 rfl) rfl
theorem q1917 : (Jvm.Cond.lays "RugReaderModel" "RugReaderModel" "ones" "I") ∈ lw_all := lw_g (lw_at lw_m8 135 rfl) rfl
theorem q1918 : (Jvm.Cond.soleField "RugReaderModel" "ones") ∈ lw_all := lw_g (lw_at lw_m8 136 rfl) rfl
theorem q1919 : (Jvm.Cond.lays "RugReaderModel" "RugReaderModel" "top" "I") ∈ lw_all := lw_g (lw_at lw_m8 137 rfl) rfl
theorem q1920 : (Jvm.Cond.soleField "RugReaderModel" "top") ∈ lw_all := lw_g (lw_at lw_m8 138 rfl) rfl
theorem q1921 : (Jvm.Cond.lays "RugReaderModel" "RugReaderModel" "deep" "I") ∈ lw_all := lw_g (lw_at lw_m8 139 rfl) rfl
theorem q1922 : (Jvm.Cond.soleField "RugReaderModel" "deep") ∈ lw_all := lw_g (lw_at lw_m8 140 rfl) rfl
theorem q1923 : (Jvm.Cond.lays "RugReaderModel" "RugReaderModel" "isWhole" "Z") ∈ lw_all := lw_g (lw_at lw_m8 141 rfl) rfl
theorem q1924 : (Jvm.Cond.soleField "RugReaderModel" "isWhole") ∈ lw_all := lw_g (lw_at lw_m8 142 rfl) rfl
theorem q1925 : (Jvm.Cond.laysFinal "RugReaderModel" "RugReaderModel" "values" "[Z") ∈ lw_all := lw_g (lw_at lw_m8 143 rfl) rfl
theorem q1926 : (Jvm.Cond.soleField "RugReaderModel" "values") ∈ lw_all := lw_g (lw_at lw_m8 144 rfl) rfl
theorem q1927 : (Jvm.Cond.laysFinal "RugReaderModel" "RugReaderModel" "kept" "[I") ∈ lw_all := lw_g (lw_at lw_m8 145 rfl) rfl
theorem q1928 : (Jvm.Cond.soleField "RugReaderModel" "kept") ∈ lw_all := lw_g (lw_at lw_m8 146 rfl) rfl
theorem q1929 : (Jvm.Cond.laysFinal "RugReaderModel" "RugReaderModel" "namesKept" "[J") ∈ lw_all := lw_g (lw_at lw_m8 147 rfl) rfl
theorem q1930 : (Jvm.Cond.soleField "RugReaderModel" "namesKept") ∈ lw_all := lw_g (lw_at lw_m8 148 rfl) rfl
theorem q1931 : (Jvm.Cond.laysFinal "RugReaderModel" "RugReaderModel" "isKept" "[Z") ∈ lw_all := lw_g (lw_at lw_m8 149 rfl) rfl
theorem q1932 : (Jvm.Cond.soleField "RugReaderModel" "isKept") ∈ lw_all := lw_g (lw_at lw_m8 150 rfl) rfl
theorem q1933 : (Jvm.Cond.superclass "RugReaderModel" "java/lang/Object") ∈ lw_all := lw_g (lw_at lw_m8 151 rfl) rfl
theorem q1936 : (Jvm.Cond.instanceMethod ({ cls := "RugReaderModel", name := "house", desc := "()I" } : Jvm.MethodName)) ∈ lw_all := lw_g (lw_at lw_m8 154 rfl) rfl
theorem q1937 : (Jvm.Cond.selects "RugReaderModel" ({ cls := "RugReaderModel", name := "house", desc := "()I" } : Jvm.MethodName) ({ cls := "RugReaderModel", name := "house", desc := "()I" } : Jvm.MethodName)) ∈ lw_all := lw_g (lw_at lw_m8 155 rfl) rfl
theorem q1938 : (Jvm.Cond.code ({ cls := "RugReaderModel", name := "house", desc := "()I" } : Jvm.MethodName) prog_19_method_28_code (2 : Nat) (Option.some Jvm.ClassFile.FieldType.int)) ∈ lw_all := lw_g (lw_at lw_m8 156 rfl) rfl
theorem q1939 : (Jvm.Cond.methodLink "RugReaderModel" (237 : Nat) ({ cls := "RugReaderModel", name := "taken", desc := "(I)V" } : Jvm.MethodName)) ∈ lw_all := lw_g (lw_at lw_m8 157 rfl) rfl
theorem q1940 : (Jvm.Cond.privateMethod ({ cls := "RugReaderModel", name := "taken", desc := "(I)V" } : Jvm.MethodName)) ∈ lw_tbl := lw_at lw_m8 158 rfl
theorem q1941 : (Jvm.Cond.instanceMethod ({ cls := "RugReaderModel", name := "taken", desc := "(I)V" } : Jvm.MethodName)) ∈ lw_all := lw_g (lw_at lw_m8 159 rfl) rfl
theorem q1942 : (Jvm.Cond.code ({ cls := "RugReaderModel", name := "taken", desc := "(I)V" } : Jvm.MethodName) prog_19_method_6_code (2 : Nat) (Option.none : Option Jvm.ClassFile.FieldType)) ∈ lw_all := lw_g (lw_at lw_m8 160 rfl) rfl
theorem q1943 : (Jvm.Cond.methodLink "RugReaderModel" (188 : Nat) ({ cls := "RugReaderModel", name := "next", desc := "()V" } : Jvm.MethodName)) ∈ lw_all := lw_g (lw_at lw_m8 161 rfl) rfl
theorem q1944 : (Jvm.Cond.privateMethod ({ cls := "RugReaderModel", name := "next", desc := "()V" } : Jvm.MethodName)) ∈ lw_tbl := lw_at lw_m8 162 rfl
theorem q1945 : (Jvm.Cond.instanceMethod ({ cls := "RugReaderModel", name := "next", desc := "()V" } : Jvm.MethodName)) ∈ lw_all := lw_g (lw_at lw_m8 163 rfl) rfl
theorem q1946 : (Jvm.Cond.code ({ cls := "RugReaderModel", name := "next", desc := "()V" } : Jvm.MethodName) prog_19_method_14_code (4 : Nat) (Option.none : Option Jvm.ClassFile.FieldType)) ∈ lw_all := lw_g (lw_at lw_m8 164 rfl) rfl
theorem q1947 : (Jvm.Cond.methodLink "RugReaderModel" (149 : Nat) ({ cls := "RugReaderModel", name := "peek", desc := "()I" } : Jvm.MethodName)) ∈ lw_all := lw_g (lw_at lw_m8 165 rfl) rfl
theorem q1948 : (Jvm.Cond.privateMethod ({ cls := "RugReaderModel", name := "peek", desc := "()I" } : Jvm.MethodName)) ∈ lw_tbl := lw_at lw_m8 166 rfl
theorem q1949 : (Jvm.Cond.instanceMethod ({ cls := "RugReaderModel", name := "peek", desc := "()I" } : Jvm.MethodName)) ∈ lw_all := lw_g (lw_at lw_m8 167 rfl) rfl
theorem q1950 : (Jvm.Cond.code ({ cls := "RugReaderModel", name := "peek", desc := "()I" } : Jvm.MethodName) prog_19_method_11_code (1 : Nat) (Option.some Jvm.ClassFile.FieldType.int)) ∈ lw_all := lw_g (lw_at lw_m8 168 rfl) rfl
theorem q1951 : (Jvm.Cond.methodLink "RugReaderModel" (162 : Nat) ({ cls := "RugReaderModel", name := "isSmall", desc := "(I)Z" } : Jvm.MethodName)) ∈ lw_all := lw_g (lw_at lw_m8 169 rfl) rfl
theorem q1952 : (Jvm.Cond.static ({ cls := "RugReaderModel", name := "isSmall", desc := "(I)Z" } : Jvm.MethodName)) ∈ lw_all := lw_g (lw_at lw_m8 170 rfl) rfl
theorem q1953 : (Jvm.Cond.code ({ cls := "RugReaderModel", name := "isSmall", desc := "(I)Z" } : Jvm.MethodName) prog_19_method_12_code (1 : Nat) (Option.some Jvm.ClassFile.FieldType.boolean)) ∈ lw_all := lw_g (lw_at lw_m8 171 rfl) rfl
theorem q1954 : (Jvm.Cond.methodLink "RugReaderModel" (166 : Nat) ({ cls := "RugReaderModel", name := "isDigit", desc := "(I)Z" } : Jvm.MethodName)) ∈ lw_all := lw_g (lw_at lw_m8 172 rfl) rfl
theorem q1955 : (Jvm.Cond.static ({ cls := "RugReaderModel", name := "isDigit", desc := "(I)Z" } : Jvm.MethodName)) ∈ lw_all := lw_g (lw_at lw_m8 173 rfl) rfl
theorem q1956 : (Jvm.Cond.code ({ cls := "RugReaderModel", name := "isDigit", desc := "(I)Z" } : Jvm.MethodName) prog_19_method_13_code (1 : Nat) (Option.some Jvm.ClassFile.FieldType.boolean)) ∈ lw_all := lw_g (lw_at lw_m8 174 rfl) rfl
theorem q1957 : (Jvm.Cond.methodLink "RugReaderModel" (243 : Nat) ({ cls := "RugReaderModel", name := "line", desc := "()Z" } : Jvm.MethodName)) ∈ lw_all := lw_g (lw_at lw_m8 175 rfl) rfl
theorem q1958 : (Jvm.Cond.privateMethod ({ cls := "RugReaderModel", name := "line", desc := "()Z" } : Jvm.MethodName)) ∈ lw_tbl := lw_at lw_m8 176 rfl
theorem q1959 : (Jvm.Cond.instanceMethod ({ cls := "RugReaderModel", name := "line", desc := "()Z" } : Jvm.MethodName)) ∈ lw_all := lw_g (lw_at lw_m8 177 rfl) rfl
theorem q1960 : (Jvm.Cond.code ({ cls := "RugReaderModel", name := "line", desc := "()Z" } : Jvm.MethodName) prog_19_method_23_code (2 : Nat) (Option.some Jvm.ClassFile.FieldType.boolean)) ∈ lw_all := lw_g (lw_at lw_m8 178 rfl) rfl
theorem q1961 : (Jvm.Cond.methodLink "RugReaderModel" (206 : Nat) ({ cls := "RugReaderModel", name := "isWord", desc := "(J)Z" } : Jvm.MethodName)) ∈ lw_all := lw_g (lw_at lw_m8 179 rfl) rfl
theorem q1962 : (Jvm.Cond.privateMethod ({ cls := "RugReaderModel", name := "isWord", desc := "(J)Z" } : Jvm.MethodName)) ∈ lw_tbl := lw_at lw_m8 180 rfl
theorem q1963 : (Jvm.Cond.instanceMethod ({ cls := "RugReaderModel", name := "isWord", desc := "(J)Z" } : Jvm.MethodName)) ∈ lw_all := lw_g (lw_at lw_m8 181 rfl) rfl
theorem q1964 : (Jvm.Cond.code ({ cls := "RugReaderModel", name := "isWord", desc := "(J)Z" } : Jvm.MethodName) prog_19_method_16_code (3 : Nat) (Option.some Jvm.ClassFile.FieldType.boolean)) ∈ lw_all := lw_g (lw_at lw_m8 182 rfl) rfl
theorem q1965 : (Jvm.Cond.methodLink "RugReaderModel" (185 : Nat) ({ cls := "RugReaderModel", name := "bad", desc := "(I)Z" } : Jvm.MethodName)) ∈ lw_all := lw_g (lw_at lw_m8 183 rfl) rfl
theorem q1966 : (Jvm.Cond.privateMethod ({ cls := "RugReaderModel", name := "bad", desc := "(I)Z" } : Jvm.MethodName)) ∈ lw_tbl := lw_at lw_m8 184 rfl
theorem q1967 : (Jvm.Cond.instanceMethod ({ cls := "RugReaderModel", name := "bad", desc := "(I)Z" } : Jvm.MethodName)) ∈ lw_all := lw_g (lw_at lw_m8 185 rfl) rfl
theorem q1968 : (Jvm.Cond.code ({ cls := "RugReaderModel", name := "bad", desc := "(I)Z" } : Jvm.MethodName) prog_19_method_15_code (2 : Nat) (Option.some Jvm.ClassFile.FieldType.boolean)) ∈ lw_all := lw_g (lw_at lw_m8 186 rfl) rfl
theorem q1969 : (Jvm.Cond.methodLink "RugReaderModel" (214 : Nat) ({ cls := "RugReaderModel", name := "takes", desc := "(II)Z" } : Jvm.MethodName)) ∈ lw_all := lw_g (lw_at lw_m8 187 rfl) rfl
theorem q1970 : (Jvm.Cond.privateMethod ({ cls := "RugReaderModel", name := "takes", desc := "(II)Z" } : Jvm.MethodName)) ∈ lw_tbl := lw_at lw_m8 188 rfl
theorem q1971 : (Jvm.Cond.instanceMethod ({ cls := "RugReaderModel", name := "takes", desc := "(II)Z" } : Jvm.MethodName)) ∈ lw_all := lw_g (lw_at lw_m8 189 rfl) rfl
theorem q1972 : (Jvm.Cond.code ({ cls := "RugReaderModel", name := "takes", desc := "(II)Z" } : Jvm.MethodName) prog_19_method_20_code (3 : Nat) (Option.some Jvm.ClassFile.FieldType.boolean)) ∈ lw_all := lw_g (lw_at lw_m8 190 rfl) rfl
theorem q1973 : (Jvm.Cond.methodLink "RugReaderModel" (191 : Nat) ({ cls := "RugReaderModel", name := "isIn", desc := "(III)Z" } : Jvm.MethodName)) ∈ lw_all := lw_g (lw_at lw_m8 191 rfl) rfl
theorem q1974 : (Jvm.Cond.static ({ cls := "RugReaderModel", name := "isIn", desc := "(III)Z" } : Jvm.MethodName)) ∈ lw_all := lw_g (lw_at lw_m8 192 rfl) rfl
theorem q1975 : (Jvm.Cond.code ({ cls := "RugReaderModel", name := "isIn", desc := "(III)Z" } : Jvm.MethodName) prog_19_method_7_code (3 : Nat) (Option.some Jvm.ClassFile.FieldType.boolean)) ∈ lw_all := lw_g (lw_at lw_m8 193 rfl) rfl
theorem q1976 : (Jvm.Cond.methodLink "RugReaderModel" (218 : Nat) ({ cls := "RugReaderModel", name := "fresh", desc := "(I)Z" } : Jvm.MethodName)) ∈ lw_all := lw_g (lw_at lw_m8 194 rfl) rfl
theorem q1977 : (Jvm.Cond.privateMethod ({ cls := "RugReaderModel", name := "fresh", desc := "(I)Z" } : Jvm.MethodName)) ∈ lw_tbl := lw_at lw_m8 195 rfl
theorem q1978 : (Jvm.Cond.instanceMethod ({ cls := "RugReaderModel", name := "fresh", desc := "(I)Z" } : Jvm.MethodName)) ∈ lw_all := lw_g (lw_at lw_m8 196 rfl) rfl
theorem q1979 : (Jvm.Cond.code ({ cls := "RugReaderModel", name := "fresh", desc := "(I)Z" } : Jvm.MethodName) prog_19_method_22_code (2 : Nat) (Option.some Jvm.ClassFile.FieldType.boolean)) ∈ lw_all := lw_g (lw_at lw_m8 197 rfl) rfl
theorem q1980 : (Jvm.Cond.methodLink "RugReaderModel" (198 : Nat) ({ cls := "RugReaderModel", name := "isName", desc := "()Z" } : Jvm.MethodName)) ∈ lw_all := lw_g (lw_at lw_m8 198 rfl) rfl
theorem q1981 : (Jvm.Cond.privateMethod ({ cls := "RugReaderModel", name := "isName", desc := "()Z" } : Jvm.MethodName)) ∈ lw_tbl := lw_at lw_m8 199 rfl
theorem q1982 : (Jvm.Cond.instanceMethod ({ cls := "RugReaderModel", name := "isName", desc := "()Z" } : Jvm.MethodName)) ∈ lw_all := lw_g (lw_at lw_m8 200 rfl) rfl
theorem q1983 : (Jvm.Cond.code ({ cls := "RugReaderModel", name := "isName", desc := "()Z" } : Jvm.MethodName) prog_19_method_19_code (3 : Nat) (Option.some Jvm.ClassFile.FieldType.boolean)) ∈ lw_all := lw_g (lw_at lw_m8 201 rfl) rfl
theorem q1984 : (Jvm.Cond.methodLink "RugReaderModel" (202 : Nat) ({ cls := "RugReaderModel", name := "find", desc := "(II)I" } : Jvm.MethodName)) ∈ lw_all := lw_g (lw_at lw_m8 202 rfl) rfl
theorem q1985 : (Jvm.Cond.privateMethod ({ cls := "RugReaderModel", name := "find", desc := "(II)I" } : Jvm.MethodName)) ∈ lw_tbl := lw_at lw_m8 203 rfl
theorem q1986 : (Jvm.Cond.instanceMethod ({ cls := "RugReaderModel", name := "find", desc := "(II)I" } : Jvm.MethodName)) ∈ lw_all := lw_g (lw_at lw_m8 204 rfl) rfl
theorem q1987 : (Jvm.Cond.code ({ cls := "RugReaderModel", name := "find", desc := "(II)I" } : Jvm.MethodName) prog_19_method_21_code (4 : Nat) (Option.some Jvm.ClassFile.FieldType.int)) ∈ lw_all := lw_g (lw_at lw_m8 205 rfl) rfl
theorem q1988 : (Jvm.Cond.methodLink "RugReaderModel" (221 : Nat) ({ cls := "RugReaderModel", name := "looksAtTuft", desc := "()Z" } : Jvm.MethodName)) ∈ lw_all := lw_g (lw_at lw_m8 206 rfl) rfl
theorem q1989 : (Jvm.Cond.privateMethod ({ cls := "RugReaderModel", name := "looksAtTuft", desc := "()Z" } : Jvm.MethodName)) ∈ lw_tbl := lw_at lw_m8 207 rfl
theorem q1990 : (Jvm.Cond.instanceMethod ({ cls := "RugReaderModel", name := "looksAtTuft", desc := "()Z" } : Jvm.MethodName)) ∈ lw_all := lw_g (lw_at lw_m8 208 rfl) rfl
theorem q1991 : (Jvm.Cond.code ({ cls := "RugReaderModel", name := "looksAtTuft", desc := "()Z" } : Jvm.MethodName) prog_19_method_24_code (2 : Nat) (Option.some Jvm.ClassFile.FieldType.boolean)) ∈ lw_all := lw_g (lw_at lw_m8 209 rfl) rfl
theorem q1992 : (Jvm.Cond.methodLink "RugReaderModel" (224 : Nat) ({ cls := "RugReaderModel", name := "readWay", desc := "()Z" } : Jvm.MethodName)) ∈ lw_all := lw_g (lw_at lw_m8 210 rfl) rfl
theorem q1993 : (Jvm.Cond.privateMethod ({ cls := "RugReaderModel", name := "readWay", desc := "()Z" } : Jvm.MethodName)) ∈ lw_tbl := lw_at lw_m8 211 rfl
theorem q1994 : (Jvm.Cond.instanceMethod ({ cls := "RugReaderModel", name := "readWay", desc := "()Z" } : Jvm.MethodName)) ∈ lw_all := lw_g (lw_at lw_m8 212 rfl) rfl
theorem q1995 : (Jvm.Cond.code ({ cls := "RugReaderModel", name := "readWay", desc := "()Z" } : Jvm.MethodName) prog_19_method_27_code (7 : Nat) (Option.some Jvm.ClassFile.FieldType.boolean)) ∈ lw_all := lw_g (lw_at lw_m8 213 rfl) rfl
theorem q1996 : (Jvm.Cond.methodLink "RugReaderModel" (182 : Nat) ({ cls := "RugReaderModel", name := "isSign", desc := "(I)Z" } : Jvm.MethodName)) ∈ lw_all := lw_g (lw_at lw_m8 214 rfl) rfl
theorem q1997 : (Jvm.Cond.privateMethod ({ cls := "RugReaderModel", name := "isSign", desc := "(I)Z" } : Jvm.MethodName)) ∈ lw_tbl := lw_at lw_m8 215 rfl
theorem q1998 : (Jvm.Cond.instanceMethod ({ cls := "RugReaderModel", name := "isSign", desc := "(I)Z" } : Jvm.MethodName)) ∈ lw_all := lw_g (lw_at lw_m8 216 rfl) rfl
theorem q1999 : (Jvm.Cond.code ({ cls := "RugReaderModel", name := "isSign", desc := "(I)Z" } : Jvm.MethodName) prog_19_method_17_code (2 : Nat) (Option.some Jvm.ClassFile.FieldType.boolean)) ∈ lw_all := lw_g (lw_at lw_m8 217 rfl) rfl
theorem q2000 : (Jvm.Cond.methodLink "RugReaderModel" (230 : Nat) ({ cls := "RugReaderModel", name := "dirOfWord", desc := "()I" } : Jvm.MethodName)) ∈ lw_all := lw_g (lw_at lw_m8 218 rfl) rfl
theorem q2001 : (Jvm.Cond.privateMethod ({ cls := "RugReaderModel", name := "dirOfWord", desc := "()I" } : Jvm.MethodName)) ∈ lw_tbl := lw_at lw_m8 219 rfl
theorem q2002 : (Jvm.Cond.instanceMethod ({ cls := "RugReaderModel", name := "dirOfWord", desc := "()I" } : Jvm.MethodName)) ∈ lw_all := lw_g (lw_at lw_m8 220 rfl) rfl
theorem q2003 : (Jvm.Cond.code ({ cls := "RugReaderModel", name := "dirOfWord", desc := "()I" } : Jvm.MethodName) prog_19_method_25_code (1 : Nat) (Option.some Jvm.ClassFile.FieldType.int)) ∈ lw_all := lw_g (lw_at lw_m8 221 rfl) rfl
theorem q2004 : (Jvm.Cond.methodLink "RugReaderModel" (233 : Nat) ({ cls := "RugReaderModel", name := "besideOf", desc := "(IIII)I" } : Jvm.MethodName)) ∈ lw_all := lw_g (lw_at lw_m8 222 rfl) rfl
theorem q2005 : (Jvm.Cond.static ({ cls := "RugReaderModel", name := "besideOf", desc := "(IIII)I" } : Jvm.MethodName)) ∈ lw_all := lw_g (lw_at lw_m8 223 rfl) rfl
theorem q2006 : (Jvm.Cond.code ({ cls := "RugReaderModel", name := "besideOf", desc := "(IIII)I" } : Jvm.MethodName) prog_19_method_26_code (6 : Nat) (Option.some Jvm.ClassFile.FieldType.int)) ∈ lw_all := lw_g (lw_at lw_m8 224 rfl) rfl
theorem q2007 : (Jvm.Cond.methodLink "RugReaderModel" (246 : Nat) ({ cls := "RugReaderModel", name := "sign", desc := "(I)Z" } : Jvm.MethodName)) ∈ lw_all := lw_g (lw_at lw_m8 225 rfl) rfl
theorem q2008 : (Jvm.Cond.privateMethod ({ cls := "RugReaderModel", name := "sign", desc := "(I)Z" } : Jvm.MethodName)) ∈ lw_tbl := lw_at lw_m8 226 rfl
theorem q2009 : (Jvm.Cond.instanceMethod ({ cls := "RugReaderModel", name := "sign", desc := "(I)Z" } : Jvm.MethodName)) ∈ lw_all := lw_g (lw_at lw_m8 227 rfl) rfl
theorem q2010 : (Jvm.Cond.code ({ cls := "RugReaderModel", name := "sign", desc := "(I)Z" } : Jvm.MethodName) prog_19_method_18_code (2 : Nat) (Option.some Jvm.ClassFile.FieldType.boolean)) ∈ lw_all := lw_g (lw_at lw_m8 228 rfl) rfl
theorem q2012 : (Jvm.Cond.instanceMethod ({ cls := "RugReaderModel", name := "fault", desc := "()I" } : Jvm.MethodName)) ∈ lw_all := lw_g (lw_at lw_m8 230 rfl) rfl
theorem q2013 : (Jvm.Cond.selects "RugReaderModel" ({ cls := "RugReaderModel", name := "fault", desc := "()I" } : Jvm.MethodName) ({ cls := "RugReaderModel", name := "fault", desc := "()I" } : Jvm.MethodName)) ∈ lw_all := lw_g (lw_at lw_m8 231 rfl) rfl
theorem q2014 : (Jvm.Cond.code ({ cls := "RugReaderModel", name := "fault", desc := "()I" } : Jvm.MethodName) prog_19_method_29_code (1 : Nat) (Option.some Jvm.ClassFile.FieldType.int)) ∈ lw_all := lw_g (lw_at lw_m8 232 rfl) rfl
theorem q2016 : (Jvm.Cond.instanceMethod ({ cls := "RugReaderModel", name := "person", desc := "(II)I" } : Jvm.MethodName)) ∈ lw_all := lw_g (lw_at lw_m8 234 rfl) rfl
theorem q2017 : (Jvm.Cond.selects "RugReaderModel" ({ cls := "RugReaderModel", name := "person", desc := "(II)I" } : Jvm.MethodName) ({ cls := "RugReaderModel", name := "person", desc := "(II)I" } : Jvm.MethodName)) ∈ lw_all := lw_g (lw_at lw_m8 235 rfl) rfl
theorem q2018 : (Jvm.Cond.code ({ cls := "RugReaderModel", name := "person", desc := "(II)I" } : Jvm.MethodName) prog_19_method_38_code (7 : Nat) (Option.some Jvm.ClassFile.FieldType.int)) ∈ lw_all := lw_g (lw_at lw_m8 236 rfl) rfl
theorem q2019 : (Jvm.Cond.methodLink "RugReaderModel" (259 : Nat) ({ cls := "RugReaderModel", name := "isPerson", desc := "(I)Z" } : Jvm.MethodName)) ∈ lw_all := lw_g (lw_at lw_m8 237 rfl) rfl
theorem q2020 : (Jvm.Cond.privateMethod ({ cls := "RugReaderModel", name := "isPerson", desc := "(I)Z" } : Jvm.MethodName)) ∈ lw_tbl := lw_at lw_m8 238 rfl
theorem q2021 : (Jvm.Cond.instanceMethod ({ cls := "RugReaderModel", name := "isPerson", desc := "(I)Z" } : Jvm.MethodName)) ∈ lw_all := lw_g (lw_at lw_m8 239 rfl) rfl
theorem q2022 : (Jvm.Cond.code ({ cls := "RugReaderModel", name := "isPerson", desc := "(I)Z" } : Jvm.MethodName) prog_19_method_30_code (2 : Nat) (Option.some Jvm.ClassFile.FieldType.boolean)) ∈ lw_all := lw_g (lw_at lw_m9 0 rfl) rfl
theorem q2023 : (Jvm.Cond.methodLink "RugReaderModel" (262 : Nat) ({ cls := "RugReaderModel", name := "throwsIf", desc := "(Z)Z" } : Jvm.MethodName)) ∈ lw_all := lw_g (lw_at lw_m9 1 rfl) rfl
theorem q2024 : (Jvm.Cond.privateMethod ({ cls := "RugReaderModel", name := "throwsIf", desc := "(Z)Z" } : Jvm.MethodName)) ∈ lw_tbl := lw_at lw_m9 2 rfl
theorem q2025 : (Jvm.Cond.instanceMethod ({ cls := "RugReaderModel", name := "throwsIf", desc := "(Z)Z" } : Jvm.MethodName)) ∈ lw_all := lw_g (lw_at lw_m9 3 rfl) rfl
theorem q2026 : (Jvm.Cond.code ({ cls := "RugReaderModel", name := "throwsIf", desc := "(Z)Z" } : Jvm.MethodName) prog_19_method_2_code (2 : Nat) (Option.some Jvm.ClassFile.FieldType.boolean)) ∈ lw_all := lw_g (lw_at lw_m9 4 rfl) rfl
theorem q2027 : (Jvm.Cond.methodLink "RugReaderModel" (256 : Nat) ({ cls := "RugReaderModel", name := "liesOf", desc := "(II)I" } : Jvm.MethodName)) ∈ lw_all := lw_g (lw_at lw_m9 5 rfl) rfl
theorem q2028 : (Jvm.Cond.privateMethod ({ cls := "RugReaderModel", name := "liesOf", desc := "(II)I" } : Jvm.MethodName)) ∈ lw_tbl := lw_at lw_m9 6 rfl
theorem q2029 : (Jvm.Cond.instanceMethod ({ cls := "RugReaderModel", name := "liesOf", desc := "(II)I" } : Jvm.MethodName)) ∈ lw_all := lw_g (lw_at lw_m9 7 rfl) rfl
theorem q2030 : (Jvm.Cond.code ({ cls := "RugReaderModel", name := "liesOf", desc := "(II)I" } : Jvm.MethodName) prog_19_method_34_code (5 : Nat) (Option.some Jvm.ClassFile.FieldType.int)) ∈ lw_all := lw_g (lw_at lw_m9 8 rfl) rfl
theorem q2031 : (Jvm.Cond.methodLink "RugReaderModel" (252 : Nat) ({ cls := "RugReaderModel", name := "lies", desc := "(III)I" } : Jvm.MethodName)) ∈ lw_all := lw_g (lw_at lw_m9 9 rfl) rfl
theorem q2032 : (Jvm.Cond.privateMethod ({ cls := "RugReaderModel", name := "lies", desc := "(III)I" } : Jvm.MethodName)) ∈ lw_tbl := lw_at lw_m9 10 rfl
theorem q2033 : (Jvm.Cond.instanceMethod ({ cls := "RugReaderModel", name := "lies", desc := "(III)I" } : Jvm.MethodName)) ∈ lw_all := lw_g (lw_at lw_m9 11 rfl) rfl
theorem q2034 : (Jvm.Cond.code ({ cls := "RugReaderModel", name := "lies", desc := "(III)I" } : Jvm.MethodName) prog_19_method_33_code (4 : Nat) (Option.some Jvm.ClassFile.FieldType.int)) ∈ lw_all := lw_g (lw_at lw_m9 12 rfl) rfl
theorem q2036 : (Jvm.Cond.instanceMethod ({ cls := "RugReaderModel", name := "tuft", desc := "(II)I" } : Jvm.MethodName)) ∈ lw_all := lw_g (lw_at lw_m9 14 rfl) rfl
theorem q2037 : (Jvm.Cond.selects "RugReaderModel" ({ cls := "RugReaderModel", name := "tuft", desc := "(II)I" } : Jvm.MethodName) ({ cls := "RugReaderModel", name := "tuft", desc := "(II)I" } : Jvm.MethodName)) ∈ lw_all := lw_g (lw_at lw_m9 15 rfl) rfl
theorem q2038 : (Jvm.Cond.code ({ cls := "RugReaderModel", name := "tuft", desc := "(II)I" } : Jvm.MethodName) prog_19_method_40_code (5 : Nat) (Option.some Jvm.ClassFile.FieldType.int)) ∈ lw_all := lw_g (lw_at lw_m9 16 rfl) rfl
theorem q2039 : (Jvm.Cond.methodLink "RugReaderModel" (266 : Nat) ({ cls := "RugReaderModel", name := "isTuft", desc := "(I)Z" } : Jvm.MethodName)) ∈ lw_all := lw_g (lw_at lw_m9 17 rfl) rfl
theorem q2040 : (Jvm.Cond.privateMethod ({ cls := "RugReaderModel", name := "isTuft", desc := "(I)Z" } : Jvm.MethodName)) ∈ lw_tbl := lw_at lw_m9 18 rfl
theorem q2041 : (Jvm.Cond.instanceMethod ({ cls := "RugReaderModel", name := "isTuft", desc := "(I)Z" } : Jvm.MethodName)) ∈ lw_all := lw_g (lw_at lw_m9 19 rfl) rfl
theorem q2042 : (Jvm.Cond.code ({ cls := "RugReaderModel", name := "isTuft", desc := "(I)Z" } : Jvm.MethodName) prog_19_method_32_code (2 : Nat) (Option.some Jvm.ClassFile.FieldType.boolean)) ∈ lw_all := lw_g (lw_at lw_m9 20 rfl) rfl
theorem q2043 : (Jvm.Cond.methodLink "RugReaderModel" (269 : Nat) ({ cls := "RugReaderModel", name := "depth", desc := "(I)I" } : Jvm.MethodName)) ∈ lw_all := lw_g (lw_at lw_m9 21 rfl) rfl
theorem q2044 : (Jvm.Cond.privateMethod ({ cls := "RugReaderModel", name := "depth", desc := "(I)I" } : Jvm.MethodName)) ∈ lw_tbl := lw_at lw_m9 22 rfl
theorem q2045 : (Jvm.Cond.instanceMethod ({ cls := "RugReaderModel", name := "depth", desc := "(I)I" } : Jvm.MethodName)) ∈ lw_all := lw_g (lw_at lw_m9 23 rfl) rfl
theorem q2046 : (Jvm.Cond.code ({ cls := "RugReaderModel", name := "depth", desc := "(I)I" } : Jvm.MethodName) prog_19_method_36_code (5 : Nat) (Option.some Jvm.ClassFile.FieldType.int)) ∈ lw_all := lw_g (lw_at lw_m9 24 rfl) rfl
theorem q2047 : (Jvm.Cond.methodLink "RugReaderModel" (273 : Nat) ({ cls := "RugReaderModel", name := "treads", desc := "(I)I" } : Jvm.MethodName)) ∈ lw_all := lw_g (lw_at lw_m9 25 rfl) rfl
theorem q2048 : (Jvm.Cond.privateMethod ({ cls := "RugReaderModel", name := "treads", desc := "(I)I" } : Jvm.MethodName)) ∈ lw_tbl := lw_at lw_m9 26 rfl
theorem q2049 : (Jvm.Cond.instanceMethod ({ cls := "RugReaderModel", name := "treads", desc := "(I)I" } : Jvm.MethodName)) ∈ lw_all := lw_g (lw_at lw_m9 27 rfl) rfl
theorem q2050 : (Jvm.Cond.code ({ cls := "RugReaderModel", name := "treads", desc := "(I)I" } : Jvm.MethodName) prog_19_method_35_code (4 : Nat) (Option.some Jvm.ClassFile.FieldType.int)) ∈ lw_all := lw_g (lw_at lw_m9 28 rfl) rfl
theorem q2051 : (Jvm.Cond.methodLink "RugReaderModel" (276 : Nat) ({ cls := "RugReaderModel", name := "isDoor", desc := "(I)Z" } : Jvm.MethodName)) ∈ lw_all := lw_g (lw_at lw_m9 29 rfl) rfl
theorem q2052 : (Jvm.Cond.privateMethod ({ cls := "RugReaderModel", name := "isDoor", desc := "(I)Z" } : Jvm.MethodName)) ∈ lw_tbl := lw_at lw_m9 30 rfl
theorem q2053 : (Jvm.Cond.instanceMethod ({ cls := "RugReaderModel", name := "isDoor", desc := "(I)Z" } : Jvm.MethodName)) ∈ lw_all := lw_g (lw_at lw_m9 31 rfl) rfl
theorem q2054 : (Jvm.Cond.code ({ cls := "RugReaderModel", name := "isDoor", desc := "(I)Z" } : Jvm.MethodName) prog_19_method_39_code (3 : Nat) (Option.some Jvm.ClassFile.FieldType.boolean)) ∈ lw_all := lw_g (lw_at lw_m9 32 rfl) rfl
theorem q2056 : (Jvm.Cond.instanceMethod ({ cls := "RugReaderModel", name := "way", desc := "(II)I" } : Jvm.MethodName)) ∈ lw_all := lw_g (lw_at lw_m9 34 rfl) rfl
theorem q2057 : (Jvm.Cond.selects "RugReaderModel" ({ cls := "RugReaderModel", name := "way", desc := "(II)I" } : Jvm.MethodName) ({ cls := "RugReaderModel", name := "way", desc := "(II)I" } : Jvm.MethodName)) ∈ lw_all := lw_g (lw_at lw_m9 35 rfl) rfl
theorem q2058 : (Jvm.Cond.code ({ cls := "RugReaderModel", name := "way", desc := "(II)I" } : Jvm.MethodName) prog_19_method_41_code (3 : Nat) (Option.some Jvm.ClassFile.FieldType.int)) ∈ lw_all := lw_g (lw_at lw_m9 36 rfl) rfl
theorem q2059 : (Jvm.Cond.methodLink "RugReaderModel" (279 : Nat) ({ cls := "RugReaderModel", name := "isWay", desc := "(I)Z" } : Jvm.MethodName)) ∈ lw_all := lw_g (lw_at lw_m9 37 rfl) rfl
theorem q2060 : (Jvm.Cond.privateMethod ({ cls := "RugReaderModel", name := "isWay", desc := "(I)Z" } : Jvm.MethodName)) ∈ lw_tbl := lw_at lw_m9 38 rfl
theorem q2061 : (Jvm.Cond.instanceMethod ({ cls := "RugReaderModel", name := "isWay", desc := "(I)Z" } : Jvm.MethodName)) ∈ lw_all := lw_g (lw_at lw_m9 39 rfl) rfl
theorem q2062 : (Jvm.Cond.code ({ cls := "RugReaderModel", name := "isWay", desc := "(I)Z" } : Jvm.MethodName) prog_19_method_31_code (2 : Nat) (Option.some Jvm.ClassFile.FieldType.boolean)) ∈ lw_all := lw_g (lw_at lw_m9 40 rfl) rfl
theorem q2064 : (Jvm.Cond.instanceMethod ({ cls := "RugReaderModel", name := "undo", desc := "()I" } : Jvm.MethodName)) ∈ lw_all := lw_g (lw_at lw_m9 42 rfl) rfl
theorem q2065 : (Jvm.Cond.selects "RugReaderModel" ({ cls := "RugReaderModel", name := "undo", desc := "()I" } : Jvm.MethodName) ({ cls := "RugReaderModel", name := "undo", desc := "()I" } : Jvm.MethodName)) ∈ lw_all := lw_g (lw_at lw_m9 43 rfl) rfl
theorem q2066 : (Jvm.Cond.code ({ cls := "RugReaderModel", name := "undo", desc := "()I" } : Jvm.MethodName) prog_19_method_44_code (2 : Nat) (Option.some Jvm.ClassFile.FieldType.int)) ∈ lw_all := lw_g (lw_at lw_m9 44 rfl) rfl
theorem q2068 : (Jvm.Cond.instanceMethod ({ cls := "RugReaderModel", name := "goes", desc := "(III)I" } : Jvm.MethodName)) ∈ lw_all := lw_g (lw_at lw_m9 46 rfl) rfl
theorem q2069 : (Jvm.Cond.selects "RugReaderModel" ({ cls := "RugReaderModel", name := "goes", desc := "(III)I" } : Jvm.MethodName) ({ cls := "RugReaderModel", name := "goes", desc := "(III)I" } : Jvm.MethodName)) ∈ lw_all := lw_g (lw_at lw_m9 47 rfl) rfl
theorem q2070 : (Jvm.Cond.code ({ cls := "RugReaderModel", name := "goes", desc := "(III)I" } : Jvm.MethodName) prog_19_method_46_code (4 : Nat) (Option.some Jvm.ClassFile.FieldType.int)) ∈ lw_all := lw_g (lw_at lw_m9 48 rfl) rfl
theorem q2071 : (Jvm.Cond.methodLink "RugReaderModel" (286 : Nat) ({ cls := "RugReaderModel", name := "keep", desc := "()V" } : Jvm.MethodName)) ∈ lw_all := lw_g (lw_at lw_m9 49 rfl) rfl
theorem q2072 : (Jvm.Cond.privateMethod ({ cls := "RugReaderModel", name := "keep", desc := "()V" } : Jvm.MethodName)) ∈ lw_tbl := lw_at lw_m9 50 rfl
theorem q2073 : (Jvm.Cond.instanceMethod ({ cls := "RugReaderModel", name := "keep", desc := "()V" } : Jvm.MethodName)) ∈ lw_all := lw_g (lw_at lw_m9 51 rfl) rfl
theorem q2074 : (Jvm.Cond.code ({ cls := "RugReaderModel", name := "keep", desc := "()V" } : Jvm.MethodName) prog_19_method_43_code (2 : Nat) (Option.none : Option Jvm.ClassFile.FieldType)) ∈ lw_all := lw_g (lw_at lw_m9 52 rfl) rfl
theorem q2075 : (Jvm.Cond.constant "RugReaderModel" (282 : Nat) (48275 : Int32)) ∈ lw_all := lw_g (lw_at lw_m9 53 rfl) rfl
theorem q2076 : (Jvm.Cond.methodLink "RugReaderModel" (289 : Nat) ({ cls := "RugReaderModel", name := "walks", desc := "(III)V" } : Jvm.MethodName)) ∈ lw_all := lw_g (lw_at lw_m9 54 rfl) rfl
theorem q2077 : (Jvm.Cond.privateMethod ({ cls := "RugReaderModel", name := "walks", desc := "(III)V" } : Jvm.MethodName)) ∈ lw_tbl := lw_at lw_m9 55 rfl
theorem q2078 : (Jvm.Cond.instanceMethod ({ cls := "RugReaderModel", name := "walks", desc := "(III)V" } : Jvm.MethodName)) ∈ lw_all := lw_g (lw_at lw_m9 56 rfl) rfl
theorem q2079 : (Jvm.Cond.code ({ cls := "RugReaderModel", name := "walks", desc := "(III)V" } : Jvm.MethodName) prog_19_method_45_code (8 : Nat) (Option.none : Option Jvm.ClassFile.FieldType)) ∈ lw_all := lw_g (lw_at lw_m9 57 rfl) rfl
theorem q2080 : (Jvm.Cond.methodLink "RugReaderModel" (283 : Nat) ({ cls := "RugReaderModel", name := "dirBetween", desc := "(II)I" } : Jvm.MethodName)) ∈ lw_all := lw_g (lw_at lw_m9 58 rfl) rfl
theorem q2081 : (Jvm.Cond.static ({ cls := "RugReaderModel", name := "dirBetween", desc := "(II)I" } : Jvm.MethodName)) ∈ lw_all := lw_g (lw_at lw_m9 59 rfl) rfl
theorem q2082 : (Jvm.Cond.code ({ cls := "RugReaderModel", name := "dirBetween", desc := "(II)I" } : Jvm.MethodName) prog_19_method_42_code (2 : Nat) (Option.some Jvm.ClassFile.FieldType.int)) ∈ lw_all := lw_g (lw_at lw_m9 60 rfl) rfl
theorem q2084 : (Jvm.Cond.instanceMethod ({ cls := "RugReaderModel", name := "days", desc := "(I)I" } : Jvm.MethodName)) ∈ lw_all := lw_g (lw_at lw_m9 62 rfl) rfl
theorem q2085 : (Jvm.Cond.selects "RugReaderModel" ({ cls := "RugReaderModel", name := "days", desc := "(I)I" } : Jvm.MethodName) ({ cls := "RugReaderModel", name := "days", desc := "(I)I" } : Jvm.MethodName)) ∈ lw_all := lw_g (lw_at lw_m9 63 rfl) rfl
theorem q2086 : (Jvm.Cond.code ({ cls := "RugReaderModel", name := "days", desc := "(I)I" } : Jvm.MethodName) prog_19_method_50_code (3 : Nat) (Option.some Jvm.ClassFile.FieldType.int)) ∈ lw_all := lw_g (lw_at lw_m9 64 rfl) rfl
theorem q2087 : (Jvm.Cond.methodLink "RugReaderModel" (300 : Nat) ({ cls := "RugReaderModel", name := "day", desc := "()V" } : Jvm.MethodName)) ∈ lw_all := lw_g (lw_at lw_m9 65 rfl) rfl
theorem q2088 : (Jvm.Cond.privateMethod ({ cls := "RugReaderModel", name := "day", desc := "()V" } : Jvm.MethodName)) ∈ lw_tbl := lw_at lw_m9 66 rfl
theorem q2089 : (Jvm.Cond.instanceMethod ({ cls := "RugReaderModel", name := "day", desc := "()V" } : Jvm.MethodName)) ∈ lw_all := lw_g (lw_at lw_m9 67 rfl) rfl
theorem q2090 : (Jvm.Cond.code ({ cls := "RugReaderModel", name := "day", desc := "()V" } : Jvm.MethodName) prog_19_method_48_code (2 : Nat) (Option.none : Option Jvm.ClassFile.FieldType)) ∈ lw_all := lw_g (lw_at lw_m9 68 rfl) rfl
theorem q2091 : (Jvm.Cond.methodLink "RugReaderModel" (293 : Nat) ({ cls := "RugReaderModel", name := "older", desc := "(I)V" } : Jvm.MethodName)) ∈ lw_all := lw_g (lw_at lw_m9 69 rfl) rfl
theorem q2092 : (Jvm.Cond.privateMethod ({ cls := "RugReaderModel", name := "older", desc := "(I)V" } : Jvm.MethodName)) ∈ lw_tbl := lw_at lw_m9 70 rfl
theorem q2093 : (Jvm.Cond.instanceMethod ({ cls := "RugReaderModel", name := "older", desc := "(I)V" } : Jvm.MethodName)) ∈ lw_all := lw_g (lw_at lw_m9 71 rfl) rfl
theorem q2094 : (Jvm.Cond.code ({ cls := "RugReaderModel", name := "older", desc := "(I)V" } : Jvm.MethodName) prog_19_method_47_code (3 : Nat) (Option.none : Option Jvm.ClassFile.FieldType)) ∈ lw_all := lw_g (lw_at lw_m9 72 rfl) rfl
theorem q2095 : (Jvm.Cond.methodLink "RugReaderModel" (296 : Nat) ({ cls := "RugReaderModel", name := "clears", desc := "(II)V" } : Jvm.MethodName)) ∈ lw_all := lw_g (lw_at lw_m9 73 rfl) rfl
theorem q2096 : (Jvm.Cond.privateMethod ({ cls := "RugReaderModel", name := "clears", desc := "(II)V" } : Jvm.MethodName)) ∈ lw_tbl := lw_at lw_m9 74 rfl
theorem q2097 : (Jvm.Cond.instanceMethod ({ cls := "RugReaderModel", name := "clears", desc := "(II)V" } : Jvm.MethodName)) ∈ lw_all := lw_g (lw_at lw_m9 75 rfl) rfl
theorem q2098 : (Jvm.Cond.code ({ cls := "RugReaderModel", name := "clears", desc := "(II)V" } : Jvm.MethodName) prog_19_method_49_code (4 : Nat) (Option.none : Option Jvm.ClassFile.FieldType)) ∈ lw_all := lw_g (lw_at lw_m9 76 rfl) rfl
theorem q2100 : (Jvm.Cond.instanceMethod ({ cls := "RugReaderModel", name := "beat", desc := "(II)I" } : Jvm.MethodName)) ∈ lw_all := lw_g (lw_at lw_m9 78 rfl) rfl
theorem q2101 : (Jvm.Cond.selects "RugReaderModel" ({ cls := "RugReaderModel", name := "beat", desc := "(II)I" } : Jvm.MethodName) ({ cls := "RugReaderModel", name := "beat", desc := "(II)I" } : Jvm.MethodName)) ∈ lw_all := lw_g (lw_at lw_m9 79 rfl) rfl
theorem q2102 : (Jvm.Cond.code ({ cls := "RugReaderModel", name := "beat", desc := "(II)I" } : Jvm.MethodName) prog_19_method_52_code (10 : Nat) (Option.some Jvm.ClassFile.FieldType.int)) ∈ lw_all := lw_g (lw_at lw_m9 80 rfl) rfl
theorem q2103 : (Jvm.Cond.methodLink "RugReaderModel" (303 : Nat) ({ cls := "RugReaderModel", name := "beats", desc := "(I)I" } : Jvm.MethodName)) ∈ lw_all := lw_g (lw_at lw_m9 81 rfl) rfl
theorem q2104 : (Jvm.Cond.privateMethod ({ cls := "RugReaderModel", name := "beats", desc := "(I)I" } : Jvm.MethodName)) ∈ lw_tbl := lw_at lw_m9 82 rfl
theorem q2105 : (Jvm.Cond.instanceMethod ({ cls := "RugReaderModel", name := "beats", desc := "(I)I" } : Jvm.MethodName)) ∈ lw_all := lw_g (lw_at lw_m9 83 rfl) rfl
theorem q2106 : (Jvm.Cond.code ({ cls := "RugReaderModel", name := "beats", desc := "(I)I" } : Jvm.MethodName) prog_19_method_51_code (3 : Nat) (Option.some Jvm.ClassFile.FieldType.int)) ∈ lw_all := lw_g (lw_at lw_m9 84 rfl) rfl
theorem q2108 : (Jvm.Cond.instanceMethod ({ cls := "RugReaderModel", name := "hidden", desc := "(I)I" } : Jvm.MethodName)) ∈ lw_all := lw_g (lw_at lw_m9 86 rfl) rfl
theorem q2109 : (Jvm.Cond.selects "RugReaderModel" ({ cls := "RugReaderModel", name := "hidden", desc := "(I)I" } : Jvm.MethodName) ({ cls := "RugReaderModel", name := "hidden", desc := "(I)I" } : Jvm.MethodName)) ∈ lw_all := lw_g (lw_at lw_m9 87 rfl) rfl
theorem q2110 : (Jvm.Cond.code ({ cls := "RugReaderModel", name := "hidden", desc := "(I)I" } : Jvm.MethodName) prog_19_method_53_code (4 : Nat) (Option.some Jvm.ClassFile.FieldType.int)) ∈ lw_all := lw_g (lw_at lw_m9 88 rfl) rfl
theorem q2111 : (Jvm.Cond.methodLink "RugReaderModel" (306 : Nat) ({ cls := "RugReaderModel", name := "fullDepth", desc := "(I)I" } : Jvm.MethodName)) ∈ lw_all := lw_g (lw_at lw_m9 89 rfl) rfl
theorem q2112 : (Jvm.Cond.privateMethod ({ cls := "RugReaderModel", name := "fullDepth", desc := "(I)I" } : Jvm.MethodName)) ∈ lw_tbl := lw_at lw_m9 90 rfl
theorem q2113 : (Jvm.Cond.instanceMethod ({ cls := "RugReaderModel", name := "fullDepth", desc := "(I)I" } : Jvm.MethodName)) ∈ lw_all := lw_g (lw_at lw_m9 91 rfl) rfl
theorem q2114 : (Jvm.Cond.code ({ cls := "RugReaderModel", name := "fullDepth", desc := "(I)I" } : Jvm.MethodName) prog_19_method_37_code (4 : Nat) (Option.some Jvm.ClassFile.FieldType.int)) ∈ lw_all := lw_g (lw_at lw_m9 92 rfl) rfl
theorem q2116 : (Jvm.Cond.instanceMethod ({ cls := "RugReaderModel", name := "missing", desc := "(I)I" } : Jvm.MethodName)) ∈ lw_all := lw_g (lw_at lw_m9 94 rfl) rfl
theorem q2117 : (Jvm.Cond.selects "RugReaderModel" ({ cls := "RugReaderModel", name := "missing", desc := "(I)I" } : Jvm.MethodName) ({ cls := "RugReaderModel", name := "missing", desc := "(I)I" } : Jvm.MethodName)) ∈ lw_all := lw_g (lw_at lw_m9 95 rfl) rfl
theorem q2118 : (Jvm.Cond.code ({ cls := "RugReaderModel", name := "missing", desc := "(I)I" } : Jvm.MethodName) prog_19_method_54_code (2 : Nat) (Option.some Jvm.ClassFile.FieldType.int)) ∈ lw_all := lw_g (lw_at lw_m9 96 rfl) rfl
theorem q2120 : (Jvm.Cond.instanceMethod ({ cls := "RugReaderModel", name := "soles", desc := "(I)I" } : Jvm.MethodName)) ∈ lw_all := lw_g (lw_at lw_m9 98 rfl) rfl
theorem q2121 : (Jvm.Cond.selects "RugReaderModel" ({ cls := "RugReaderModel", name := "soles", desc := "(I)I" } : Jvm.MethodName) ({ cls := "RugReaderModel", name := "soles", desc := "(I)I" } : Jvm.MethodName)) ∈ lw_all := lw_g (lw_at lw_m9 99 rfl) rfl
theorem q2122 : (Jvm.Cond.code ({ cls := "RugReaderModel", name := "soles", desc := "(I)I" } : Jvm.MethodName) prog_19_method_55_code (4 : Nat) (Option.some Jvm.ClassFile.FieldType.int)) ∈ lw_all := lw_g (lw_at lw_m9 100 rfl) rfl
theorem q2124 : (Jvm.Cond.instanceMethod ({ cls := "RugReaderModel", name := "deepest", desc := "()I" } : Jvm.MethodName)) ∈ lw_all := lw_g (lw_at lw_m9 102 rfl) rfl
theorem q2125 : (Jvm.Cond.selects "RugReaderModel" ({ cls := "RugReaderModel", name := "deepest", desc := "()I" } : Jvm.MethodName) ({ cls := "RugReaderModel", name := "deepest", desc := "()I" } : Jvm.MethodName)) ∈ lw_all := lw_g (lw_at lw_m9 103 rfl) rfl
theorem q2126 : (Jvm.Cond.code ({ cls := "RugReaderModel", name := "deepest", desc := "()I" } : Jvm.MethodName) prog_19_method_56_code (5 : Nat) (Option.some Jvm.ClassFile.FieldType.int)) ∈ lw_all := lw_g (lw_at lw_m9 104 rfl) rfl
theorem q2128 : (Jvm.Cond.instanceMethod ({ cls := "RugReaderModel", name := "who", desc := "(I)I" } : Jvm.MethodName)) ∈ lw_all := lw_g (lw_at lw_m9 106 rfl) rfl
theorem q2129 : (Jvm.Cond.selects "RugReaderModel" ({ cls := "RugReaderModel", name := "who", desc := "(I)I" } : Jvm.MethodName) ({ cls := "RugReaderModel", name := "who", desc := "(I)I" } : Jvm.MethodName)) ∈ lw_all := lw_g (lw_at lw_m9 107 rfl) rfl
theorem q2130 : (Jvm.Cond.code ({ cls := "RugReaderModel", name := "who", desc := "(I)I" } : Jvm.MethodName) prog_19_method_58_code (4 : Nat) (Option.some Jvm.ClassFile.FieldType.int)) ∈ lw_all := lw_g (lw_at lw_m9 108 rfl) rfl
theorem q2131 : (Jvm.Cond.methodLink "RugReaderModel" (309 : Nat) ({ cls := "RugReaderModel", name := "ageBy", desc := "(II)I" } : Jvm.MethodName)) ∈ lw_all := lw_g (lw_at lw_m9 109 rfl) rfl
theorem q2132 : (Jvm.Cond.privateMethod ({ cls := "RugReaderModel", name := "ageBy", desc := "(II)I" } : Jvm.MethodName)) ∈ lw_tbl := lw_at lw_m9 110 rfl
theorem q2133 : (Jvm.Cond.instanceMethod ({ cls := "RugReaderModel", name := "ageBy", desc := "(II)I" } : Jvm.MethodName)) ∈ lw_all := lw_g (lw_at lw_m9 111 rfl) rfl
theorem q2134 : (Jvm.Cond.code ({ cls := "RugReaderModel", name := "ageBy", desc := "(II)I" } : Jvm.MethodName) prog_19_method_57_code (4 : Nat) (Option.some Jvm.ClassFile.FieldType.int)) ∈ lw_all := lw_g (lw_at lw_m9 112 rfl) rfl
theorem q2136 : (Jvm.Cond.instanceMethod ({ cls := "RugReaderModel", name := "age", desc := "(II)I" } : Jvm.MethodName)) ∈ lw_all := lw_g (lw_at lw_m9 114 rfl) rfl
theorem q2137 : (Jvm.Cond.selects "RugReaderModel" ({ cls := "RugReaderModel", name := "age", desc := "(II)I" } : Jvm.MethodName) ({ cls := "RugReaderModel", name := "age", desc := "(II)I" } : Jvm.MethodName)) ∈ lw_all := lw_g (lw_at lw_m9 115 rfl) rfl
theorem q2138 : (Jvm.Cond.code ({ cls := "RugReaderModel", name := "age", desc := "(II)I" } : Jvm.MethodName) prog_19_method_59_code (3 : Nat) (Option.some Jvm.ClassFile.FieldType.int)) ∈ lw_all := lw_g (lw_at lw_m9 116 rfl) rfl
theorem q2140 : (Jvm.Cond.instanceMethod ({ cls := "RugReaderModel", name := "readings", desc := "()I" } : Jvm.MethodName)) ∈ lw_all := lw_g (lw_at lw_m9 118 rfl) rfl
theorem q2141 : (Jvm.Cond.selects "RugReaderModel" ({ cls := "RugReaderModel", name := "readings", desc := "()I" } : Jvm.MethodName) ({ cls := "RugReaderModel", name := "readings", desc := "()I" } : Jvm.MethodName)) ∈ lw_all := lw_g (lw_at lw_m9 119 rfl) rfl
theorem q2142 : (Jvm.Cond.code ({ cls := "RugReaderModel", name := "readings", desc := "()I" } : Jvm.MethodName) prog_19_method_62_code (6 : Nat) (Option.some Jvm.ClassFile.FieldType.int)) ∈ lw_all := lw_g (lw_at lw_m9 120 rfl) rfl
theorem q2143 : (Jvm.Cond.methodLink "RugReaderModel" (312 : Nat) ({ cls := "RugReaderModel", name := "octet", desc := "(I)I" } : Jvm.MethodName)) ∈ lw_all := lw_g (lw_at lw_m9 121 rfl) rfl
theorem q2144 : (Jvm.Cond.privateMethod ({ cls := "RugReaderModel", name := "octet", desc := "(I)I" } : Jvm.MethodName)) ∈ lw_tbl := lw_at lw_m9 122 rfl
theorem q2145 : (Jvm.Cond.instanceMethod ({ cls := "RugReaderModel", name := "octet", desc := "(I)I" } : Jvm.MethodName)) ∈ lw_all := lw_g (lw_at lw_m9 123 rfl) rfl
theorem q2146 : (Jvm.Cond.code ({ cls := "RugReaderModel", name := "octet", desc := "(I)I" } : Jvm.MethodName) prog_19_method_9_code (2 : Nat) (Option.some Jvm.ClassFile.FieldType.int)) ∈ lw_all := lw_g (lw_at lw_m9 124 rfl) rfl
theorem q2147 : (Jvm.Cond.methodLink "RugReaderModel" (315 : Nat) ({ cls := "RugReaderModel", name := "isReading", desc := "(I)Z" } : Jvm.MethodName)) ∈ lw_all := lw_g (lw_at lw_m9 125 rfl) rfl
theorem q2148 : (Jvm.Cond.privateMethod ({ cls := "RugReaderModel", name := "isReading", desc := "(I)Z" } : Jvm.MethodName)) ∈ lw_tbl := lw_at lw_m9 126 rfl
theorem q2149 : (Jvm.Cond.instanceMethod ({ cls := "RugReaderModel", name := "isReading", desc := "(I)Z" } : Jvm.MethodName)) ∈ lw_all := lw_g (lw_at lw_m9 127 rfl) rfl
theorem q2150 : (Jvm.Cond.code ({ cls := "RugReaderModel", name := "isReading", desc := "(I)Z" } : Jvm.MethodName) prog_19_method_60_code (6 : Nat) (Option.some Jvm.ClassFile.FieldType.boolean)) ∈ lw_all := lw_g (lw_at lw_m9 128 rfl) rfl
theorem q2151 : (Jvm.Cond.methodLink "RugReaderModel" (318 : Nat) ({ cls := "RugReaderModel", name := "reads", desc := "(Z)V" } : Jvm.MethodName)) ∈ lw_all := lw_g (lw_at lw_m9 129 rfl) rfl
theorem q2152 : (Jvm.Cond.privateMethod ({ cls := "RugReaderModel", name := "reads", desc := "(Z)V" } : Jvm.MethodName)) ∈ lw_tbl := lw_at lw_m9 130 rfl
theorem q2153 : (Jvm.Cond.instanceMethod ({ cls := "RugReaderModel", name := "reads", desc := "(Z)V" } : Jvm.MethodName)) ∈ lw_all := lw_g (lw_at lw_m9 131 rfl) rfl
theorem q2154 : (Jvm.Cond.code ({ cls := "RugReaderModel", name := "reads", desc := "(Z)V" } : Jvm.MethodName) prog_19_method_63_code (5 : Nat) (Option.none : Option Jvm.ClassFile.FieldType)) ∈ lw_all := lw_g (lw_at lw_m9 132 rfl) rfl
theorem q2155 : (Jvm.Cond.methodLink "RugReaderModel" (322 : Nat) ({ cls := "RugReaderModel", name := "nextReading", desc := "()Z" } : Jvm.MethodName)) ∈ lw_all := lw_g (lw_at lw_m9 133 rfl) rfl
theorem q2156 : (Jvm.Cond.privateMethod ({ cls := "RugReaderModel", name := "nextReading", desc := "()Z" } : Jvm.MethodName)) ∈ lw_tbl := lw_at lw_m9 134 rfl
theorem q2157 : (Jvm.Cond.instanceMethod ({ cls := "RugReaderModel", name := "nextReading", desc := "()Z" } : Jvm.MethodName)) ∈ lw_all := lw_g (lw_at lw_m9 135 rfl) rfl
theorem q2158 : (Jvm.Cond.code ({ cls := "RugReaderModel", name := "nextReading", desc := "()Z" } : Jvm.MethodName) prog_19_method_61_code (2 : Nat) (Option.some Jvm.ClassFile.FieldType.boolean)) ∈ lw_all := lw_g (lw_at lw_m9 136 rfl) rfl
theorem q2160 : (Jvm.Cond.instanceMethod ({ cls := "RugReaderModel", name := "read", desc := "(II)I" } : Jvm.MethodName)) ∈ lw_all := lw_g (lw_at lw_m9 138 rfl) rfl
theorem q2161 : (Jvm.Cond.selects "RugReaderModel" ({ cls := "RugReaderModel", name := "read", desc := "(II)I" } : Jvm.MethodName) ({ cls := "RugReaderModel", name := "read", desc := "(II)I" } : Jvm.MethodName)) ∈ lw_all := lw_g (lw_at lw_m9 139 rfl) rfl
theorem q2162 : (Jvm.Cond.code ({ cls := "RugReaderModel", name := "read", desc := "(II)I" } : Jvm.MethodName) prog_19_method_64_code (3 : Nat) (Option.some Jvm.ClassFile.FieldType.int)) ∈ lw_all := lw_g (lw_at lw_m9 140 rfl) rfl
theorem q2164 : (Jvm.Cond.instanceMethod ({ cls := "RugReaderModel", name := "fewest", desc := "()I" } : Jvm.MethodName)) ∈ lw_all := lw_g (lw_at lw_m9 142 rfl) rfl
theorem q2165 : (Jvm.Cond.selects "RugReaderModel" ({ cls := "RugReaderModel", name := "fewest", desc := "()I" } : Jvm.MethodName) ({ cls := "RugReaderModel", name := "fewest", desc := "()I" } : Jvm.MethodName)) ∈ lw_all := lw_g (lw_at lw_m9 143 rfl) rfl
theorem q2166 : (Jvm.Cond.code ({ cls := "RugReaderModel", name := "fewest", desc := "()I" } : Jvm.MethodName) prog_19_method_65_code (1 : Nat) (Option.some Jvm.ClassFile.FieldType.int)) ∈ lw_all := lw_g (lw_at lw_m9 144 rfl) rfl
theorem q2168 : (Jvm.Cond.instanceMethod ({ cls := "RugReaderModel", name := "sign", desc := "(III)I" } : Jvm.MethodName)) ∈ lw_all := lw_g (lw_at lw_m9 146 rfl) rfl
theorem q2169 : (Jvm.Cond.selects "RugReaderModel" ({ cls := "RugReaderModel", name := "sign", desc := "(III)I" } : Jvm.MethodName) ({ cls := "RugReaderModel", name := "sign", desc := "(III)I" } : Jvm.MethodName)) ∈ lw_all := lw_g (lw_at lw_m9 147 rfl) rfl
theorem q2170 : (Jvm.Cond.code ({ cls := "RugReaderModel", name := "sign", desc := "(III)I" } : Jvm.MethodName) prog_19_method_69_code (5 : Nat) (Option.some Jvm.ClassFile.FieldType.int)) ∈ lw_all := lw_g (lw_at lw_m9 148 rfl) rfl
theorem q2171 : (Jvm.Cond.methodLink "RugReaderModel" (335 : Nat) ({ cls := "RugReaderModel", name := "crosses", desc := "(III)I" } : Jvm.MethodName)) ∈ lw_all := lw_g (lw_at lw_m9 149 rfl) rfl
theorem q2172 : (Jvm.Cond.privateMethod ({ cls := "RugReaderModel", name := "crosses", desc := "(III)I" } : Jvm.MethodName)) ∈ lw_tbl := lw_at lw_m9 150 rfl
theorem q2173 : (Jvm.Cond.instanceMethod ({ cls := "RugReaderModel", name := "crosses", desc := "(III)I" } : Jvm.MethodName)) ∈ lw_all := lw_g (lw_at lw_m9 151 rfl) rfl
theorem q2174 : (Jvm.Cond.code ({ cls := "RugReaderModel", name := "crosses", desc := "(III)I" } : Jvm.MethodName) prog_19_method_68_code (9 : Nat) (Option.some Jvm.ClassFile.FieldType.int)) ∈ lw_all := lw_g (lw_at lw_m9 152 rfl) rfl
theorem q2175 : (Jvm.Cond.constant "RugReaderModel" (328 : Nat) (1000000000 : Int32)) ∈ lw_all := lw_g (lw_at lw_m9 153 rfl) rfl
theorem q2176 : (Jvm.Cond.methodLink "RugReaderModel" (329 : Nat) ({ cls := "RugReaderModel", name := "signOf", desc := "(II)I" } : Jvm.MethodName)) ∈ lw_all := lw_g (lw_at lw_m9 154 rfl) rfl
theorem q2177 : (Jvm.Cond.privateMethod ({ cls := "RugReaderModel", name := "signOf", desc := "(II)I" } : Jvm.MethodName)) ∈ lw_tbl := lw_at lw_m9 155 rfl
theorem q2178 : (Jvm.Cond.instanceMethod ({ cls := "RugReaderModel", name := "signOf", desc := "(II)I" } : Jvm.MethodName)) ∈ lw_all := lw_g (lw_at lw_m9 156 rfl) rfl
theorem q2179 : (Jvm.Cond.code ({ cls := "RugReaderModel", name := "signOf", desc := "(II)I" } : Jvm.MethodName) prog_19_method_67_code (3 : Nat) (Option.some Jvm.ClassFile.FieldType.int)) ∈ lw_all := lw_g (lw_at lw_m9 157 rfl) rfl
theorem q2180 : (Jvm.Cond.methodLink "RugReaderModel" (332 : Nat) ({ cls := "RugReaderModel", name := "beside", desc := "(II)I" } : Jvm.MethodName)) ∈ lw_all := lw_g (lw_at lw_m9 158 rfl) rfl
theorem q2181 : (Jvm.Cond.privateMethod ({ cls := "RugReaderModel", name := "beside", desc := "(II)I" } : Jvm.MethodName)) ∈ lw_tbl := lw_at lw_m9 159 rfl
theorem q2182 : (Jvm.Cond.instanceMethod ({ cls := "RugReaderModel", name := "beside", desc := "(II)I" } : Jvm.MethodName)) ∈ lw_all := lw_g (lw_at lw_m9 160 rfl) rfl
theorem q2183 : (Jvm.Cond.code ({ cls := "RugReaderModel", name := "beside", desc := "(II)I" } : Jvm.MethodName) prog_19_method_66_code (3 : Nat) (Option.some Jvm.ClassFile.FieldType.int)) ∈ lw_all := lw_g (lw_at lw_m9 161 rfl) rfl
theorem q2185 : (Jvm.Cond.instanceMethod ({ cls := "RugReaderModel", name := "steps", desc := "(III)I" } : Jvm.MethodName)) ∈ lw_all := lw_g (lw_at lw_m9 163 rfl) rfl
theorem q2186 : (Jvm.Cond.selects "RugReaderModel" ({ cls := "RugReaderModel", name := "steps", desc := "(III)I" } : Jvm.MethodName) ({ cls := "RugReaderModel", name := "steps", desc := "(III)I" } : Jvm.MethodName)) ∈ lw_all := lw_g (lw_at lw_m9 164 rfl) rfl
theorem q2187 : (Jvm.Cond.code ({ cls := "RugReaderModel", name := "steps", desc := "(III)I" } : Jvm.MethodName) prog_19_method_70_code (5 : Nat) (Option.some Jvm.ClassFile.FieldType.int)) ∈ lw_all := lw_g (lw_at lw_m9 165 rfl) rfl
theorem q2189 : (Jvm.Cond.instanceMethod ({ cls := "RugReaderModel", name := "walk", desc := "()I" } : Jvm.MethodName)) ∈ lw_all := lw_g (lw_at lw_m9 167 rfl) rfl
theorem q2190 : (Jvm.Cond.selects "RugReaderModel" ({ cls := "RugReaderModel", name := "walk", desc := "()I" } : Jvm.MethodName) ({ cls := "RugReaderModel", name := "walk", desc := "()I" } : Jvm.MethodName)) ∈ lw_all := lw_g (lw_at lw_m9 168 rfl) rfl
theorem q2191 : (Jvm.Cond.code ({ cls := "RugReaderModel", name := "walk", desc := "()I" } : Jvm.MethodName) prog_19_method_72_code (6 : Nat) (Option.some Jvm.ClassFile.FieldType.int)) ∈ lw_all := lw_g (lw_at lw_m9 169 rfl) rfl
theorem q2192 : (Jvm.Cond.methodLink "RugReaderModel" (347 : Nat) ({ cls := "RugReaderModel", name := "walkRead", desc := "()Z" } : Jvm.MethodName)) ∈ lw_all := lw_g (lw_at lw_m9 170 rfl) rfl
theorem q2193 : (Jvm.Cond.privateMethod ({ cls := "RugReaderModel", name := "walkRead", desc := "()Z" } : Jvm.MethodName)) ∈ lw_tbl := lw_at lw_m9 171 rfl
theorem q2194 : (Jvm.Cond.instanceMethod ({ cls := "RugReaderModel", name := "walkRead", desc := "()Z" } : Jvm.MethodName)) ∈ lw_all := lw_g (lw_at lw_m9 172 rfl) rfl
theorem q2195 : (Jvm.Cond.code ({ cls := "RugReaderModel", name := "walkRead", desc := "()Z" } : Jvm.MethodName) prog_19_method_71_code (2 : Nat) (Option.some Jvm.ClassFile.FieldType.boolean)) ∈ lw_all := lw_g (lw_at lw_m9 173 rfl) rfl
theorem q2197 : (Jvm.Cond.instanceMethod ({ cls := "RugReaderModel", name := "walked", desc := "(I)I" } : Jvm.MethodName)) ∈ lw_all := lw_g (lw_at lw_m9 175 rfl) rfl
theorem q2198 : (Jvm.Cond.selects "RugReaderModel" ({ cls := "RugReaderModel", name := "walked", desc := "(I)I" } : Jvm.MethodName) ({ cls := "RugReaderModel", name := "walked", desc := "(I)I" } : Jvm.MethodName)) ∈ lw_all := lw_g (lw_at lw_m9 176 rfl) rfl
theorem q2199 : (Jvm.Cond.code ({ cls := "RugReaderModel", name := "walked", desc := "(I)I" } : Jvm.MethodName) prog_19_method_73_code (2 : Nat) (Option.some Jvm.ClassFile.FieldType.int)) ∈ lw_all := lw_g (lw_at lw_m9 177 rfl) rfl
theorem q2201 : (Jvm.Cond.instanceMethod ({ cls := "RugReaderModel", name := "seen", desc := "(II)I" } : Jvm.MethodName)) ∈ lw_all := lw_g (lw_at lw_m9 179 rfl) rfl
theorem q2202 : (Jvm.Cond.selects "RugReaderModel" ({ cls := "RugReaderModel", name := "seen", desc := "(II)I" } : Jvm.MethodName) ({ cls := "RugReaderModel", name := "seen", desc := "(II)I" } : Jvm.MethodName)) ∈ lw_all := lw_g (lw_at lw_m9 180 rfl) rfl
theorem q2203 : (Jvm.Cond.code ({ cls := "RugReaderModel", name := "seen", desc := "(II)I" } : Jvm.MethodName) prog_19_method_79_code (7 : Nat) (Option.some Jvm.ClassFile.FieldType.int)) ∈ lw_all := lw_g (lw_at lw_m9 181 rfl) rfl
theorem q2204 : (Jvm.Cond.methodLink "RugReaderModel" (368 : Nat) ({ cls := "RugReaderModel", name := "rowsBetween", desc := "(II)I" } : Jvm.MethodName)) ∈ lw_all := lw_g (lw_at lw_m9 182 rfl) rfl
theorem q2205 : (Jvm.Cond.privateMethod ({ cls := "RugReaderModel", name := "rowsBetween", desc := "(II)I" } : Jvm.MethodName)) ∈ lw_tbl := lw_at lw_m9 183 rfl
theorem q2206 : (Jvm.Cond.instanceMethod ({ cls := "RugReaderModel", name := "rowsBetween", desc := "(II)I" } : Jvm.MethodName)) ∈ lw_all := lw_g (lw_at lw_m9 184 rfl) rfl
theorem q2207 : (Jvm.Cond.code ({ cls := "RugReaderModel", name := "rowsBetween", desc := "(II)I" } : Jvm.MethodName) prog_19_method_78_code (4 : Nat) (Option.some Jvm.ClassFile.FieldType.int)) ∈ lw_all := lw_g (lw_at lw_m9 185 rfl) rfl
theorem q2208 : (Jvm.Cond.methodLink "RugReaderModel" (365 : Nat) ({ cls := "RugReaderModel", name := "runsMore", desc := "(II)Z" } : Jvm.MethodName)) ∈ lw_all := lw_g (lw_at lw_m9 186 rfl) rfl
theorem q2209 : (Jvm.Cond.privateMethod ({ cls := "RugReaderModel", name := "runsMore", desc := "(II)Z" } : Jvm.MethodName)) ∈ lw_tbl := lw_at lw_m9 187 rfl
theorem q2210 : (Jvm.Cond.instanceMethod ({ cls := "RugReaderModel", name := "runsMore", desc := "(II)Z" } : Jvm.MethodName)) ∈ lw_all := lw_g (lw_at lw_m9 188 rfl) rfl
theorem q2211 : (Jvm.Cond.code ({ cls := "RugReaderModel", name := "runsMore", desc := "(II)Z" } : Jvm.MethodName) prog_19_method_76_code (7 : Nat) (Option.some Jvm.ClassFile.FieldType.boolean)) ∈ lw_all := lw_g (lw_at lw_m9 189 rfl) rfl
theorem q2212 : (Jvm.Cond.methodLink "RugReaderModel" (356 : Nat) ({ cls := "RugReaderModel", name := "comes", desc := "(II)V" } : Jvm.MethodName)) ∈ lw_all := lw_g (lw_at lw_m9 190 rfl) rfl
theorem q2213 : (Jvm.Cond.privateMethod ({ cls := "RugReaderModel", name := "comes", desc := "(II)V" } : Jvm.MethodName)) ∈ lw_tbl := lw_at lw_m9 191 rfl
theorem q2214 : (Jvm.Cond.instanceMethod ({ cls := "RugReaderModel", name := "comes", desc := "(II)V" } : Jvm.MethodName)) ∈ lw_all := lw_g (lw_at lw_m9 192 rfl) rfl
theorem q2215 : (Jvm.Cond.code ({ cls := "RugReaderModel", name := "comes", desc := "(II)V" } : Jvm.MethodName) prog_19_method_75_code (3 : Nat) (Option.none : Option Jvm.ClassFile.FieldType)) ∈ lw_all := lw_g (lw_at lw_m9 193 rfl) rfl
theorem q2216 : (Jvm.Cond.methodLink "RugReaderModel" (359 : Nat) ({ cls := "RugReaderModel", name := "turned", desc := "(II)Z" } : Jvm.MethodName)) ∈ lw_all := lw_g (lw_at lw_m9 194 rfl) rfl
theorem q2217 : (Jvm.Cond.privateMethod ({ cls := "RugReaderModel", name := "turned", desc := "(II)Z" } : Jvm.MethodName)) ∈ lw_tbl := lw_at lw_m9 195 rfl
theorem q2218 : (Jvm.Cond.instanceMethod ({ cls := "RugReaderModel", name := "turned", desc := "(II)Z" } : Jvm.MethodName)) ∈ lw_all := lw_g (lw_at lw_m9 196 rfl) rfl
theorem q2219 : (Jvm.Cond.code ({ cls := "RugReaderModel", name := "turned", desc := "(II)Z" } : Jvm.MethodName) prog_19_method_77_code (7 : Nat) (Option.some Jvm.ClassFile.FieldType.boolean)) ∈ lw_all := lw_g (lw_at lw_m9 197 rfl) rfl
theorem q2220 : (Jvm.Cond.methodLink "RugReaderModel" (362 : Nat) ({ cls := "RugReaderModel", name := "isOpen", desc := "(I)Z" } : Jvm.MethodName)) ∈ lw_all := lw_g (lw_at lw_m9 198 rfl) rfl
theorem q2221 : (Jvm.Cond.privateMethod ({ cls := "RugReaderModel", name := "isOpen", desc := "(I)Z" } : Jvm.MethodName)) ∈ lw_tbl := lw_at lw_m9 199 rfl
theorem q2222 : (Jvm.Cond.instanceMethod ({ cls := "RugReaderModel", name := "isOpen", desc := "(I)Z" } : Jvm.MethodName)) ∈ lw_all := lw_g (lw_at lw_m9 200 rfl) rfl
theorem q2223 : (Jvm.Cond.code ({ cls := "RugReaderModel", name := "isOpen", desc := "(I)Z" } : Jvm.MethodName) prog_19_method_74_code (2 : Nat) (Option.some Jvm.ClassFile.FieldType.boolean)) ∈ lw_all := lw_g (lw_at lw_m9 201 rfl) rfl
theorem q2225 : (Jvm.Cond.instanceMethod ({ cls := "RugReaderModel", name := "lay", desc := "(I)I" } : Jvm.MethodName)) ∈ lw_all := lw_g (lw_at lw_m9 203 rfl) rfl
theorem q2226 : (Jvm.Cond.selects "RugReaderModel" ({ cls := "RugReaderModel", name := "lay", desc := "(I)I" } : Jvm.MethodName) ({ cls := "RugReaderModel", name := "lay", desc := "(I)I" } : Jvm.MethodName)) ∈ lw_all := lw_g (lw_at lw_m9 204 rfl) rfl
theorem q2227 : (Jvm.Cond.code ({ cls := "RugReaderModel", name := "lay", desc := "(I)I" } : Jvm.MethodName) prog_19_method_80_code (2 : Nat) (Option.some Jvm.ClassFile.FieldType.int)) ∈ lw_all := lw_g (lw_at lw_m9 205 rfl) rfl
theorem q2229 : (Jvm.Cond.instanceMethod ({ cls := "RugReaderModel", name := "spot", desc := "()I" } : Jvm.MethodName)) ∈ lw_all := lw_g (lw_at lw_m9 207 rfl) rfl
theorem q2230 : (Jvm.Cond.selects "RugReaderModel" ({ cls := "RugReaderModel", name := "spot", desc := "()I" } : Jvm.MethodName) ({ cls := "RugReaderModel", name := "spot", desc := "()I" } : Jvm.MethodName)) ∈ lw_all := lw_g (lw_at lw_m9 208 rfl) rfl
theorem q2231 : (Jvm.Cond.code ({ cls := "RugReaderModel", name := "spot", desc := "()I" } : Jvm.MethodName) prog_19_method_83_code (5 : Nat) (Option.some Jvm.ClassFile.FieldType.int)) ∈ lw_all := lw_g (lw_at lw_m9 209 rfl) rfl
theorem q2232 : (Jvm.Cond.methodLink "RugReaderModel" (374 : Nat) ({ cls := "RugReaderModel", name := "waysOver", desc := "(I)I" } : Jvm.MethodName)) ∈ lw_all := lw_g (lw_at lw_m9 210 rfl) rfl
theorem q2233 : (Jvm.Cond.privateMethod ({ cls := "RugReaderModel", name := "waysOver", desc := "(I)I" } : Jvm.MethodName)) ∈ lw_tbl := lw_at lw_m9 211 rfl
theorem q2234 : (Jvm.Cond.instanceMethod ({ cls := "RugReaderModel", name := "waysOver", desc := "(I)I" } : Jvm.MethodName)) ∈ lw_all := lw_g (lw_at lw_m9 212 rfl) rfl
theorem q2235 : (Jvm.Cond.code ({ cls := "RugReaderModel", name := "waysOver", desc := "(I)I" } : Jvm.MethodName) prog_19_method_81_code (5 : Nat) (Option.some Jvm.ClassFile.FieldType.int)) ∈ lw_all := lw_g (lw_at lw_m9 213 rfl) rfl
theorem q2236 : (Jvm.Cond.methodLink "RugReaderModel" (377 : Nat) ({ cls := "RugReaderModel", name := "bits", desc := "(I)I" } : Jvm.MethodName)) ∈ lw_all := lw_g (lw_at lw_m9 214 rfl) rfl
theorem q2237 : (Jvm.Cond.static ({ cls := "RugReaderModel", name := "bits", desc := "(I)I" } : Jvm.MethodName)) ∈ lw_all := lw_g (lw_at lw_m9 215 rfl) rfl
theorem q2238 : (Jvm.Cond.code ({ cls := "RugReaderModel", name := "bits", desc := "(I)I" } : Jvm.MethodName) prog_19_method_82_code (3 : Nat) (Option.some Jvm.ClassFile.FieldType.int)) ∈ lw_all := lw_g (lw_at lw_m9 216 rfl) rfl
theorem q2240 : (Jvm.Cond.instanceMethod ({ cls := "RugReaderModel", name := "ways", desc := "(I)I" } : Jvm.MethodName)) ∈ lw_all := lw_g (lw_at lw_m9 218 rfl) rfl
theorem q2241 : (Jvm.Cond.selects "RugReaderModel" ({ cls := "RugReaderModel", name := "ways", desc := "(I)I" } : Jvm.MethodName) ({ cls := "RugReaderModel", name := "ways", desc := "(I)I" } : Jvm.MethodName)) ∈ lw_all := lw_g (lw_at lw_m9 219 rfl) rfl
theorem q2242 : (Jvm.Cond.code ({ cls := "RugReaderModel", name := "ways", desc := "(I)I" } : Jvm.MethodName) prog_19_method_84_code (2 : Nat) (Option.some Jvm.ClassFile.FieldType.int)) ∈ lw_all := lw_g (lw_at lw_m9 220 rfl) rfl
theorem q2244 : (Jvm.Cond.instanceMethod ({ cls := "RugReaderModel", name := "both", desc := "(II)I" } : Jvm.MethodName)) ∈ lw_all := lw_g (lw_at lw_m9 222 rfl) rfl
theorem q2245 : (Jvm.Cond.selects "RugReaderModel" ({ cls := "RugReaderModel", name := "both", desc := "(II)I" } : Jvm.MethodName) ({ cls := "RugReaderModel", name := "both", desc := "(II)I" } : Jvm.MethodName)) ∈ lw_all := lw_g (lw_at lw_m9 223 rfl) rfl
theorem q2246 : (Jvm.Cond.code ({ cls := "RugReaderModel", name := "both", desc := "(II)I" } : Jvm.MethodName) prog_19_method_85_code (5 : Nat) (Option.some Jvm.ClassFile.FieldType.int)) ∈ lw_all := lw_g (lw_at lw_m9 224 rfl) rfl
theorem q2247 : (Jvm.Cond.methodLink "RugReaderModel" (380 : Nat) ({ cls := "RugReaderModel", name := "bitOf", desc := "(II)Z" } : Jvm.MethodName)) ∈ lw_all := lw_g (lw_at lw_m9 225 rfl) rfl
theorem q2248 : (Jvm.Cond.static ({ cls := "RugReaderModel", name := "bitOf", desc := "(II)Z" } : Jvm.MethodName)) ∈ lw_all := lw_g (lw_at lw_m9 226 rfl) rfl
theorem q2249 : (Jvm.Cond.code ({ cls := "RugReaderModel", name := "bitOf", desc := "(II)Z" } : Jvm.MethodName) prog_19_method_8_code (2 : Nat) (Option.some Jvm.ClassFile.FieldType.boolean)) ∈ lw_all := lw_g (lw_at lw_m9 227 rfl) rfl
theorem q2251 : (Jvm.Cond.instanceMethod ({ cls := "RugReaderModel", name := "years", desc := "(III)I" } : Jvm.MethodName)) ∈ lw_all := lw_g (lw_at lw_m9 229 rfl) rfl
theorem q2252 : (Jvm.Cond.selects "RugReaderModel" ({ cls := "RugReaderModel", name := "years", desc := "(III)I" } : Jvm.MethodName) ({ cls := "RugReaderModel", name := "years", desc := "(III)I" } : Jvm.MethodName)) ∈ lw_all := lw_g (lw_at lw_m9 230 rfl) rfl
theorem q2253 : (Jvm.Cond.code ({ cls := "RugReaderModel", name := "years", desc := "(III)I" } : Jvm.MethodName) prog_19_method_87_code (8 : Nat) (Option.some Jvm.ClassFile.FieldType.int)) ∈ lw_all := lw_g (lw_at lw_m9 231 rfl) rfl
theorem q2254 : (Jvm.Cond.methodLink "RugReaderModel" (387 : Nat) ({ cls := "RugReaderModel", name := "draw", desc := "(I)I" } : Jvm.MethodName)) ∈ lw_all := lw_g (lw_at lw_m9 232 rfl) rfl
theorem q2255 : (Jvm.Cond.privateMethod ({ cls := "RugReaderModel", name := "draw", desc := "(I)I" } : Jvm.MethodName)) ∈ lw_tbl := lw_at lw_m9 233 rfl
theorem q2256 : (Jvm.Cond.instanceMethod ({ cls := "RugReaderModel", name := "draw", desc := "(I)I" } : Jvm.MethodName)) ∈ lw_all := lw_g (lw_at lw_m9 234 rfl) rfl
theorem q2257 : (Jvm.Cond.code ({ cls := "RugReaderModel", name := "draw", desc := "(I)I" } : Jvm.MethodName) prog_19_method_86_code (2 : Nat) (Option.some Jvm.ClassFile.FieldType.int)) ∈ lw_all := lw_g (lw_at lw_m9 235 rfl) rfl
theorem q2258 : (Jvm.Cond.constant "RugReaderModel" (386 : Nat) (1103515245 : Int32)) ∈ lw_all := lw_g (lw_at lw_m9 236 rfl) rfl
theorem q2260 : (Jvm.Cond.instanceMethod ({ cls := "RugReaderModel", name := "rarest", desc := "()I" } : Jvm.MethodName)) ∈ lw_all := lw_g (lw_at lw_m9 238 rfl) rfl
theorem q2261 : (Jvm.Cond.selects "RugReaderModel" ({ cls := "RugReaderModel", name := "rarest", desc := "()I" } : Jvm.MethodName) ({ cls := "RugReaderModel", name := "rarest", desc := "()I" } : Jvm.MethodName)) ∈ lw_all := lw_g (lw_at lw_m9 239 rfl) rfl
theorem q2262 : (Jvm.Cond.code ({ cls := "RugReaderModel", name := "rarest", desc := "()I" } : Jvm.MethodName) prog_19_method_88_code (3 : Nat) (Option.some Jvm.ClassFile.FieldType.int)) ∈ lw_all := lw_g (lw_at lw_m10 0 rfl) rfl
theorem q2264 : (Jvm.Cond.instanceMethod ({ cls := "RugReaderModel", name := "sentence", desc := "()I" } : Jvm.MethodName)) ∈ lw_all := lw_g (lw_at lw_m10 2 rfl) rfl
theorem q2265 : (Jvm.Cond.selects "RugReaderModel" ({ cls := "RugReaderModel", name := "sentence", desc := "()I" } : Jvm.MethodName) ({ cls := "RugReaderModel", name := "sentence", desc := "()I" } : Jvm.MethodName)) ∈ lw_all := lw_g (lw_at lw_m10 3 rfl) rfl
theorem q2266 : (Jvm.Cond.code ({ cls := "RugReaderModel", name := "sentence", desc := "()I" } : Jvm.MethodName) prog_19_method_95_code (3 : Nat) (Option.some Jvm.ClassFile.FieldType.int)) ∈ lw_all := lw_g (lw_at lw_m10 4 rfl) rfl
theorem q2267 : (Jvm.Cond.methodLink "RugReaderModel" (411 : Nat) ({ cls := "RugReaderModel", name := "nots", desc := "()V" } : Jvm.MethodName)) ∈ lw_all := lw_g (lw_at lw_m10 5 rfl) rfl
theorem q2268 : (Jvm.Cond.privateMethod ({ cls := "RugReaderModel", name := "nots", desc := "()V" } : Jvm.MethodName)) ∈ lw_tbl := lw_at lw_m10 6 rfl
theorem q2269 : (Jvm.Cond.instanceMethod ({ cls := "RugReaderModel", name := "nots", desc := "()V" } : Jvm.MethodName)) ∈ lw_all := lw_g (lw_at lw_m10 7 rfl) rfl
theorem q2270 : (Jvm.Cond.code ({ cls := "RugReaderModel", name := "nots", desc := "()V" } : Jvm.MethodName) prog_19_method_91_code (1 : Nat) (Option.none : Option Jvm.ClassFile.FieldType)) ∈ lw_all := lw_g (lw_at lw_m10 8 rfl) rfl
theorem q2271 : (Jvm.Cond.methodLink "RugReaderModel" (396 : Nat) ({ cls := "RugReaderModel", name := "code", desc := "(III)V" } : Jvm.MethodName)) ∈ lw_all := lw_g (lw_at lw_m10 9 rfl) rfl
theorem q2272 : (Jvm.Cond.privateMethod ({ cls := "RugReaderModel", name := "code", desc := "(III)V" } : Jvm.MethodName)) ∈ lw_tbl := lw_at lw_m10 10 rfl
theorem q2273 : (Jvm.Cond.instanceMethod ({ cls := "RugReaderModel", name := "code", desc := "(III)V" } : Jvm.MethodName)) ∈ lw_all := lw_g (lw_at lw_m10 11 rfl) rfl
theorem q2274 : (Jvm.Cond.code ({ cls := "RugReaderModel", name := "code", desc := "(III)V" } : Jvm.MethodName) prog_19_method_89_code (4 : Nat) (Option.none : Option Jvm.ClassFile.FieldType)) ∈ lw_all := lw_g (lw_at lw_m10 12 rfl) rfl
theorem q2275 : (Jvm.Cond.methodLink "RugReaderModel" (414 : Nat) ({ cls := "RugReaderModel", name := "joins", desc := "(I)V" } : Jvm.MethodName)) ∈ lw_all := lw_g (lw_at lw_m10 13 rfl) rfl
theorem q2276 : (Jvm.Cond.privateMethod ({ cls := "RugReaderModel", name := "joins", desc := "(I)V" } : Jvm.MethodName)) ∈ lw_tbl := lw_at lw_m10 14 rfl
theorem q2277 : (Jvm.Cond.instanceMethod ({ cls := "RugReaderModel", name := "joins", desc := "(I)V" } : Jvm.MethodName)) ∈ lw_all := lw_g (lw_at lw_m10 15 rfl) rfl
theorem q2278 : (Jvm.Cond.code ({ cls := "RugReaderModel", name := "joins", desc := "(I)V" } : Jvm.MethodName) prog_19_method_90_code (2 : Nat) (Option.none : Option Jvm.ClassFile.FieldType)) ∈ lw_all := lw_g (lw_at lw_m10 16 rfl) rfl
theorem q2279 : (Jvm.Cond.methodLink "RugReaderModel" (417 : Nat) ({ cls := "RugReaderModel", name := "behind", desc := "()Z" } : Jvm.MethodName)) ∈ lw_all := lw_g (lw_at lw_m10 17 rfl) rfl
theorem q2280 : (Jvm.Cond.privateMethod ({ cls := "RugReaderModel", name := "behind", desc := "()Z" } : Jvm.MethodName)) ∈ lw_tbl := lw_at lw_m10 18 rfl
theorem q2281 : (Jvm.Cond.instanceMethod ({ cls := "RugReaderModel", name := "behind", desc := "()Z" } : Jvm.MethodName)) ∈ lw_all := lw_g (lw_at lw_m10 19 rfl) rfl
theorem q2282 : (Jvm.Cond.code ({ cls := "RugReaderModel", name := "behind", desc := "()Z" } : Jvm.MethodName) prog_19_method_94_code (1 : Nat) (Option.some Jvm.ClassFile.FieldType.boolean)) ∈ lw_all := lw_g (lw_at lw_m10 20 rfl) rfl
theorem q2283 : (Jvm.Cond.methodLink "RugReaderModel" (420 : Nat) ({ cls := "RugReaderModel", name := "operand", desc := "()Z" } : Jvm.MethodName)) ∈ lw_all := lw_g (lw_at lw_m10 21 rfl) rfl
theorem q2284 : (Jvm.Cond.privateMethod ({ cls := "RugReaderModel", name := "operand", desc := "()Z" } : Jvm.MethodName)) ∈ lw_tbl := lw_at lw_m10 22 rfl
theorem q2285 : (Jvm.Cond.instanceMethod ({ cls := "RugReaderModel", name := "operand", desc := "()Z" } : Jvm.MethodName)) ∈ lw_all := lw_g (lw_at lw_m10 23 rfl) rfl
theorem q2286 : (Jvm.Cond.code ({ cls := "RugReaderModel", name := "operand", desc := "()Z" } : Jvm.MethodName) prog_19_method_93_code (5 : Nat) (Option.some Jvm.ClassFile.FieldType.boolean)) ∈ lw_all := lw_g (lw_at lw_m10 24 rfl) rfl
theorem q2287 : (Jvm.Cond.methodLink "RugReaderModel" (402 : Nat) ({ cls := "RugReaderModel", name := "leafOf", desc := "()I" } : Jvm.MethodName)) ∈ lw_all := lw_g (lw_at lw_m10 25 rfl) rfl
theorem q2288 : (Jvm.Cond.privateMethod ({ cls := "RugReaderModel", name := "leafOf", desc := "()I" } : Jvm.MethodName)) ∈ lw_tbl := lw_at lw_m10 26 rfl
theorem q2289 : (Jvm.Cond.instanceMethod ({ cls := "RugReaderModel", name := "leafOf", desc := "()I" } : Jvm.MethodName)) ∈ lw_all := lw_g (lw_at lw_m10 27 rfl) rfl
theorem q2290 : (Jvm.Cond.code ({ cls := "RugReaderModel", name := "leafOf", desc := "()I" } : Jvm.MethodName) prog_19_method_92_code (1 : Nat) (Option.some Jvm.ClassFile.FieldType.int)) ∈ lw_all := lw_g (lw_at lw_m10 28 rfl) rfl
theorem q2292 : (Jvm.Cond.instanceMethod ({ cls := "RugReaderModel", name := "said", desc := "(I)I" } : Jvm.MethodName)) ∈ lw_all := lw_g (lw_at lw_m10 30 rfl) rfl
theorem q2293 : (Jvm.Cond.selects "RugReaderModel" ({ cls := "RugReaderModel", name := "said", desc := "(I)I" } : Jvm.MethodName) ({ cls := "RugReaderModel", name := "said", desc := "(I)I" } : Jvm.MethodName)) ∈ lw_all := lw_g (lw_at lw_m10 31 rfl) rfl
theorem q2294 : (Jvm.Cond.code ({ cls := "RugReaderModel", name := "said", desc := "(I)I" } : Jvm.MethodName) prog_19_method_99_code (4 : Nat) (Option.some Jvm.ClassFile.FieldType.int)) ∈ lw_all := lw_g (lw_at lw_m10 32 rfl) rfl
theorem q2295 : (Jvm.Cond.methodLink "RugReaderModel" (433 : Nat) ({ cls := "RugReaderModel", name := "isSaid", desc := "(I)Z" } : Jvm.MethodName)) ∈ lw_all := lw_g (lw_at lw_m10 33 rfl) rfl
theorem q2296 : (Jvm.Cond.privateMethod ({ cls := "RugReaderModel", name := "isSaid", desc := "(I)Z" } : Jvm.MethodName)) ∈ lw_tbl := lw_at lw_m10 34 rfl
theorem q2297 : (Jvm.Cond.instanceMethod ({ cls := "RugReaderModel", name := "isSaid", desc := "(I)Z" } : Jvm.MethodName)) ∈ lw_all := lw_g (lw_at lw_m10 35 rfl) rfl
theorem q2298 : (Jvm.Cond.code ({ cls := "RugReaderModel", name := "isSaid", desc := "(I)Z" } : Jvm.MethodName) prog_19_method_98_code (5 : Nat) (Option.some Jvm.ClassFile.FieldType.boolean)) ∈ lw_all := lw_g (lw_at lw_m10 36 rfl) rfl
theorem q2299 : (Jvm.Cond.methodLink "RugReaderModel" (429 : Nat) ({ cls := "RugReaderModel", name := "isLeaf", desc := "(IIII)Z" } : Jvm.MethodName)) ∈ lw_all := lw_g (lw_at lw_m10 37 rfl) rfl
theorem q2300 : (Jvm.Cond.privateMethod ({ cls := "RugReaderModel", name := "isLeaf", desc := "(IIII)Z" } : Jvm.MethodName)) ∈ lw_tbl := lw_at lw_m10 38 rfl
theorem q2301 : (Jvm.Cond.instanceMethod ({ cls := "RugReaderModel", name := "isLeaf", desc := "(IIII)Z" } : Jvm.MethodName)) ∈ lw_all := lw_g (lw_at lw_m10 39 rfl) rfl
theorem q2302 : (Jvm.Cond.code ({ cls := "RugReaderModel", name := "isLeaf", desc := "(IIII)Z" } : Jvm.MethodName) prog_19_method_97_code (6 : Nat) (Option.some Jvm.ClassFile.FieldType.boolean)) ∈ lw_all := lw_g (lw_at lw_m10 40 rfl) rfl
theorem q2303 : (Jvm.Cond.methodLink "RugReaderModel" (423 : Nat) ({ cls := "RugReaderModel", name := "hasTrod", desc := "(II)Z" } : Jvm.MethodName)) ∈ lw_all := lw_g (lw_at lw_m10 41 rfl) rfl
theorem q2304 : (Jvm.Cond.privateMethod ({ cls := "RugReaderModel", name := "hasTrod", desc := "(II)Z" } : Jvm.MethodName)) ∈ lw_tbl := lw_at lw_m10 42 rfl
theorem q2305 : (Jvm.Cond.instanceMethod ({ cls := "RugReaderModel", name := "hasTrod", desc := "(II)Z" } : Jvm.MethodName)) ∈ lw_all := lw_g (lw_at lw_m10 43 rfl) rfl
theorem q2306 : (Jvm.Cond.code ({ cls := "RugReaderModel", name := "hasTrod", desc := "(II)Z" } : Jvm.MethodName) prog_19_method_96_code (4 : Nat) (Option.some Jvm.ClassFile.FieldType.boolean)) ∈ lw_all := lw_g (lw_at lw_m10 44 rfl) rfl
theorem q2307 : (Jvm.Cond.methodLink "RugReaderModel" (426 : Nat) ({ cls := "RugReaderModel", name := "person", desc := "(II)I" } : Jvm.MethodName)) ∈ lw_all := lw_g (lw_at lw_m10 45 rfl) rfl
theorem q2309 : (Jvm.Cond.instanceMethod ({ cls := "RugReaderModel", name := "image", desc := "(I)Z" } : Jvm.MethodName)) ∈ lw_all := lw_g (lw_at lw_m10 47 rfl) rfl
theorem q2310 : (Jvm.Cond.selects "RugReaderModel" ({ cls := "RugReaderModel", name := "image", desc := "(I)Z" } : Jvm.MethodName) ({ cls := "RugReaderModel", name := "image", desc := "(I)Z" } : Jvm.MethodName)) ∈ lw_all := lw_g (lw_at lw_m10 48 rfl) rfl
theorem q2311 : (Jvm.Cond.code ({ cls := "RugReaderModel", name := "image", desc := "(I)Z" } : Jvm.MethodName) prog_19_method_100_code (3 : Nat) (Option.some Jvm.ClassFile.FieldType.boolean)) ∈ lw_all := lw_g (lw_at lw_m10 49 rfl) rfl
theorem q2313 : (Jvm.Cond.instanceMethod ({ cls := "RugReaderModel", name := "restore", desc := "(I)Z" } : Jvm.MethodName)) ∈ lw_all := lw_g (lw_at lw_m10 51 rfl) rfl
theorem q2314 : (Jvm.Cond.selects "RugReaderModel" ({ cls := "RugReaderModel", name := "restore", desc := "(I)Z" } : Jvm.MethodName) ({ cls := "RugReaderModel", name := "restore", desc := "(I)Z" } : Jvm.MethodName)) ∈ lw_all := lw_g (lw_at lw_m10 52 rfl) rfl
theorem q2315 : (Jvm.Cond.code ({ cls := "RugReaderModel", name := "restore", desc := "(I)Z" } : Jvm.MethodName) prog_19_method_101_code (3 : Nat) (Option.some Jvm.ClassFile.FieldType.boolean)) ∈ lw_all := lw_g (lw_at lw_m10 53 rfl) rfl
theorem q2317 : (Jvm.Cond.instanceMethod ({ cls := "RugReaderModel", name := "count", desc := "(I)I" } : Jvm.MethodName)) ∈ lw_all := lw_g (lw_at lw_m10 55 rfl) rfl
theorem q2318 : (Jvm.Cond.selects "RugReaderModel" ({ cls := "RugReaderModel", name := "count", desc := "(I)I" } : Jvm.MethodName) ({ cls := "RugReaderModel", name := "count", desc := "(I)I" } : Jvm.MethodName)) ∈ lw_all := lw_g (lw_at lw_m10 56 rfl) rfl
theorem q2319 : (Jvm.Cond.code ({ cls := "RugReaderModel", name := "count", desc := "(I)I" } : Jvm.MethodName) prog_19_method_102_code (2 : Nat) (Option.some Jvm.ClassFile.FieldType.int)) ∈ lw_all := lw_g (lw_at lw_m10 57 rfl) rfl
theorem q2362 : (Jvm.Cond.castable "RugReaderModel" "java/lang/Object") ∈ lw_tbl := lw_at lw_m10 100 rfl
theorem in_X5 : ∀ w ∈ wsX50, w ∈ lw_all := lw_in wsX50 [1823, 1825, 1827, 1829, 1831, 1833, 1835, 1837, 1839, 1841, 1843, 1845, 1847, 1849, 1851, 1853, 1855, 1857, 1859, 1861, 1863, 1865, 1867, 1869, 1871, 1873, 1875, 1877, 1879, 1881, 1883, 1885, 1887, 1889, 1891, 1893, 1895, 1897, 1899, 1901, 1903, 1905, 1907, 1909, 1911, 1913, 1915, 1917, 1919, 1921, 1923, 1925, 1927, 1929, 1931] (by decide +kernel) (by decide +kernel)
