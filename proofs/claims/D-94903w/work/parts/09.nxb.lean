/-! RugReader$Reader -/
set_option maxRecDepth 100000
def RX6 : String := "RugReader$Reader"
abbrev cX6_init : ByteArray := prog_10_method_1_code
def yX6_init : MethodName := ⟨RX6, "<init>", "([BII)V"⟩
def dkwX6_init_1 : List UInt8 := [181, 0, 25, 177]
abbrev dktX6_init_1 : List UInt8 := dkwX6_init_1 ++ []
def dkwX6_init_0 : List UInt8 := [42, 183, 0, 3, 42, 18, 9, 181, 0, 11, 42, 43, 181, 0, 17, 42, 28, 181, 0, 21, 42, 29]
abbrev dktX6_init_0 : List UInt8 := dkwX6_init_0 ++ dktX6_init_1
theorem dksX6_init_0 : cX6_init.data.toList.drop 0 = dktX6_init_0 := by decide +kernel
theorem dksX6_init_1 : cX6_init.data.toList.drop 22 = dktX6_init_1 := dk_seg dksX6_init_0 22 rfl rfl
theorem dX6_init_0 : decode cX6_init 0 = .ok (.aload_n 0, 1) := dk_42 (dk_at dksX6_init_0 0 rfl rfl)
theorem dX6_init_1 : decode cX6_init 1 = .ok (.invokespecial 3, 3) := dk_183 0 3 (dk_at dksX6_init_0 1 rfl rfl)
theorem dX6_init_4 : decode cX6_init 4 = .ok (.aload_n 0, 1) := dk_42 (dk_at dksX6_init_0 4 rfl rfl)
theorem dX6_init_5 : decode cX6_init 5 = .ok (.ldc 9, 2) := dk_18 9 (dk_at dksX6_init_0 5 rfl rfl)
theorem dX6_init_7 : decode cX6_init 7 = .ok (.putfield 11, 3) := dk_181 0 11 (dk_at dksX6_init_0 7 rfl rfl)
theorem dX6_init_10 : decode cX6_init 10 = .ok (.aload_n 0, 1) := dk_42 (dk_at dksX6_init_0 10 rfl rfl)
theorem dX6_init_11 : decode cX6_init 11 = .ok (.aload_n 1, 1) := dk_43 (dk_at dksX6_init_0 11 rfl rfl)
theorem dX6_init_12 : decode cX6_init 12 = .ok (.putfield 17, 3) := dk_181 0 17 (dk_at dksX6_init_0 12 rfl rfl)
theorem dX6_init_15 : decode cX6_init 15 = .ok (.aload_n 0, 1) := dk_42 (dk_at dksX6_init_0 15 rfl rfl)
theorem dX6_init_16 : decode cX6_init 16 = .ok (.iload_n 2, 1) := dk_28 (dk_at dksX6_init_0 16 rfl rfl)
theorem dX6_init_17 : decode cX6_init 17 = .ok (.putfield 21, 3) := dk_181 0 21 (dk_at dksX6_init_0 17 rfl rfl)
theorem dX6_init_20 : decode cX6_init 20 = .ok (.aload_n 0, 1) := dk_42 (dk_at dksX6_init_0 20 rfl rfl)
theorem dX6_init_21 : decode cX6_init 21 = .ok (.iload_n 3, 1) := dk_29 (dk_at dksX6_init_0 21 rfl rfl)
theorem dX6_init_22 : decode cX6_init 22 = .ok (.putfield 25, 3) := dk_181 0 25 (dk_at dksX6_init_1 0 rfl rfl)
theorem dX6_init_25 : decode cX6_init 25 = .ok (.return_, 1) := dk_177 (dk_at dksX6_init_1 3 rfl rfl)
abbrev cX6_go : ByteArray := prog_10_method_5_code
def yX6_go : MethodName := ⟨RX6, "go", "()V"⟩
def dkwX6_go_17 : List UInt8 := [153, 0, 7, 5, 167, 0, 4, 6, 181, 0, 38, 177]
abbrev dktX6_go_17 : List UInt8 := dkwX6_go_17 ++ []
def dkwX6_go_16 : List UInt8 := [180, 0, 35, 100, 28, 153, 0, 8, 16, 7, 167, 0, 4, 6, 164, 0, 7, 4, 167, 0, 12, 28]
abbrev dktX6_go_16 : List UInt8 := dkwX6_go_16 ++ dktX6_go_17
def dkwX6_go_15 : List UInt8 := [167, 255, 128, 42, 25, 4, 182, 0, 61, 181, 0, 11, 42, 29, 153, 0, 25, 42, 180, 0, 28, 42]
abbrev dktX6_go_15 : List UInt8 := dkwX6_go_15 ++ dktX6_go_16
def dkwX6_go_14 : List UInt8 := [180, 0, 28, 182, 0, 31, 96, 16, 48, 100, 181, 0, 51, 42, 89, 180, 0, 28, 4, 96, 181, 0, 28]
abbrev dktX6_go_14 : List UInt8 := dkwX6_go_14 ++ dktX6_go_15
def dkwX6_go_13 : List UInt8 := [42, 180, 0, 28, 42, 180, 0, 35, 100, 6, 162, 0, 26, 42, 16, 10, 42, 180, 0, 51, 104, 42, 42]
abbrev dktX6_go_13 : List UInt8 := dkwX6_go_13 ++ dktX6_go_14
def dkwX6_go_12 : List UInt8 := [180, 0, 35, 100, 16, 7, 162, 0, 18, 25, 4, 42, 42, 180, 0, 28, 182, 0, 31, 146, 182, 0, 57, 87]
abbrev dktX6_go_12 : List UInt8 := dkwX6_go_12 ++ dktX6_go_13
def dkwX6_go_11 : List UInt8 := [180, 0, 28, 182, 0, 31, 184, 0, 41, 28, 160, 0, 7, 4, 167, 0, 4, 3, 62, 42, 180, 0, 28, 42]
abbrev dktX6_go_11 : List UInt8 := dkwX6_go_11 ++ dktX6_go_12
def dkwX6_go_10 : List UInt8 := [154, 0, 17, 42, 42, 180, 0, 28, 182, 0, 31, 184, 0, 45, 153, 0, 106, 29, 153, 0, 22, 42, 42]
abbrev dktX6_go_10 : List UInt8 := dkwX6_go_10 ++ dktX6_go_11
def dkwX6_go_9 : List UInt8 := [3, 181, 0, 51, 187, 0, 54, 89, 183, 0, 56, 58, 4, 42, 42, 180, 0, 28, 182, 0, 31, 184, 0, 41]
abbrev dktX6_go_9 : List UInt8 := dkwX6_go_9 ++ dktX6_go_10
def dkwX6_go_8 : List UInt8 := [42, 27, 181, 0, 48, 42, 89, 180, 0, 28, 4, 96, 181, 0, 28, 177, 27, 184, 0, 41, 61, 4, 62, 42]
abbrev dktX6_go_8 : List UInt8 := dkwX6_go_8 ++ dktX6_go_9
def dkwX6_go_7 : List UInt8 := [159, 0, 15, 27, 16, 40, 159, 0, 9, 27, 16, 41, 160, 0, 8, 16, 6, 167, 0, 4, 4, 181, 0, 38]
abbrev dktX6_go_7 : List UInt8 := dkwX6_go_7 ++ dktX6_go_8
def dkwX6_go_6 : List UInt8 := [160, 0, 7, 7, 167, 0, 39, 27, 16, 60, 159, 0, 27, 27, 16, 61, 159, 0, 21, 27, 16, 62]
abbrev dktX6_go_6 : List UInt8 := dkwX6_go_6 ++ dktX6_go_7
def dkwX6_go_5 : List UInt8 := [182, 0, 31, 60, 27, 184, 0, 41, 154, 0, 76, 27, 184, 0, 45, 154, 0, 69, 42, 27, 16, 59]
abbrev dktX6_go_5 : List UInt8 := dkwX6_go_5 ++ dktX6_go_6
def dkwX6_go_4 : List UInt8 := [42, 180, 0, 28, 42, 180, 0, 21, 161, 0, 9, 42, 3, 181, 0, 38, 177, 42, 42, 180, 0, 28]
abbrev dktX6_go_4 : List UInt8 := dkwX6_go_4 ++ dktX6_go_5
def dkwX6_go_3 : List UInt8 := [180, 0, 35, 42, 180, 0, 25, 161, 0, 17, 42, 42, 180, 0, 25, 181, 0, 35, 42, 8, 181, 0, 38, 177]
abbrev dktX6_go_3 : List UInt8 := dkwX6_go_3 ++ dktX6_go_4
def dkwX6_go_2 : List UInt8 := [167, 255, 209, 42, 42, 180, 0, 28, 181, 0, 35, 42, 180, 0, 21, 42, 180, 0, 25, 164, 0, 28, 42]
abbrev dktX6_go_2 : List UInt8 := dkwX6_go_2 ++ dktX6_go_3
def dkwX6_go_1 : List UInt8 := [42, 42, 180, 0, 28, 182, 0, 31, 16, 10, 160, 0, 16, 42, 89, 180, 0, 28, 4, 96, 181, 0, 28]
abbrev dktX6_go_1 : List UInt8 := dkwX6_go_1 ++ dktX6_go_2
def dkwX6_go_0 : List UInt8 := [42, 180, 0, 28, 42, 180, 0, 21, 162, 0, 42, 42, 42, 180, 0, 28, 182, 0, 31, 16, 32, 159, 0, 16]
abbrev dktX6_go_0 : List UInt8 := dkwX6_go_0 ++ dktX6_go_1
theorem dksX6_go_0 : cX6_go.data.toList.drop 0 = dktX6_go_0 := by decide +kernel
theorem dksX6_go_1 : cX6_go.data.toList.drop 24 = dktX6_go_1 := dk_seg dksX6_go_0 24 rfl rfl
theorem dksX6_go_2 : cX6_go.data.toList.drop 47 = dktX6_go_2 := dk_seg dksX6_go_1 23 rfl rfl
theorem dksX6_go_3 : cX6_go.data.toList.drop 70 = dktX6_go_3 := dk_seg dksX6_go_2 23 rfl rfl
theorem dksX6_go_4 : cX6_go.data.toList.drop 94 = dktX6_go_4 := dk_seg dksX6_go_3 24 rfl rfl
theorem dksX6_go_5 : cX6_go.data.toList.drop 116 = dktX6_go_5 := dk_seg dksX6_go_4 22 rfl rfl
theorem dksX6_go_6 : cX6_go.data.toList.drop 138 = dktX6_go_6 := dk_seg dksX6_go_5 22 rfl rfl
theorem dksX6_go_7 : cX6_go.data.toList.drop 160 = dktX6_go_7 := dk_seg dksX6_go_6 22 rfl rfl
theorem dksX6_go_8 : cX6_go.data.toList.drop 184 = dktX6_go_8 := dk_seg dksX6_go_7 24 rfl rfl
theorem dksX6_go_9 : cX6_go.data.toList.drop 208 = dktX6_go_9 := dk_seg dksX6_go_8 24 rfl rfl
theorem dksX6_go_10 : cX6_go.data.toList.drop 232 = dktX6_go_10 := dk_seg dksX6_go_9 24 rfl rfl
theorem dksX6_go_11 : cX6_go.data.toList.drop 255 = dktX6_go_11 := dk_seg dksX6_go_10 23 rfl rfl
theorem dksX6_go_12 : cX6_go.data.toList.drop 279 = dktX6_go_12 := dk_seg dksX6_go_11 24 rfl rfl
theorem dksX6_go_13 : cX6_go.data.toList.drop 303 = dktX6_go_13 := dk_seg dksX6_go_12 24 rfl rfl
theorem dksX6_go_14 : cX6_go.data.toList.drop 326 = dktX6_go_14 := dk_seg dksX6_go_13 23 rfl rfl
theorem dksX6_go_15 : cX6_go.data.toList.drop 349 = dktX6_go_15 := dk_seg dksX6_go_14 23 rfl rfl
theorem dksX6_go_16 : cX6_go.data.toList.drop 371 = dktX6_go_16 := dk_seg dksX6_go_15 22 rfl rfl
theorem dksX6_go_17 : cX6_go.data.toList.drop 393 = dktX6_go_17 := dk_seg dksX6_go_16 22 rfl rfl
theorem dX6_go_0 : decode cX6_go 0 = .ok (.aload_n 0, 1) := dk_42 (dk_at dksX6_go_0 0 rfl rfl)
theorem dX6_go_1 : decode cX6_go 1 = .ok (.getfield 28, 3) := dk_180 0 28 (dk_at dksX6_go_0 1 rfl rfl)
theorem dX6_go_4 : decode cX6_go 4 = .ok (.aload_n 0, 1) := dk_42 (dk_at dksX6_go_0 4 rfl rfl)
theorem dX6_go_5 : decode cX6_go 5 = .ok (.getfield 21, 3) := dk_180 0 21 (dk_at dksX6_go_0 5 rfl rfl)
theorem dX6_go_8 : decode cX6_go 8 = .ok (.if_icmp .ge 42, 3) := dk_162 0 42 (dk_at dksX6_go_0 8 rfl rfl)
theorem dX6_go_11 : decode cX6_go 11 = .ok (.aload_n 0, 1) := dk_42 (dk_at dksX6_go_0 11 rfl rfl)
theorem dX6_go_12 : decode cX6_go 12 = .ok (.aload_n 0, 1) := dk_42 (dk_at dksX6_go_0 12 rfl rfl)
theorem dX6_go_13 : decode cX6_go 13 = .ok (.getfield 28, 3) := dk_180 0 28 (dk_at dksX6_go_0 13 rfl rfl)
theorem dX6_go_16 : decode cX6_go 16 = .ok (.invokevirtual 31, 3) := dk_182 0 31 (dk_at dksX6_go_0 16 rfl rfl)
theorem dX6_go_19 : decode cX6_go 19 = .ok (.bipush 32, 2) := dk_16 32 (dk_at dksX6_go_0 19 rfl rfl)
theorem dX6_go_21 : decode cX6_go 21 = .ok (.if_icmp .eq 16, 3) := dk_159 0 16 (dk_at dksX6_go_0 21 rfl rfl)
theorem dX6_go_24 : decode cX6_go 24 = .ok (.aload_n 0, 1) := dk_42 (dk_at dksX6_go_1 0 rfl rfl)
theorem dX6_go_25 : decode cX6_go 25 = .ok (.aload_n 0, 1) := dk_42 (dk_at dksX6_go_1 1 rfl rfl)
theorem dX6_go_26 : decode cX6_go 26 = .ok (.getfield 28, 3) := dk_180 0 28 (dk_at dksX6_go_1 2 rfl rfl)
theorem dX6_go_29 : decode cX6_go 29 = .ok (.invokevirtual 31, 3) := dk_182 0 31 (dk_at dksX6_go_1 5 rfl rfl)
theorem dX6_go_32 : decode cX6_go 32 = .ok (.bipush 10, 2) := dk_16 10 (dk_at dksX6_go_1 8 rfl rfl)
theorem dX6_go_34 : decode cX6_go 34 = .ok (.if_icmp .ne 16, 3) := dk_160 0 16 (dk_at dksX6_go_1 10 rfl rfl)
theorem dX6_go_37 : decode cX6_go 37 = .ok (.aload_n 0, 1) := dk_42 (dk_at dksX6_go_1 13 rfl rfl)
theorem dX6_go_38 : decode cX6_go 38 = .ok (.dup, 1) := dk_89 (dk_at dksX6_go_1 14 rfl rfl)
theorem dX6_go_39 : decode cX6_go 39 = .ok (.getfield 28, 3) := dk_180 0 28 (dk_at dksX6_go_1 15 rfl rfl)
theorem dX6_go_42 : decode cX6_go 42 = .ok (.iconst 1, 1) := dk_4 (dk_at dksX6_go_1 18 rfl rfl)
theorem dX6_go_43 : decode cX6_go 43 = .ok (.iadd, 1) := dk_96 (dk_at dksX6_go_1 19 rfl rfl)
theorem dX6_go_44 : decode cX6_go 44 = .ok (.putfield 28, 3) := dk_181 0 28 (dk_at dksX6_go_1 20 rfl rfl)
theorem dX6_go_47 : decode cX6_go 47 = .ok (.goto (-47), 3) := dk_167 255 209 (dk_at dksX6_go_2 0 rfl rfl)
theorem dX6_go_50 : decode cX6_go 50 = .ok (.aload_n 0, 1) := dk_42 (dk_at dksX6_go_2 3 rfl rfl)
theorem dX6_go_51 : decode cX6_go 51 = .ok (.aload_n 0, 1) := dk_42 (dk_at dksX6_go_2 4 rfl rfl)
theorem dX6_go_52 : decode cX6_go 52 = .ok (.getfield 28, 3) := dk_180 0 28 (dk_at dksX6_go_2 5 rfl rfl)
theorem dX6_go_55 : decode cX6_go 55 = .ok (.putfield 35, 3) := dk_181 0 35 (dk_at dksX6_go_2 8 rfl rfl)
theorem dX6_go_58 : decode cX6_go 58 = .ok (.aload_n 0, 1) := dk_42 (dk_at dksX6_go_2 11 rfl rfl)
theorem dX6_go_59 : decode cX6_go 59 = .ok (.getfield 21, 3) := dk_180 0 21 (dk_at dksX6_go_2 12 rfl rfl)
theorem dX6_go_62 : decode cX6_go 62 = .ok (.aload_n 0, 1) := dk_42 (dk_at dksX6_go_2 15 rfl rfl)
theorem dX6_go_63 : decode cX6_go 63 = .ok (.getfield 25, 3) := dk_180 0 25 (dk_at dksX6_go_2 16 rfl rfl)
theorem dX6_go_66 : decode cX6_go 66 = .ok (.if_icmp .le 28, 3) := dk_164 0 28 (dk_at dksX6_go_2 19 rfl rfl)
theorem dX6_go_69 : decode cX6_go 69 = .ok (.aload_n 0, 1) := dk_42 (dk_at dksX6_go_2 22 rfl rfl)
theorem dX6_go_70 : decode cX6_go 70 = .ok (.getfield 35, 3) := dk_180 0 35 (dk_at dksX6_go_3 0 rfl rfl)
theorem dX6_go_73 : decode cX6_go 73 = .ok (.aload_n 0, 1) := dk_42 (dk_at dksX6_go_3 3 rfl rfl)
theorem dX6_go_74 : decode cX6_go 74 = .ok (.getfield 25, 3) := dk_180 0 25 (dk_at dksX6_go_3 4 rfl rfl)
theorem dX6_go_77 : decode cX6_go 77 = .ok (.if_icmp .lt 17, 3) := dk_161 0 17 (dk_at dksX6_go_3 7 rfl rfl)
theorem dX6_go_80 : decode cX6_go 80 = .ok (.aload_n 0, 1) := dk_42 (dk_at dksX6_go_3 10 rfl rfl)
theorem dX6_go_81 : decode cX6_go 81 = .ok (.aload_n 0, 1) := dk_42 (dk_at dksX6_go_3 11 rfl rfl)
theorem dX6_go_82 : decode cX6_go 82 = .ok (.getfield 25, 3) := dk_180 0 25 (dk_at dksX6_go_3 12 rfl rfl)
theorem dX6_go_85 : decode cX6_go 85 = .ok (.putfield 35, 3) := dk_181 0 35 (dk_at dksX6_go_3 15 rfl rfl)
theorem dX6_go_88 : decode cX6_go 88 = .ok (.aload_n 0, 1) := dk_42 (dk_at dksX6_go_3 18 rfl rfl)
theorem dX6_go_89 : decode cX6_go 89 = .ok (.iconst 5, 1) := dk_8 (dk_at dksX6_go_3 19 rfl rfl)
theorem dX6_go_90 : decode cX6_go 90 = .ok (.putfield 38, 3) := dk_181 0 38 (dk_at dksX6_go_3 20 rfl rfl)
theorem dX6_go_93 : decode cX6_go 93 = .ok (.return_, 1) := dk_177 (dk_at dksX6_go_3 23 rfl rfl)
theorem dX6_go_94 : decode cX6_go 94 = .ok (.aload_n 0, 1) := dk_42 (dk_at dksX6_go_4 0 rfl rfl)
theorem dX6_go_95 : decode cX6_go 95 = .ok (.getfield 28, 3) := dk_180 0 28 (dk_at dksX6_go_4 1 rfl rfl)
theorem dX6_go_98 : decode cX6_go 98 = .ok (.aload_n 0, 1) := dk_42 (dk_at dksX6_go_4 4 rfl rfl)
theorem dX6_go_99 : decode cX6_go 99 = .ok (.getfield 21, 3) := dk_180 0 21 (dk_at dksX6_go_4 5 rfl rfl)
theorem dX6_go_102 : decode cX6_go 102 = .ok (.if_icmp .lt 9, 3) := dk_161 0 9 (dk_at dksX6_go_4 8 rfl rfl)
theorem dX6_go_105 : decode cX6_go 105 = .ok (.aload_n 0, 1) := dk_42 (dk_at dksX6_go_4 11 rfl rfl)
theorem dX6_go_106 : decode cX6_go 106 = .ok (.iconst 0, 1) := dk_3 (dk_at dksX6_go_4 12 rfl rfl)
theorem dX6_go_107 : decode cX6_go 107 = .ok (.putfield 38, 3) := dk_181 0 38 (dk_at dksX6_go_4 13 rfl rfl)
theorem dX6_go_110 : decode cX6_go 110 = .ok (.return_, 1) := dk_177 (dk_at dksX6_go_4 16 rfl rfl)
theorem dX6_go_111 : decode cX6_go 111 = .ok (.aload_n 0, 1) := dk_42 (dk_at dksX6_go_4 17 rfl rfl)
theorem dX6_go_112 : decode cX6_go 112 = .ok (.aload_n 0, 1) := dk_42 (dk_at dksX6_go_4 18 rfl rfl)
theorem dX6_go_113 : decode cX6_go 113 = .ok (.getfield 28, 3) := dk_180 0 28 (dk_at dksX6_go_4 19 rfl rfl)
theorem dX6_go_116 : decode cX6_go 116 = .ok (.invokevirtual 31, 3) := dk_182 0 31 (dk_at dksX6_go_5 0 rfl rfl)
theorem dX6_go_119 : decode cX6_go 119 = .ok (.istore_n 1, 1) := dk_60 (dk_at dksX6_go_5 3 rfl rfl)
theorem dX6_go_120 : decode cX6_go 120 = .ok (.iload_n 1, 1) := dk_27 (dk_at dksX6_go_5 4 rfl rfl)
theorem dX6_go_121 : decode cX6_go 121 = .ok (.invokestatic 41, 3) := dk_184 0 41 (dk_at dksX6_go_5 5 rfl rfl)
theorem dX6_go_124 : decode cX6_go 124 = .ok (.ifCond .ne 76, 3) := dk_154 0 76 (dk_at dksX6_go_5 8 rfl rfl)
theorem dX6_go_127 : decode cX6_go 127 = .ok (.iload_n 1, 1) := dk_27 (dk_at dksX6_go_5 11 rfl rfl)
theorem dX6_go_128 : decode cX6_go 128 = .ok (.invokestatic 45, 3) := dk_184 0 45 (dk_at dksX6_go_5 12 rfl rfl)
theorem dX6_go_131 : decode cX6_go 131 = .ok (.ifCond .ne 69, 3) := dk_154 0 69 (dk_at dksX6_go_5 15 rfl rfl)
theorem dX6_go_134 : decode cX6_go 134 = .ok (.aload_n 0, 1) := dk_42 (dk_at dksX6_go_5 18 rfl rfl)
theorem dX6_go_135 : decode cX6_go 135 = .ok (.iload_n 1, 1) := dk_27 (dk_at dksX6_go_5 19 rfl rfl)
theorem dX6_go_136 : decode cX6_go 136 = .ok (.bipush 59, 2) := dk_16 59 (dk_at dksX6_go_5 20 rfl rfl)
theorem dX6_go_138 : decode cX6_go 138 = .ok (.if_icmp .ne 7, 3) := dk_160 0 7 (dk_at dksX6_go_6 0 rfl rfl)
theorem dX6_go_141 : decode cX6_go 141 = .ok (.iconst 4, 1) := dk_7 (dk_at dksX6_go_6 3 rfl rfl)
theorem dX6_go_142 : decode cX6_go 142 = .ok (.goto 39, 3) := dk_167 0 39 (dk_at dksX6_go_6 4 rfl rfl)
theorem dX6_go_145 : decode cX6_go 145 = .ok (.iload_n 1, 1) := dk_27 (dk_at dksX6_go_6 7 rfl rfl)
theorem dX6_go_146 : decode cX6_go 146 = .ok (.bipush 60, 2) := dk_16 60 (dk_at dksX6_go_6 8 rfl rfl)
theorem dX6_go_148 : decode cX6_go 148 = .ok (.if_icmp .eq 27, 3) := dk_159 0 27 (dk_at dksX6_go_6 10 rfl rfl)
theorem dX6_go_151 : decode cX6_go 151 = .ok (.iload_n 1, 1) := dk_27 (dk_at dksX6_go_6 13 rfl rfl)
theorem dX6_go_152 : decode cX6_go 152 = .ok (.bipush 61, 2) := dk_16 61 (dk_at dksX6_go_6 14 rfl rfl)
theorem dX6_go_154 : decode cX6_go 154 = .ok (.if_icmp .eq 21, 3) := dk_159 0 21 (dk_at dksX6_go_6 16 rfl rfl)
theorem dX6_go_157 : decode cX6_go 157 = .ok (.iload_n 1, 1) := dk_27 (dk_at dksX6_go_6 19 rfl rfl)
theorem dX6_go_158 : decode cX6_go 158 = .ok (.bipush 62, 2) := dk_16 62 (dk_at dksX6_go_6 20 rfl rfl)
theorem dX6_go_160 : decode cX6_go 160 = .ok (.if_icmp .eq 15, 3) := dk_159 0 15 (dk_at dksX6_go_7 0 rfl rfl)
theorem dX6_go_163 : decode cX6_go 163 = .ok (.iload_n 1, 1) := dk_27 (dk_at dksX6_go_7 3 rfl rfl)
theorem dX6_go_164 : decode cX6_go 164 = .ok (.bipush 40, 2) := dk_16 40 (dk_at dksX6_go_7 4 rfl rfl)
theorem dX6_go_166 : decode cX6_go 166 = .ok (.if_icmp .eq 9, 3) := dk_159 0 9 (dk_at dksX6_go_7 6 rfl rfl)
theorem dX6_go_169 : decode cX6_go 169 = .ok (.iload_n 1, 1) := dk_27 (dk_at dksX6_go_7 9 rfl rfl)
theorem dX6_go_170 : decode cX6_go 170 = .ok (.bipush 41, 2) := dk_16 41 (dk_at dksX6_go_7 10 rfl rfl)
theorem dX6_go_172 : decode cX6_go 172 = .ok (.if_icmp .ne 8, 3) := dk_160 0 8 (dk_at dksX6_go_7 12 rfl rfl)
theorem dX6_go_175 : decode cX6_go 175 = .ok (.bipush 6, 2) := dk_16 6 (dk_at dksX6_go_7 15 rfl rfl)
theorem dX6_go_177 : decode cX6_go 177 = .ok (.goto 4, 3) := dk_167 0 4 (dk_at dksX6_go_7 17 rfl rfl)
theorem dX6_go_180 : decode cX6_go 180 = .ok (.iconst 1, 1) := dk_4 (dk_at dksX6_go_7 20 rfl rfl)
theorem dX6_go_181 : decode cX6_go 181 = .ok (.putfield 38, 3) := dk_181 0 38 (dk_at dksX6_go_7 21 rfl rfl)
theorem dX6_go_184 : decode cX6_go 184 = .ok (.aload_n 0, 1) := dk_42 (dk_at dksX6_go_8 0 rfl rfl)
theorem dX6_go_185 : decode cX6_go 185 = .ok (.iload_n 1, 1) := dk_27 (dk_at dksX6_go_8 1 rfl rfl)
theorem dX6_go_186 : decode cX6_go 186 = .ok (.putfield 48, 3) := dk_181 0 48 (dk_at dksX6_go_8 2 rfl rfl)
theorem dX6_go_189 : decode cX6_go 189 = .ok (.aload_n 0, 1) := dk_42 (dk_at dksX6_go_8 5 rfl rfl)
theorem dX6_go_190 : decode cX6_go 190 = .ok (.dup, 1) := dk_89 (dk_at dksX6_go_8 6 rfl rfl)
theorem dX6_go_191 : decode cX6_go 191 = .ok (.getfield 28, 3) := dk_180 0 28 (dk_at dksX6_go_8 7 rfl rfl)
theorem dX6_go_194 : decode cX6_go 194 = .ok (.iconst 1, 1) := dk_4 (dk_at dksX6_go_8 10 rfl rfl)
theorem dX6_go_195 : decode cX6_go 195 = .ok (.iadd, 1) := dk_96 (dk_at dksX6_go_8 11 rfl rfl)
theorem dX6_go_196 : decode cX6_go 196 = .ok (.putfield 28, 3) := dk_181 0 28 (dk_at dksX6_go_8 12 rfl rfl)
theorem dX6_go_199 : decode cX6_go 199 = .ok (.return_, 1) := dk_177 (dk_at dksX6_go_8 15 rfl rfl)
theorem dX6_go_200 : decode cX6_go 200 = .ok (.iload_n 1, 1) := dk_27 (dk_at dksX6_go_8 16 rfl rfl)
theorem dX6_go_201 : decode cX6_go 201 = .ok (.invokestatic 41, 3) := dk_184 0 41 (dk_at dksX6_go_8 17 rfl rfl)
theorem dX6_go_204 : decode cX6_go 204 = .ok (.istore_n 2, 1) := dk_61 (dk_at dksX6_go_8 20 rfl rfl)
theorem dX6_go_205 : decode cX6_go 205 = .ok (.iconst 1, 1) := dk_4 (dk_at dksX6_go_8 21 rfl rfl)
theorem dX6_go_206 : decode cX6_go 206 = .ok (.istore_n 3, 1) := dk_62 (dk_at dksX6_go_8 22 rfl rfl)
theorem dX6_go_207 : decode cX6_go 207 = .ok (.aload_n 0, 1) := dk_42 (dk_at dksX6_go_8 23 rfl rfl)
theorem dX6_go_208 : decode cX6_go 208 = .ok (.iconst 0, 1) := dk_3 (dk_at dksX6_go_9 0 rfl rfl)
theorem dX6_go_209 : decode cX6_go 209 = .ok (.putfield 51, 3) := dk_181 0 51 (dk_at dksX6_go_9 1 rfl rfl)
theorem dX6_go_212 : decode cX6_go 212 = .ok (.new 54, 3) := dk_187 0 54 (dk_at dksX6_go_9 4 rfl rfl)
theorem dX6_go_215 : decode cX6_go 215 = .ok (.dup, 1) := dk_89 (dk_at dksX6_go_9 7 rfl rfl)
theorem dX6_go_216 : decode cX6_go 216 = .ok (.invokespecial 56, 3) := dk_183 0 56 (dk_at dksX6_go_9 8 rfl rfl)
theorem dX6_go_219 : decode cX6_go 219 = .ok (.astore 4, 2) := dk_58 4 (dk_at dksX6_go_9 11 rfl rfl)
theorem dX6_go_221 : decode cX6_go 221 = .ok (.aload_n 0, 1) := dk_42 (dk_at dksX6_go_9 13 rfl rfl)
theorem dX6_go_222 : decode cX6_go 222 = .ok (.aload_n 0, 1) := dk_42 (dk_at dksX6_go_9 14 rfl rfl)
theorem dX6_go_223 : decode cX6_go 223 = .ok (.getfield 28, 3) := dk_180 0 28 (dk_at dksX6_go_9 15 rfl rfl)
theorem dX6_go_226 : decode cX6_go 226 = .ok (.invokevirtual 31, 3) := dk_182 0 31 (dk_at dksX6_go_9 18 rfl rfl)
theorem dX6_go_229 : decode cX6_go 229 = .ok (.invokestatic 41, 3) := dk_184 0 41 (dk_at dksX6_go_9 21 rfl rfl)
theorem dX6_go_232 : decode cX6_go 232 = .ok (.ifCond .ne 17, 3) := dk_154 0 17 (dk_at dksX6_go_10 0 rfl rfl)
theorem dX6_go_235 : decode cX6_go 235 = .ok (.aload_n 0, 1) := dk_42 (dk_at dksX6_go_10 3 rfl rfl)
theorem dX6_go_236 : decode cX6_go 236 = .ok (.aload_n 0, 1) := dk_42 (dk_at dksX6_go_10 4 rfl rfl)
theorem dX6_go_237 : decode cX6_go 237 = .ok (.getfield 28, 3) := dk_180 0 28 (dk_at dksX6_go_10 5 rfl rfl)
theorem dX6_go_240 : decode cX6_go 240 = .ok (.invokevirtual 31, 3) := dk_182 0 31 (dk_at dksX6_go_10 8 rfl rfl)
theorem dX6_go_243 : decode cX6_go 243 = .ok (.invokestatic 45, 3) := dk_184 0 45 (dk_at dksX6_go_10 11 rfl rfl)
theorem dX6_go_246 : decode cX6_go 246 = .ok (.ifCond .eq 106, 3) := dk_153 0 106 (dk_at dksX6_go_10 14 rfl rfl)
theorem dX6_go_249 : decode cX6_go 249 = .ok (.iload_n 3, 1) := dk_29 (dk_at dksX6_go_10 17 rfl rfl)
theorem dX6_go_250 : decode cX6_go 250 = .ok (.ifCond .eq 22, 3) := dk_153 0 22 (dk_at dksX6_go_10 18 rfl rfl)
theorem dX6_go_253 : decode cX6_go 253 = .ok (.aload_n 0, 1) := dk_42 (dk_at dksX6_go_10 21 rfl rfl)
theorem dX6_go_254 : decode cX6_go 254 = .ok (.aload_n 0, 1) := dk_42 (dk_at dksX6_go_10 22 rfl rfl)
theorem dX6_go_255 : decode cX6_go 255 = .ok (.getfield 28, 3) := dk_180 0 28 (dk_at dksX6_go_11 0 rfl rfl)
theorem dX6_go_258 : decode cX6_go 258 = .ok (.invokevirtual 31, 3) := dk_182 0 31 (dk_at dksX6_go_11 3 rfl rfl)
theorem dX6_go_261 : decode cX6_go 261 = .ok (.invokestatic 41, 3) := dk_184 0 41 (dk_at dksX6_go_11 6 rfl rfl)
theorem dX6_go_264 : decode cX6_go 264 = .ok (.iload_n 2, 1) := dk_28 (dk_at dksX6_go_11 9 rfl rfl)
theorem dX6_go_265 : decode cX6_go 265 = .ok (.if_icmp .ne 7, 3) := dk_160 0 7 (dk_at dksX6_go_11 10 rfl rfl)
theorem dX6_go_268 : decode cX6_go 268 = .ok (.iconst 1, 1) := dk_4 (dk_at dksX6_go_11 13 rfl rfl)
theorem dX6_go_269 : decode cX6_go 269 = .ok (.goto 4, 3) := dk_167 0 4 (dk_at dksX6_go_11 14 rfl rfl)
theorem dX6_go_272 : decode cX6_go 272 = .ok (.iconst 0, 1) := dk_3 (dk_at dksX6_go_11 17 rfl rfl)
theorem dX6_go_273 : decode cX6_go 273 = .ok (.istore_n 3, 1) := dk_62 (dk_at dksX6_go_11 18 rfl rfl)
theorem dX6_go_274 : decode cX6_go 274 = .ok (.aload_n 0, 1) := dk_42 (dk_at dksX6_go_11 19 rfl rfl)
theorem dX6_go_275 : decode cX6_go 275 = .ok (.getfield 28, 3) := dk_180 0 28 (dk_at dksX6_go_11 20 rfl rfl)
theorem dX6_go_278 : decode cX6_go 278 = .ok (.aload_n 0, 1) := dk_42 (dk_at dksX6_go_11 23 rfl rfl)
theorem dX6_go_279 : decode cX6_go 279 = .ok (.getfield 35, 3) := dk_180 0 35 (dk_at dksX6_go_12 0 rfl rfl)
theorem dX6_go_282 : decode cX6_go 282 = .ok (.isub, 1) := dk_100 (dk_at dksX6_go_12 3 rfl rfl)
theorem dX6_go_283 : decode cX6_go 283 = .ok (.bipush 7, 2) := dk_16 7 (dk_at dksX6_go_12 4 rfl rfl)
theorem dX6_go_285 : decode cX6_go 285 = .ok (.if_icmp .ge 18, 3) := dk_162 0 18 (dk_at dksX6_go_12 6 rfl rfl)
theorem dX6_go_288 : decode cX6_go 288 = .ok (.aload 4, 2) := dk_25 4 (dk_at dksX6_go_12 9 rfl rfl)
theorem dX6_go_290 : decode cX6_go 290 = .ok (.aload_n 0, 1) := dk_42 (dk_at dksX6_go_12 11 rfl rfl)
theorem dX6_go_291 : decode cX6_go 291 = .ok (.aload_n 0, 1) := dk_42 (dk_at dksX6_go_12 12 rfl rfl)
theorem dX6_go_292 : decode cX6_go 292 = .ok (.getfield 28, 3) := dk_180 0 28 (dk_at dksX6_go_12 13 rfl rfl)
theorem dX6_go_295 : decode cX6_go 295 = .ok (.invokevirtual 31, 3) := dk_182 0 31 (dk_at dksX6_go_12 16 rfl rfl)
theorem dX6_go_298 : decode cX6_go 298 = .ok (.i2c, 1) := dk_146 (dk_at dksX6_go_12 19 rfl rfl)
theorem dX6_go_299 : decode cX6_go 299 = .ok (.invokevirtual 57, 3) := dk_182 0 57 (dk_at dksX6_go_12 20 rfl rfl)
theorem dX6_go_302 : decode cX6_go 302 = .ok (.pop, 1) := dk_87 (dk_at dksX6_go_12 23 rfl rfl)
theorem dX6_go_303 : decode cX6_go 303 = .ok (.aload_n 0, 1) := dk_42 (dk_at dksX6_go_13 0 rfl rfl)
theorem dX6_go_304 : decode cX6_go 304 = .ok (.getfield 28, 3) := dk_180 0 28 (dk_at dksX6_go_13 1 rfl rfl)
theorem dX6_go_307 : decode cX6_go 307 = .ok (.aload_n 0, 1) := dk_42 (dk_at dksX6_go_13 4 rfl rfl)
theorem dX6_go_308 : decode cX6_go 308 = .ok (.getfield 35, 3) := dk_180 0 35 (dk_at dksX6_go_13 5 rfl rfl)
theorem dX6_go_311 : decode cX6_go 311 = .ok (.isub, 1) := dk_100 (dk_at dksX6_go_13 8 rfl rfl)
theorem dX6_go_312 : decode cX6_go 312 = .ok (.iconst 3, 1) := dk_6 (dk_at dksX6_go_13 9 rfl rfl)
theorem dX6_go_313 : decode cX6_go 313 = .ok (.if_icmp .ge 26, 3) := dk_162 0 26 (dk_at dksX6_go_13 10 rfl rfl)
theorem dX6_go_316 : decode cX6_go 316 = .ok (.aload_n 0, 1) := dk_42 (dk_at dksX6_go_13 13 rfl rfl)
theorem dX6_go_317 : decode cX6_go 317 = .ok (.bipush 10, 2) := dk_16 10 (dk_at dksX6_go_13 14 rfl rfl)
theorem dX6_go_319 : decode cX6_go 319 = .ok (.aload_n 0, 1) := dk_42 (dk_at dksX6_go_13 16 rfl rfl)
theorem dX6_go_320 : decode cX6_go 320 = .ok (.getfield 51, 3) := dk_180 0 51 (dk_at dksX6_go_13 17 rfl rfl)
theorem dX6_go_323 : decode cX6_go 323 = .ok (.imul, 1) := dk_104 (dk_at dksX6_go_13 20 rfl rfl)
theorem dX6_go_324 : decode cX6_go 324 = .ok (.aload_n 0, 1) := dk_42 (dk_at dksX6_go_13 21 rfl rfl)
theorem dX6_go_325 : decode cX6_go 325 = .ok (.aload_n 0, 1) := dk_42 (dk_at dksX6_go_13 22 rfl rfl)
theorem dX6_go_326 : decode cX6_go 326 = .ok (.getfield 28, 3) := dk_180 0 28 (dk_at dksX6_go_14 0 rfl rfl)
theorem dX6_go_329 : decode cX6_go 329 = .ok (.invokevirtual 31, 3) := dk_182 0 31 (dk_at dksX6_go_14 3 rfl rfl)
theorem dX6_go_332 : decode cX6_go 332 = .ok (.iadd, 1) := dk_96 (dk_at dksX6_go_14 6 rfl rfl)
theorem dX6_go_333 : decode cX6_go 333 = .ok (.bipush 48, 2) := dk_16 48 (dk_at dksX6_go_14 7 rfl rfl)
theorem dX6_go_335 : decode cX6_go 335 = .ok (.isub, 1) := dk_100 (dk_at dksX6_go_14 9 rfl rfl)
theorem dX6_go_336 : decode cX6_go 336 = .ok (.putfield 51, 3) := dk_181 0 51 (dk_at dksX6_go_14 10 rfl rfl)
theorem dX6_go_339 : decode cX6_go 339 = .ok (.aload_n 0, 1) := dk_42 (dk_at dksX6_go_14 13 rfl rfl)
theorem dX6_go_340 : decode cX6_go 340 = .ok (.dup, 1) := dk_89 (dk_at dksX6_go_14 14 rfl rfl)
theorem dX6_go_341 : decode cX6_go 341 = .ok (.getfield 28, 3) := dk_180 0 28 (dk_at dksX6_go_14 15 rfl rfl)
theorem dX6_go_344 : decode cX6_go 344 = .ok (.iconst 1, 1) := dk_4 (dk_at dksX6_go_14 18 rfl rfl)
theorem dX6_go_345 : decode cX6_go 345 = .ok (.iadd, 1) := dk_96 (dk_at dksX6_go_14 19 rfl rfl)
theorem dX6_go_346 : decode cX6_go 346 = .ok (.putfield 28, 3) := dk_181 0 28 (dk_at dksX6_go_14 20 rfl rfl)
theorem dX6_go_349 : decode cX6_go 349 = .ok (.goto (-128), 3) := dk_167 255 128 (dk_at dksX6_go_15 0 rfl rfl)
theorem dX6_go_352 : decode cX6_go 352 = .ok (.aload_n 0, 1) := dk_42 (dk_at dksX6_go_15 3 rfl rfl)
theorem dX6_go_353 : decode cX6_go 353 = .ok (.aload 4, 2) := dk_25 4 (dk_at dksX6_go_15 4 rfl rfl)
theorem dX6_go_355 : decode cX6_go 355 = .ok (.invokevirtual 61, 3) := dk_182 0 61 (dk_at dksX6_go_15 6 rfl rfl)
theorem dX6_go_358 : decode cX6_go 358 = .ok (.putfield 11, 3) := dk_181 0 11 (dk_at dksX6_go_15 9 rfl rfl)
theorem dX6_go_361 : decode cX6_go 361 = .ok (.aload_n 0, 1) := dk_42 (dk_at dksX6_go_15 12 rfl rfl)
theorem dX6_go_362 : decode cX6_go 362 = .ok (.iload_n 3, 1) := dk_29 (dk_at dksX6_go_15 13 rfl rfl)
theorem dX6_go_363 : decode cX6_go 363 = .ok (.ifCond .eq 25, 3) := dk_153 0 25 (dk_at dksX6_go_15 14 rfl rfl)
theorem dX6_go_366 : decode cX6_go 366 = .ok (.aload_n 0, 1) := dk_42 (dk_at dksX6_go_15 17 rfl rfl)
theorem dX6_go_367 : decode cX6_go 367 = .ok (.getfield 28, 3) := dk_180 0 28 (dk_at dksX6_go_15 18 rfl rfl)
theorem dX6_go_370 : decode cX6_go 370 = .ok (.aload_n 0, 1) := dk_42 (dk_at dksX6_go_15 21 rfl rfl)
theorem dX6_go_371 : decode cX6_go 371 = .ok (.getfield 35, 3) := dk_180 0 35 (dk_at dksX6_go_16 0 rfl rfl)
theorem dX6_go_374 : decode cX6_go 374 = .ok (.isub, 1) := dk_100 (dk_at dksX6_go_16 3 rfl rfl)
theorem dX6_go_375 : decode cX6_go 375 = .ok (.iload_n 2, 1) := dk_28 (dk_at dksX6_go_16 4 rfl rfl)
theorem dX6_go_376 : decode cX6_go 376 = .ok (.ifCond .eq 8, 3) := dk_153 0 8 (dk_at dksX6_go_16 5 rfl rfl)
theorem dX6_go_379 : decode cX6_go 379 = .ok (.bipush 7, 2) := dk_16 7 (dk_at dksX6_go_16 8 rfl rfl)
theorem dX6_go_381 : decode cX6_go 381 = .ok (.goto 4, 3) := dk_167 0 4 (dk_at dksX6_go_16 10 rfl rfl)
theorem dX6_go_384 : decode cX6_go 384 = .ok (.iconst 3, 1) := dk_6 (dk_at dksX6_go_16 13 rfl rfl)
theorem dX6_go_385 : decode cX6_go 385 = .ok (.if_icmp .le 7, 3) := dk_164 0 7 (dk_at dksX6_go_16 14 rfl rfl)
theorem dX6_go_388 : decode cX6_go 388 = .ok (.iconst 1, 1) := dk_4 (dk_at dksX6_go_16 17 rfl rfl)
theorem dX6_go_389 : decode cX6_go 389 = .ok (.goto 12, 3) := dk_167 0 12 (dk_at dksX6_go_16 18 rfl rfl)
theorem dX6_go_392 : decode cX6_go 392 = .ok (.iload_n 2, 1) := dk_28 (dk_at dksX6_go_16 21 rfl rfl)
theorem dX6_go_393 : decode cX6_go 393 = .ok (.ifCond .eq 7, 3) := dk_153 0 7 (dk_at dksX6_go_17 0 rfl rfl)
theorem dX6_go_396 : decode cX6_go 396 = .ok (.iconst 2, 1) := dk_5 (dk_at dksX6_go_17 3 rfl rfl)
theorem dX6_go_397 : decode cX6_go 397 = .ok (.goto 4, 3) := dk_167 0 4 (dk_at dksX6_go_17 4 rfl rfl)
theorem dX6_go_400 : decode cX6_go 400 = .ok (.iconst 3, 1) := dk_6 (dk_at dksX6_go_17 7 rfl rfl)
theorem dX6_go_401 : decode cX6_go 401 = .ok (.putfield 38, 3) := dk_181 0 38 (dk_at dksX6_go_17 8 rfl rfl)
theorem dX6_go_404 : decode cX6_go 404 = .ok (.return_, 1) := dk_177 (dk_at dksX6_go_17 11 rfl rfl)
abbrev cX6_byteAt : ByteArray := prog_10_method_2_code
def yX6_byteAt : MethodName := ⟨RX6, "byteAt", "(I)I"⟩
def dkwX6_byteAt_0 : List UInt8 := [27, 42, 180, 0, 21, 162, 0, 16, 42, 180, 0, 17, 27, 51, 17, 0, 255, 126, 167, 0, 4, 3, 172]
abbrev dktX6_byteAt_0 : List UInt8 := dkwX6_byteAt_0 ++ []
theorem dksX6_byteAt_0 : cX6_byteAt.data.toList.drop 0 = dktX6_byteAt_0 := by decide +kernel
theorem dX6_byteAt_0 : decode cX6_byteAt 0 = .ok (.iload_n 1, 1) := dk_27 (dk_at dksX6_byteAt_0 0 rfl rfl)
theorem dX6_byteAt_1 : decode cX6_byteAt 1 = .ok (.aload_n 0, 1) := dk_42 (dk_at dksX6_byteAt_0 1 rfl rfl)
theorem dX6_byteAt_2 : decode cX6_byteAt 2 = .ok (.getfield 21, 3) := dk_180 0 21 (dk_at dksX6_byteAt_0 2 rfl rfl)
theorem dX6_byteAt_5 : decode cX6_byteAt 5 = .ok (.if_icmp .ge 16, 3) := dk_162 0 16 (dk_at dksX6_byteAt_0 5 rfl rfl)
theorem dX6_byteAt_8 : decode cX6_byteAt 8 = .ok (.aload_n 0, 1) := dk_42 (dk_at dksX6_byteAt_0 8 rfl rfl)
theorem dX6_byteAt_9 : decode cX6_byteAt 9 = .ok (.getfield 17, 3) := dk_180 0 17 (dk_at dksX6_byteAt_0 9 rfl rfl)
theorem dX6_byteAt_12 : decode cX6_byteAt 12 = .ok (.iload_n 1, 1) := dk_27 (dk_at dksX6_byteAt_0 12 rfl rfl)
theorem dX6_byteAt_13 : decode cX6_byteAt 13 = .ok (.baload, 1) := dk_51 (dk_at dksX6_byteAt_0 13 rfl rfl)
theorem dX6_byteAt_14 : decode cX6_byteAt 14 = .ok (.sipush 255, 3) := dk_17 0 255 (dk_at dksX6_byteAt_0 14 rfl rfl)
theorem dX6_byteAt_17 : decode cX6_byteAt 17 = .ok (.iand, 1) := dk_126 (dk_at dksX6_byteAt_0 17 rfl rfl)
theorem dX6_byteAt_18 : decode cX6_byteAt 18 = .ok (.goto 4, 3) := dk_167 0 4 (dk_at dksX6_byteAt_0 18 rfl rfl)
theorem dX6_byteAt_21 : decode cX6_byteAt 21 = .ok (.iconst 0, 1) := dk_3 (dk_at dksX6_byteAt_0 21 rfl rfl)
theorem dX6_byteAt_22 : decode cX6_byteAt 22 = .ok (.ireturn, 1) := dk_172 (dk_at dksX6_byteAt_0 22 rfl rfl)
abbrev cX6_isLetter : ByteArray := prog_10_method_4_code
def yX6_isLetter : MethodName := ⟨RX6, "isLetter", "(I)Z"⟩
def dkwX6_isLetter_0 : List UInt8 := [26, 16, 97, 161, 0, 13, 26, 16, 122, 163, 0, 7, 4, 167, 0, 4, 3, 172]
abbrev dktX6_isLetter_0 : List UInt8 := dkwX6_isLetter_0 ++ []
theorem dksX6_isLetter_0 : cX6_isLetter.data.toList.drop 0 = dktX6_isLetter_0 := by decide +kernel
theorem dX6_isLetter_0 : decode cX6_isLetter 0 = .ok (.iload_n 0, 1) := dk_26 (dk_at dksX6_isLetter_0 0 rfl rfl)
theorem dX6_isLetter_1 : decode cX6_isLetter 1 = .ok (.bipush 97, 2) := dk_16 97 (dk_at dksX6_isLetter_0 1 rfl rfl)
theorem dX6_isLetter_3 : decode cX6_isLetter 3 = .ok (.if_icmp .lt 13, 3) := dk_161 0 13 (dk_at dksX6_isLetter_0 3 rfl rfl)
theorem dX6_isLetter_6 : decode cX6_isLetter 6 = .ok (.iload_n 0, 1) := dk_26 (dk_at dksX6_isLetter_0 6 rfl rfl)
theorem dX6_isLetter_7 : decode cX6_isLetter 7 = .ok (.bipush 122, 2) := dk_16 122 (dk_at dksX6_isLetter_0 7 rfl rfl)
theorem dX6_isLetter_9 : decode cX6_isLetter 9 = .ok (.if_icmp .gt 7, 3) := dk_163 0 7 (dk_at dksX6_isLetter_0 9 rfl rfl)
theorem dX6_isLetter_12 : decode cX6_isLetter 12 = .ok (.iconst 1, 1) := dk_4 (dk_at dksX6_isLetter_0 12 rfl rfl)
theorem dX6_isLetter_13 : decode cX6_isLetter 13 = .ok (.goto 4, 3) := dk_167 0 4 (dk_at dksX6_isLetter_0 13 rfl rfl)
theorem dX6_isLetter_16 : decode cX6_isLetter 16 = .ok (.iconst 0, 1) := dk_3 (dk_at dksX6_isLetter_0 16 rfl rfl)
theorem dX6_isLetter_17 : decode cX6_isLetter 17 = .ok (.ireturn, 1) := dk_172 (dk_at dksX6_isLetter_0 17 rfl rfl)
abbrev cX6_isDigit : ByteArray := prog_10_method_3_code
def yX6_isDigit : MethodName := ⟨RX6, "isDigit", "(I)Z"⟩
def dkwX6_isDigit_0 : List UInt8 := [26, 16, 48, 161, 0, 13, 26, 16, 57, 163, 0, 7, 4, 167, 0, 4, 3, 172]
abbrev dktX6_isDigit_0 : List UInt8 := dkwX6_isDigit_0 ++ []
theorem dksX6_isDigit_0 : cX6_isDigit.data.toList.drop 0 = dktX6_isDigit_0 := by decide +kernel
theorem dX6_isDigit_0 : decode cX6_isDigit 0 = .ok (.iload_n 0, 1) := dk_26 (dk_at dksX6_isDigit_0 0 rfl rfl)
theorem dX6_isDigit_1 : decode cX6_isDigit 1 = .ok (.bipush 48, 2) := dk_16 48 (dk_at dksX6_isDigit_0 1 rfl rfl)
theorem dX6_isDigit_3 : decode cX6_isDigit 3 = .ok (.if_icmp .lt 13, 3) := dk_161 0 13 (dk_at dksX6_isDigit_0 3 rfl rfl)
theorem dX6_isDigit_6 : decode cX6_isDigit 6 = .ok (.iload_n 0, 1) := dk_26 (dk_at dksX6_isDigit_0 6 rfl rfl)
theorem dX6_isDigit_7 : decode cX6_isDigit 7 = .ok (.bipush 57, 2) := dk_16 57 (dk_at dksX6_isDigit_0 7 rfl rfl)
theorem dX6_isDigit_9 : decode cX6_isDigit 9 = .ok (.if_icmp .gt 7, 3) := dk_163 0 7 (dk_at dksX6_isDigit_0 9 rfl rfl)
theorem dX6_isDigit_12 : decode cX6_isDigit 12 = .ok (.iconst 1, 1) := dk_4 (dk_at dksX6_isDigit_0 12 rfl rfl)
theorem dX6_isDigit_13 : decode cX6_isDigit 13 = .ok (.goto 4, 3) := dk_167 0 4 (dk_at dksX6_isDigit_0 13 rfl rfl)
theorem dX6_isDigit_16 : decode cX6_isDigit 16 = .ok (.iconst 0, 1) := dk_3 (dk_at dksX6_isDigit_0 16 rfl rfl)
theorem dX6_isDigit_17 : decode cX6_isDigit 17 = .ok (.ireturn, 1) := dk_172 (dk_at dksX6_isDigit_0 17 rfl rfl)
abbrev cX6_is : ByteArray := prog_10_method_7_code
def yX6_is : MethodName := ⟨RX6, "is", "(Ljava/lang/String;)Z"⟩
def dkwX6_is_1 : List UInt8 := [172]
abbrev dktX6_is_1 : List UInt8 := dkwX6_is_1 ++ []
def dkwX6_is_0 : List UInt8 := [42, 180, 0, 38, 5, 160, 0, 18, 42, 180, 0, 11, 43, 182, 0, 70, 153, 0, 7, 4, 167, 0, 4, 3]
abbrev dktX6_is_0 : List UInt8 := dkwX6_is_0 ++ dktX6_is_1
theorem dksX6_is_0 : cX6_is.data.toList.drop 0 = dktX6_is_0 := by decide +kernel
theorem dksX6_is_1 : cX6_is.data.toList.drop 24 = dktX6_is_1 := dk_seg dksX6_is_0 24 rfl rfl
theorem dX6_is_0 : decode cX6_is 0 = .ok (.aload_n 0, 1) := dk_42 (dk_at dksX6_is_0 0 rfl rfl)
theorem dX6_is_1 : decode cX6_is 1 = .ok (.getfield 38, 3) := dk_180 0 38 (dk_at dksX6_is_0 1 rfl rfl)
theorem dX6_is_4 : decode cX6_is 4 = .ok (.iconst 2, 1) := dk_5 (dk_at dksX6_is_0 4 rfl rfl)
theorem dX6_is_5 : decode cX6_is 5 = .ok (.if_icmp .ne 18, 3) := dk_160 0 18 (dk_at dksX6_is_0 5 rfl rfl)
theorem dX6_is_8 : decode cX6_is 8 = .ok (.aload_n 0, 1) := dk_42 (dk_at dksX6_is_0 8 rfl rfl)
theorem dX6_is_9 : decode cX6_is 9 = .ok (.getfield 11, 3) := dk_180 0 11 (dk_at dksX6_is_0 9 rfl rfl)
theorem dX6_is_12 : decode cX6_is 12 = .ok (.aload_n 1, 1) := dk_43 (dk_at dksX6_is_0 12 rfl rfl)
theorem dX6_is_13 : decode cX6_is 13 = .ok (.invokevirtual 70, 3) := dk_182 0 70 (dk_at dksX6_is_0 13 rfl rfl)
theorem dX6_is_16 : decode cX6_is 16 = .ok (.ifCond .eq 7, 3) := dk_153 0 7 (dk_at dksX6_is_0 16 rfl rfl)
theorem dX6_is_19 : decode cX6_is 19 = .ok (.iconst 1, 1) := dk_4 (dk_at dksX6_is_0 19 rfl rfl)
theorem dX6_is_20 : decode cX6_is 20 = .ok (.goto 4, 3) := dk_167 0 4 (dk_at dksX6_is_0 20 rfl rfl)
theorem dX6_is_23 : decode cX6_is 23 = .ok (.iconst 0, 1) := dk_3 (dk_at dksX6_is_0 23 rfl rfl)
theorem dX6_is_24 : decode cX6_is 24 = .ok (.ireturn, 1) := dk_172 (dk_at dksX6_is_1 0 rfl rfl)
abbrev cX6_need : ByteArray := prog_10_method_6_code
def yX6_need : MethodName := ⟨RX6, "need", "(ZI)V"⟩
def dkwX6_need_1 : List UInt8 := [4, 167, 0, 4, 28, 42, 180, 0, 35, 183, 0, 67, 191, 177]
abbrev dktX6_need_1 : List UInt8 := dkwX6_need_1 ++ []
def dkwX6_need_0 : List UInt8 := [27, 154, 0, 36, 187, 0, 65, 89, 42, 180, 0, 38, 4, 159, 0, 11, 42, 180, 0, 38, 8, 160, 0, 7]
abbrev dktX6_need_0 : List UInt8 := dkwX6_need_0 ++ dktX6_need_1
theorem dksX6_need_0 : cX6_need.data.toList.drop 0 = dktX6_need_0 := by decide +kernel
theorem dksX6_need_1 : cX6_need.data.toList.drop 24 = dktX6_need_1 := dk_seg dksX6_need_0 24 rfl rfl
theorem dX6_need_0 : decode cX6_need 0 = .ok (.iload_n 1, 1) := dk_27 (dk_at dksX6_need_0 0 rfl rfl)
theorem dX6_need_1 : decode cX6_need 1 = .ok (.ifCond .ne 36, 3) := dk_154 0 36 (dk_at dksX6_need_0 1 rfl rfl)
theorem dX6_need_4 : decode cX6_need 4 = .ok (.new 65, 3) := dk_187 0 65 (dk_at dksX6_need_0 4 rfl rfl)
theorem dX6_need_7 : decode cX6_need 7 = .ok (.dup, 1) := dk_89 (dk_at dksX6_need_0 7 rfl rfl)
theorem dX6_need_8 : decode cX6_need 8 = .ok (.aload_n 0, 1) := dk_42 (dk_at dksX6_need_0 8 rfl rfl)
theorem dX6_need_9 : decode cX6_need 9 = .ok (.getfield 38, 3) := dk_180 0 38 (dk_at dksX6_need_0 9 rfl rfl)
theorem dX6_need_12 : decode cX6_need 12 = .ok (.iconst 1, 1) := dk_4 (dk_at dksX6_need_0 12 rfl rfl)
theorem dX6_need_13 : decode cX6_need 13 = .ok (.if_icmp .eq 11, 3) := dk_159 0 11 (dk_at dksX6_need_0 13 rfl rfl)
theorem dX6_need_16 : decode cX6_need 16 = .ok (.aload_n 0, 1) := dk_42 (dk_at dksX6_need_0 16 rfl rfl)
theorem dX6_need_17 : decode cX6_need 17 = .ok (.getfield 38, 3) := dk_180 0 38 (dk_at dksX6_need_0 17 rfl rfl)
theorem dX6_need_20 : decode cX6_need 20 = .ok (.iconst 5, 1) := dk_8 (dk_at dksX6_need_0 20 rfl rfl)
theorem dX6_need_21 : decode cX6_need 21 = .ok (.if_icmp .ne 7, 3) := dk_160 0 7 (dk_at dksX6_need_0 21 rfl rfl)
theorem dX6_need_24 : decode cX6_need 24 = .ok (.iconst 1, 1) := dk_4 (dk_at dksX6_need_1 0 rfl rfl)
theorem dX6_need_25 : decode cX6_need 25 = .ok (.goto 4, 3) := dk_167 0 4 (dk_at dksX6_need_1 1 rfl rfl)
theorem dX6_need_28 : decode cX6_need 28 = .ok (.iload_n 2, 1) := dk_28 (dk_at dksX6_need_1 4 rfl rfl)
theorem dX6_need_29 : decode cX6_need 29 = .ok (.aload_n 0, 1) := dk_42 (dk_at dksX6_need_1 5 rfl rfl)
theorem dX6_need_30 : decode cX6_need 30 = .ok (.getfield 35, 3) := dk_180 0 35 (dk_at dksX6_need_1 6 rfl rfl)
theorem dX6_need_33 : decode cX6_need 33 = .ok (.invokespecial 67, 3) := dk_183 0 67 (dk_at dksX6_need_1 9 rfl rfl)
theorem dX6_need_36 : decode cX6_need 36 = .ok (.athrow, 1) := dk_191 (dk_at dksX6_need_1 12 rfl rfl)
theorem dX6_need_37 : decode cX6_need 37 = .ok (.return_, 1) := dk_177 (dk_at dksX6_need_1 13 rfl rfl)
abbrev cX6_number : ByteArray := prog_10_method_10_code
def yX6_number : MethodName := ⟨RX6, "number", "(II)I"⟩
def dkwX6_number_0 : List UInt8 := [42, 27, 28, 182, 0, 95, 62, 42, 182, 0, 99, 29, 172]
abbrev dktX6_number_0 : List UInt8 := dkwX6_number_0 ++ []
theorem dksX6_number_0 : cX6_number.data.toList.drop 0 = dktX6_number_0 := by decide +kernel
theorem dX6_number_0 : decode cX6_number 0 = .ok (.aload_n 0, 1) := dk_42 (dk_at dksX6_number_0 0 rfl rfl)
theorem dX6_number_1 : decode cX6_number 1 = .ok (.iload_n 1, 1) := dk_27 (dk_at dksX6_number_0 1 rfl rfl)
theorem dX6_number_2 : decode cX6_number 2 = .ok (.iload_n 2, 1) := dk_28 (dk_at dksX6_number_0 2 rfl rfl)
theorem dX6_number_3 : decode cX6_number 3 = .ok (.invokevirtual 95, 3) := dk_182 0 95 (dk_at dksX6_number_0 3 rfl rfl)
theorem dX6_number_6 : decode cX6_number 6 = .ok (.istore_n 3, 1) := dk_62 (dk_at dksX6_number_0 6 rfl rfl)
theorem dX6_number_7 : decode cX6_number 7 = .ok (.aload_n 0, 1) := dk_42 (dk_at dksX6_number_0 7 rfl rfl)
theorem dX6_number_8 : decode cX6_number 8 = .ok (.invokevirtual 99, 3) := dk_182 0 99 (dk_at dksX6_number_0 8 rfl rfl)
theorem dX6_number_11 : decode cX6_number 11 = .ok (.iload_n 3, 1) := dk_29 (dk_at dksX6_number_0 11 rfl rfl)
theorem dX6_number_12 : decode cX6_number 12 = .ok (.ireturn, 1) := dk_172 (dk_at dksX6_number_0 12 rfl rfl)
abbrev cX6_hold : ByteArray := prog_10_method_9_code
def yX6_hold : MethodName := ⟨RX6, "hold", "(II)I"⟩
def dkwX6_hold_1 : List UInt8 := [28, 184, 0, 91, 5, 182, 0, 87, 42, 180, 0, 51, 172]
abbrev dktX6_hold_1 : List UInt8 := dkwX6_hold_1 ++ []
def dkwX6_hold_0 : List UInt8 := [42, 42, 180, 0, 38, 6, 160, 0, 7, 4, 167, 0, 4, 3, 4, 182, 0, 87, 42, 42, 180, 0, 51, 27]
abbrev dktX6_hold_0 : List UInt8 := dkwX6_hold_0 ++ dktX6_hold_1
theorem dksX6_hold_0 : cX6_hold.data.toList.drop 0 = dktX6_hold_0 := by decide +kernel
theorem dksX6_hold_1 : cX6_hold.data.toList.drop 24 = dktX6_hold_1 := dk_seg dksX6_hold_0 24 rfl rfl
theorem dX6_hold_0 : decode cX6_hold 0 = .ok (.aload_n 0, 1) := dk_42 (dk_at dksX6_hold_0 0 rfl rfl)
theorem dX6_hold_1 : decode cX6_hold 1 = .ok (.aload_n 0, 1) := dk_42 (dk_at dksX6_hold_0 1 rfl rfl)
theorem dX6_hold_2 : decode cX6_hold 2 = .ok (.getfield 38, 3) := dk_180 0 38 (dk_at dksX6_hold_0 2 rfl rfl)
theorem dX6_hold_5 : decode cX6_hold 5 = .ok (.iconst 3, 1) := dk_6 (dk_at dksX6_hold_0 5 rfl rfl)
theorem dX6_hold_6 : decode cX6_hold 6 = .ok (.if_icmp .ne 7, 3) := dk_160 0 7 (dk_at dksX6_hold_0 6 rfl rfl)
theorem dX6_hold_9 : decode cX6_hold 9 = .ok (.iconst 1, 1) := dk_4 (dk_at dksX6_hold_0 9 rfl rfl)
theorem dX6_hold_10 : decode cX6_hold 10 = .ok (.goto 4, 3) := dk_167 0 4 (dk_at dksX6_hold_0 10 rfl rfl)
theorem dX6_hold_13 : decode cX6_hold 13 = .ok (.iconst 0, 1) := dk_3 (dk_at dksX6_hold_0 13 rfl rfl)
theorem dX6_hold_14 : decode cX6_hold 14 = .ok (.iconst 1, 1) := dk_4 (dk_at dksX6_hold_0 14 rfl rfl)
theorem dX6_hold_15 : decode cX6_hold 15 = .ok (.invokevirtual 87, 3) := dk_182 0 87 (dk_at dksX6_hold_0 15 rfl rfl)
theorem dX6_hold_18 : decode cX6_hold 18 = .ok (.aload_n 0, 1) := dk_42 (dk_at dksX6_hold_0 18 rfl rfl)
theorem dX6_hold_19 : decode cX6_hold 19 = .ok (.aload_n 0, 1) := dk_42 (dk_at dksX6_hold_0 19 rfl rfl)
theorem dX6_hold_20 : decode cX6_hold 20 = .ok (.getfield 51, 3) := dk_180 0 51 (dk_at dksX6_hold_0 20 rfl rfl)
theorem dX6_hold_23 : decode cX6_hold 23 = .ok (.iload_n 1, 1) := dk_27 (dk_at dksX6_hold_0 23 rfl rfl)
theorem dX6_hold_24 : decode cX6_hold 24 = .ok (.iload_n 2, 1) := dk_28 (dk_at dksX6_hold_1 0 rfl rfl)
theorem dX6_hold_25 : decode cX6_hold 25 = .ok (.invokestatic 91, 3) := dk_184 0 91 (dk_at dksX6_hold_1 1 rfl rfl)
theorem dX6_hold_28 : decode cX6_hold 28 = .ok (.iconst 2, 1) := dk_5 (dk_at dksX6_hold_1 4 rfl rfl)
theorem dX6_hold_29 : decode cX6_hold 29 = .ok (.invokevirtual 87, 3) := dk_182 0 87 (dk_at dksX6_hold_1 5 rfl rfl)
theorem dX6_hold_32 : decode cX6_hold 32 = .ok (.aload_n 0, 1) := dk_42 (dk_at dksX6_hold_1 8 rfl rfl)
theorem dX6_hold_33 : decode cX6_hold 33 = .ok (.getfield 51, 3) := dk_180 0 51 (dk_at dksX6_hold_1 9 rfl rfl)
theorem dX6_hold_36 : decode cX6_hold 36 = .ok (.ireturn, 1) := dk_172 (dk_at dksX6_hold_1 12 rfl rfl)
abbrev cX6_isName : ByteArray := prog_10_method_8_code
def yX6_isName : MethodName := ⟨RX6, "isName", "()Z"⟩
def dkwX6_isName_2 : List UInt8 := [3, 172]
abbrev dktX6_isName_2 : List UInt8 := dkwX6_isName_2 ++ []
def dkwX6_isName_1 : List UInt8 := [180, 0, 11, 182, 0, 80, 18, 78, 182, 0, 80, 182, 0, 61, 182, 0, 83, 156, 0, 7, 4, 167, 0, 4]
abbrev dktX6_isName_1 : List UInt8 := dkwX6_isName_1 ++ dktX6_isName_2
def dkwX6_isName_0 : List UInt8 := [42, 180, 0, 38, 5, 160, 0, 42, 18, 76, 187, 0, 54, 89, 183, 0, 56, 18, 78, 182, 0, 80, 42]
abbrev dktX6_isName_0 : List UInt8 := dkwX6_isName_0 ++ dktX6_isName_1
theorem dksX6_isName_0 : cX6_isName.data.toList.drop 0 = dktX6_isName_0 := by decide +kernel
theorem dksX6_isName_1 : cX6_isName.data.toList.drop 23 = dktX6_isName_1 := dk_seg dksX6_isName_0 23 rfl rfl
theorem dksX6_isName_2 : cX6_isName.data.toList.drop 47 = dktX6_isName_2 := dk_seg dksX6_isName_1 24 rfl rfl
theorem dX6_isName_0 : decode cX6_isName 0 = .ok (.aload_n 0, 1) := dk_42 (dk_at dksX6_isName_0 0 rfl rfl)
theorem dX6_isName_1 : decode cX6_isName 1 = .ok (.getfield 38, 3) := dk_180 0 38 (dk_at dksX6_isName_0 1 rfl rfl)
theorem dX6_isName_4 : decode cX6_isName 4 = .ok (.iconst 2, 1) := dk_5 (dk_at dksX6_isName_0 4 rfl rfl)
theorem dX6_isName_5 : decode cX6_isName 5 = .ok (.if_icmp .ne 42, 3) := dk_160 0 42 (dk_at dksX6_isName_0 5 rfl rfl)
theorem dX6_isName_8 : decode cX6_isName 8 = .ok (.ldc 76, 2) := dk_18 76 (dk_at dksX6_isName_0 8 rfl rfl)
theorem dX6_isName_10 : decode cX6_isName 10 = .ok (.new 54, 3) := dk_187 0 54 (dk_at dksX6_isName_0 10 rfl rfl)
theorem dX6_isName_13 : decode cX6_isName 13 = .ok (.dup, 1) := dk_89 (dk_at dksX6_isName_0 13 rfl rfl)
theorem dX6_isName_14 : decode cX6_isName 14 = .ok (.invokespecial 56, 3) := dk_183 0 56 (dk_at dksX6_isName_0 14 rfl rfl)
theorem dX6_isName_17 : decode cX6_isName 17 = .ok (.ldc 78, 2) := dk_18 78 (dk_at dksX6_isName_0 17 rfl rfl)
theorem dX6_isName_19 : decode cX6_isName 19 = .ok (.invokevirtual 80, 3) := dk_182 0 80 (dk_at dksX6_isName_0 19 rfl rfl)
theorem dX6_isName_22 : decode cX6_isName 22 = .ok (.aload_n 0, 1) := dk_42 (dk_at dksX6_isName_0 22 rfl rfl)
theorem dX6_isName_23 : decode cX6_isName 23 = .ok (.getfield 11, 3) := dk_180 0 11 (dk_at dksX6_isName_1 0 rfl rfl)
theorem dX6_isName_26 : decode cX6_isName 26 = .ok (.invokevirtual 80, 3) := dk_182 0 80 (dk_at dksX6_isName_1 3 rfl rfl)
theorem dX6_isName_29 : decode cX6_isName 29 = .ok (.ldc 78, 2) := dk_18 78 (dk_at dksX6_isName_1 6 rfl rfl)
theorem dX6_isName_31 : decode cX6_isName 31 = .ok (.invokevirtual 80, 3) := dk_182 0 80 (dk_at dksX6_isName_1 8 rfl rfl)
theorem dX6_isName_34 : decode cX6_isName 34 = .ok (.invokevirtual 61, 3) := dk_182 0 61 (dk_at dksX6_isName_1 11 rfl rfl)
theorem dX6_isName_37 : decode cX6_isName 37 = .ok (.invokevirtual 83, 3) := dk_182 0 83 (dk_at dksX6_isName_1 14 rfl rfl)
theorem dX6_isName_40 : decode cX6_isName 40 = .ok (.ifCond .ge 7, 3) := dk_156 0 7 (dk_at dksX6_isName_1 17 rfl rfl)
theorem dX6_isName_43 : decode cX6_isName 43 = .ok (.iconst 1, 1) := dk_4 (dk_at dksX6_isName_1 20 rfl rfl)
theorem dX6_isName_44 : decode cX6_isName 44 = .ok (.goto 4, 3) := dk_167 0 4 (dk_at dksX6_isName_1 21 rfl rfl)
theorem dX6_isName_47 : decode cX6_isName 47 = .ok (.iconst 0, 1) := dk_3 (dk_at dksX6_isName_2 0 rfl rfl)
theorem dX6_isName_48 : decode cX6_isName 48 = .ok (.ireturn, 1) := dk_172 (dk_at dksX6_isName_2 1 rfl rfl)
abbrev cX6_find : ByteArray := prog_10_method_14_code
def yX6_find : MethodName := ⟨RX6, "find", "(Ljava/util/ArrayList;)I"⟩
def dkwX6_find_1 : List UInt8 := [180, 0, 11, 182, 0, 70, 153, 0, 5, 28, 172, 132, 2, 1, 167, 255, 222, 2, 172]
abbrev dktX6_find_1 : List UInt8 := dkwX6_find_1 ++ []
def dkwX6_find_0 : List UInt8 := [3, 61, 28, 43, 182, 0, 124, 162, 0, 32, 43, 28, 182, 0, 129, 192, 0, 133, 180, 0, 135, 42]
abbrev dktX6_find_0 : List UInt8 := dkwX6_find_0 ++ dktX6_find_1
theorem dksX6_find_0 : cX6_find.data.toList.drop 0 = dktX6_find_0 := by decide +kernel
theorem dksX6_find_1 : cX6_find.data.toList.drop 22 = dktX6_find_1 := dk_seg dksX6_find_0 22 rfl rfl
theorem dX6_find_0 : decode cX6_find 0 = .ok (.iconst 0, 1) := dk_3 (dk_at dksX6_find_0 0 rfl rfl)
theorem dX6_find_1 : decode cX6_find 1 = .ok (.istore_n 2, 1) := dk_61 (dk_at dksX6_find_0 1 rfl rfl)
theorem dX6_find_2 : decode cX6_find 2 = .ok (.iload_n 2, 1) := dk_28 (dk_at dksX6_find_0 2 rfl rfl)
theorem dX6_find_3 : decode cX6_find 3 = .ok (.aload_n 1, 1) := dk_43 (dk_at dksX6_find_0 3 rfl rfl)
theorem dX6_find_4 : decode cX6_find 4 = .ok (.invokevirtual 124, 3) := dk_182 0 124 (dk_at dksX6_find_0 4 rfl rfl)
theorem dX6_find_7 : decode cX6_find 7 = .ok (.if_icmp .ge 32, 3) := dk_162 0 32 (dk_at dksX6_find_0 7 rfl rfl)
theorem dX6_find_10 : decode cX6_find 10 = .ok (.aload_n 1, 1) := dk_43 (dk_at dksX6_find_0 10 rfl rfl)
theorem dX6_find_11 : decode cX6_find 11 = .ok (.iload_n 2, 1) := dk_28 (dk_at dksX6_find_0 11 rfl rfl)
theorem dX6_find_12 : decode cX6_find 12 = .ok (.invokevirtual 129, 3) := dk_182 0 129 (dk_at dksX6_find_0 12 rfl rfl)
theorem dX6_find_15 : decode cX6_find 15 = .ok (.checkcast 133, 3) := dk_192 0 133 (dk_at dksX6_find_0 15 rfl rfl)
theorem dX6_find_18 : decode cX6_find 18 = .ok (.getfield 135, 3) := dk_180 0 135 (dk_at dksX6_find_0 18 rfl rfl)
theorem dX6_find_21 : decode cX6_find 21 = .ok (.aload_n 0, 1) := dk_42 (dk_at dksX6_find_0 21 rfl rfl)
theorem dX6_find_22 : decode cX6_find 22 = .ok (.getfield 11, 3) := dk_180 0 11 (dk_at dksX6_find_1 0 rfl rfl)
theorem dX6_find_25 : decode cX6_find 25 = .ok (.invokevirtual 70, 3) := dk_182 0 70 (dk_at dksX6_find_1 3 rfl rfl)
theorem dX6_find_28 : decode cX6_find 28 = .ok (.ifCond .eq 5, 3) := dk_153 0 5 (dk_at dksX6_find_1 6 rfl rfl)
theorem dX6_find_31 : decode cX6_find 31 = .ok (.iload_n 2, 1) := dk_28 (dk_at dksX6_find_1 9 rfl rfl)
theorem dX6_find_32 : decode cX6_find 32 = .ok (.ireturn, 1) := dk_172 (dk_at dksX6_find_1 10 rfl rfl)
theorem dX6_find_33 : decode cX6_find 33 = .ok (.iinc 2 1, 3) := dk_132 2 1 (dk_at dksX6_find_1 11 rfl rfl)
theorem dX6_find_36 : decode cX6_find 36 = .ok (.goto (-34), 3) := dk_167 255 222 (dk_at dksX6_find_1 14 rfl rfl)
theorem dX6_find_39 : decode cX6_find 39 = .ok (.iconst (-1), 1) := dk_2 (dk_at dksX6_find_1 17 rfl rfl)
theorem dX6_find_40 : decode cX6_find 40 = .ok (.ireturn, 1) := dk_172 (dk_at dksX6_find_1 18 rfl rfl)
abbrev cX6_holdTuft : ByteArray := prog_10_method_13_code
def yX6_holdTuft : MethodName := ⟨RX6, "holdTuft", "(LRugReader$House;)I"⟩
def dkwX6_holdTuft_1 : List UInt8 := [182, 0, 95, 104, 28, 96, 172]
abbrev dktX6_holdTuft_1 : List UInt8 := dkwX6_holdTuft_1 ++ []
def dkwX6_holdTuft_0 : List UInt8 := [42, 3, 43, 180, 0, 114, 4, 100, 182, 0, 119, 61, 16, 12, 42, 3, 43, 180, 0, 121, 4, 100]
abbrev dktX6_holdTuft_0 : List UInt8 := dkwX6_holdTuft_0 ++ dktX6_holdTuft_1
theorem dksX6_holdTuft_0 : cX6_holdTuft.data.toList.drop 0 = dktX6_holdTuft_0 := by decide +kernel
theorem dksX6_holdTuft_1 : cX6_holdTuft.data.toList.drop 22 = dktX6_holdTuft_1 := dk_seg dksX6_holdTuft_0 22 rfl rfl
theorem dX6_holdTuft_0 : decode cX6_holdTuft 0 = .ok (.aload_n 0, 1) := dk_42 (dk_at dksX6_holdTuft_0 0 rfl rfl)
theorem dX6_holdTuft_1 : decode cX6_holdTuft 1 = .ok (.iconst 0, 1) := dk_3 (dk_at dksX6_holdTuft_0 1 rfl rfl)
theorem dX6_holdTuft_2 : decode cX6_holdTuft 2 = .ok (.aload_n 1, 1) := dk_43 (dk_at dksX6_holdTuft_0 2 rfl rfl)
theorem dX6_holdTuft_3 : decode cX6_holdTuft 3 = .ok (.getfield 114, 3) := dk_180 0 114 (dk_at dksX6_holdTuft_0 3 rfl rfl)
theorem dX6_holdTuft_6 : decode cX6_holdTuft 6 = .ok (.iconst 1, 1) := dk_4 (dk_at dksX6_holdTuft_0 6 rfl rfl)
theorem dX6_holdTuft_7 : decode cX6_holdTuft 7 = .ok (.isub, 1) := dk_100 (dk_at dksX6_holdTuft_0 7 rfl rfl)
theorem dX6_holdTuft_8 : decode cX6_holdTuft 8 = .ok (.invokevirtual 119, 3) := dk_182 0 119 (dk_at dksX6_holdTuft_0 8 rfl rfl)
theorem dX6_holdTuft_11 : decode cX6_holdTuft 11 = .ok (.istore_n 2, 1) := dk_61 (dk_at dksX6_holdTuft_0 11 rfl rfl)
theorem dX6_holdTuft_12 : decode cX6_holdTuft 12 = .ok (.bipush 12, 2) := dk_16 12 (dk_at dksX6_holdTuft_0 12 rfl rfl)
theorem dX6_holdTuft_14 : decode cX6_holdTuft 14 = .ok (.aload_n 0, 1) := dk_42 (dk_at dksX6_holdTuft_0 14 rfl rfl)
theorem dX6_holdTuft_15 : decode cX6_holdTuft 15 = .ok (.iconst 0, 1) := dk_3 (dk_at dksX6_holdTuft_0 15 rfl rfl)
theorem dX6_holdTuft_16 : decode cX6_holdTuft 16 = .ok (.aload_n 1, 1) := dk_43 (dk_at dksX6_holdTuft_0 16 rfl rfl)
theorem dX6_holdTuft_17 : decode cX6_holdTuft 17 = .ok (.getfield 121, 3) := dk_180 0 121 (dk_at dksX6_holdTuft_0 17 rfl rfl)
theorem dX6_holdTuft_20 : decode cX6_holdTuft 20 = .ok (.iconst 1, 1) := dk_4 (dk_at dksX6_holdTuft_0 20 rfl rfl)
theorem dX6_holdTuft_21 : decode cX6_holdTuft 21 = .ok (.isub, 1) := dk_100 (dk_at dksX6_holdTuft_0 21 rfl rfl)
theorem dX6_holdTuft_22 : decode cX6_holdTuft 22 = .ok (.invokevirtual 95, 3) := dk_182 0 95 (dk_at dksX6_holdTuft_1 0 rfl rfl)
theorem dX6_holdTuft_25 : decode cX6_holdTuft 25 = .ok (.imul, 1) := dk_104 (dk_at dksX6_holdTuft_1 3 rfl rfl)
theorem dX6_holdTuft_26 : decode cX6_holdTuft 26 = .ok (.iload_n 2, 1) := dk_28 (dk_at dksX6_holdTuft_1 4 rfl rfl)
theorem dX6_holdTuft_27 : decode cX6_holdTuft 27 = .ok (.iadd, 1) := dk_96 (dk_at dksX6_holdTuft_1 5 rfl rfl)
theorem dX6_holdTuft_28 : decode cX6_holdTuft 28 = .ok (.ireturn, 1) := dk_172 (dk_at dksX6_holdTuft_1 6 rfl rfl)
abbrev cX6_direction : ByteArray := prog_10_method_12_code
def yX6_direction : MethodName := ⟨RX6, "direction", "()I"⟩
def dkwX6_direction_2 : List UInt8 := [153, 0, 7, 6, 167, 0, 4, 2, 172]
abbrev dktX6_direction_2 : List UInt8 := dkwX6_direction_2 ++ []
def dkwX6_direction_1 : List UInt8 := [167, 0, 30, 42, 18, 110, 182, 0, 104, 153, 0, 7, 5, 167, 0, 17, 42, 18, 112, 182, 0, 104]
abbrev dktX6_direction_1 : List UInt8 := dkwX6_direction_1 ++ dktX6_direction_2
def dkwX6_direction_0 : List UInt8 := [42, 18, 102, 182, 0, 104, 153, 0, 7, 3, 167, 0, 43, 42, 18, 108, 182, 0, 104, 153, 0, 7, 4]
abbrev dktX6_direction_0 : List UInt8 := dkwX6_direction_0 ++ dktX6_direction_1
theorem dksX6_direction_0 : cX6_direction.data.toList.drop 0 = dktX6_direction_0 := by decide +kernel
theorem dksX6_direction_1 : cX6_direction.data.toList.drop 23 = dktX6_direction_1 := dk_seg dksX6_direction_0 23 rfl rfl
theorem dksX6_direction_2 : cX6_direction.data.toList.drop 45 = dktX6_direction_2 := dk_seg dksX6_direction_1 22 rfl rfl
theorem dX6_direction_0 : decode cX6_direction 0 = .ok (.aload_n 0, 1) := dk_42 (dk_at dksX6_direction_0 0 rfl rfl)
theorem dX6_direction_1 : decode cX6_direction 1 = .ok (.ldc 102, 2) := dk_18 102 (dk_at dksX6_direction_0 1 rfl rfl)
theorem dX6_direction_3 : decode cX6_direction 3 = .ok (.invokevirtual 104, 3) := dk_182 0 104 (dk_at dksX6_direction_0 3 rfl rfl)
theorem dX6_direction_6 : decode cX6_direction 6 = .ok (.ifCond .eq 7, 3) := dk_153 0 7 (dk_at dksX6_direction_0 6 rfl rfl)
theorem dX6_direction_9 : decode cX6_direction 9 = .ok (.iconst 0, 1) := dk_3 (dk_at dksX6_direction_0 9 rfl rfl)
theorem dX6_direction_10 : decode cX6_direction 10 = .ok (.goto 43, 3) := dk_167 0 43 (dk_at dksX6_direction_0 10 rfl rfl)
theorem dX6_direction_13 : decode cX6_direction 13 = .ok (.aload_n 0, 1) := dk_42 (dk_at dksX6_direction_0 13 rfl rfl)
theorem dX6_direction_14 : decode cX6_direction 14 = .ok (.ldc 108, 2) := dk_18 108 (dk_at dksX6_direction_0 14 rfl rfl)
theorem dX6_direction_16 : decode cX6_direction 16 = .ok (.invokevirtual 104, 3) := dk_182 0 104 (dk_at dksX6_direction_0 16 rfl rfl)
theorem dX6_direction_19 : decode cX6_direction 19 = .ok (.ifCond .eq 7, 3) := dk_153 0 7 (dk_at dksX6_direction_0 19 rfl rfl)
theorem dX6_direction_22 : decode cX6_direction 22 = .ok (.iconst 1, 1) := dk_4 (dk_at dksX6_direction_0 22 rfl rfl)
theorem dX6_direction_23 : decode cX6_direction 23 = .ok (.goto 30, 3) := dk_167 0 30 (dk_at dksX6_direction_1 0 rfl rfl)
theorem dX6_direction_26 : decode cX6_direction 26 = .ok (.aload_n 0, 1) := dk_42 (dk_at dksX6_direction_1 3 rfl rfl)
theorem dX6_direction_27 : decode cX6_direction 27 = .ok (.ldc 110, 2) := dk_18 110 (dk_at dksX6_direction_1 4 rfl rfl)
theorem dX6_direction_29 : decode cX6_direction 29 = .ok (.invokevirtual 104, 3) := dk_182 0 104 (dk_at dksX6_direction_1 6 rfl rfl)
theorem dX6_direction_32 : decode cX6_direction 32 = .ok (.ifCond .eq 7, 3) := dk_153 0 7 (dk_at dksX6_direction_1 9 rfl rfl)
theorem dX6_direction_35 : decode cX6_direction 35 = .ok (.iconst 2, 1) := dk_5 (dk_at dksX6_direction_1 12 rfl rfl)
theorem dX6_direction_36 : decode cX6_direction 36 = .ok (.goto 17, 3) := dk_167 0 17 (dk_at dksX6_direction_1 13 rfl rfl)
theorem dX6_direction_39 : decode cX6_direction 39 = .ok (.aload_n 0, 1) := dk_42 (dk_at dksX6_direction_1 16 rfl rfl)
theorem dX6_direction_40 : decode cX6_direction 40 = .ok (.ldc 112, 2) := dk_18 112 (dk_at dksX6_direction_1 17 rfl rfl)
theorem dX6_direction_42 : decode cX6_direction 42 = .ok (.invokevirtual 104, 3) := dk_182 0 104 (dk_at dksX6_direction_1 19 rfl rfl)
theorem dX6_direction_45 : decode cX6_direction 45 = .ok (.ifCond .eq 7, 3) := dk_153 0 7 (dk_at dksX6_direction_2 0 rfl rfl)
theorem dX6_direction_48 : decode cX6_direction 48 = .ok (.iconst 3, 1) := dk_6 (dk_at dksX6_direction_2 3 rfl rfl)
theorem dX6_direction_49 : decode cX6_direction 49 = .ok (.goto 4, 3) := dk_167 0 4 (dk_at dksX6_direction_2 4 rfl rfl)
theorem dX6_direction_52 : decode cX6_direction 52 = .ok (.iconst (-1), 1) := dk_2 (dk_at dksX6_direction_2 7 rfl rfl)
theorem dX6_direction_53 : decode cX6_direction 53 = .ok (.ireturn, 1) := dk_172 (dk_at dksX6_direction_2 8 rfl rfl)
abbrev cX6_end : ByteArray := prog_10_method_11_code
def yX6_end : MethodName := ⟨RX6, "end", "()V"⟩
def dkwX6_end_0 : List UInt8 := [42, 42, 180, 0, 38, 7, 160, 0, 7, 4, 167, 0, 4, 3, 4, 182, 0, 87, 42, 182, 0, 99, 177]
abbrev dktX6_end_0 : List UInt8 := dkwX6_end_0 ++ []
theorem dksX6_end_0 : cX6_end.data.toList.drop 0 = dktX6_end_0 := by decide +kernel
theorem dX6_end_0 : decode cX6_end 0 = .ok (.aload_n 0, 1) := dk_42 (dk_at dksX6_end_0 0 rfl rfl)
theorem dX6_end_1 : decode cX6_end 1 = .ok (.aload_n 0, 1) := dk_42 (dk_at dksX6_end_0 1 rfl rfl)
theorem dX6_end_2 : decode cX6_end 2 = .ok (.getfield 38, 3) := dk_180 0 38 (dk_at dksX6_end_0 2 rfl rfl)
theorem dX6_end_5 : decode cX6_end 5 = .ok (.iconst 4, 1) := dk_7 (dk_at dksX6_end_0 5 rfl rfl)
theorem dX6_end_6 : decode cX6_end 6 = .ok (.if_icmp .ne 7, 3) := dk_160 0 7 (dk_at dksX6_end_0 6 rfl rfl)
theorem dX6_end_9 : decode cX6_end 9 = .ok (.iconst 1, 1) := dk_4 (dk_at dksX6_end_0 9 rfl rfl)
theorem dX6_end_10 : decode cX6_end 10 = .ok (.goto 4, 3) := dk_167 0 4 (dk_at dksX6_end_0 10 rfl rfl)
theorem dX6_end_13 : decode cX6_end 13 = .ok (.iconst 0, 1) := dk_3 (dk_at dksX6_end_0 13 rfl rfl)
theorem dX6_end_14 : decode cX6_end 14 = .ok (.iconst 1, 1) := dk_4 (dk_at dksX6_end_0 14 rfl rfl)
theorem dX6_end_15 : decode cX6_end 15 = .ok (.invokevirtual 87, 3) := dk_182 0 87 (dk_at dksX6_end_0 15 rfl rfl)
theorem dX6_end_18 : decode cX6_end 18 = .ok (.aload_n 0, 1) := dk_42 (dk_at dksX6_end_0 18 rfl rfl)
theorem dX6_end_19 : decode cX6_end 19 = .ok (.invokevirtual 99, 3) := dk_182 0 99 (dk_at dksX6_end_0 19 rfl rfl)
theorem dX6_end_22 : decode cX6_end 22 = .ok (.return_, 1) := dk_177 (dk_at dksX6_end_0 22 rfl rfl)
abbrev cX6_holdOne : ByteArray := prog_10_method_15_code
def yX6_holdOne : MethodName := ⟨RX6, "holdOne", "(Ljava/util/ArrayList;)I"⟩
def dkwX6_holdOne_1 : List UInt8 := [167, 0, 4, 3, 6, 182, 0, 87, 28, 172]
abbrev dktX6_holdOne_1 : List UInt8 := dkwX6_holdOne_1 ++ []
def dkwX6_holdOne_0 : List UInt8 := [42, 42, 182, 0, 138, 4, 182, 0, 87, 42, 43, 182, 0, 142, 61, 42, 28, 2, 159, 0, 7, 4]
abbrev dktX6_holdOne_0 : List UInt8 := dkwX6_holdOne_0 ++ dktX6_holdOne_1
theorem dksX6_holdOne_0 : cX6_holdOne.data.toList.drop 0 = dktX6_holdOne_0 := by decide +kernel
theorem dksX6_holdOne_1 : cX6_holdOne.data.toList.drop 22 = dktX6_holdOne_1 := dk_seg dksX6_holdOne_0 22 rfl rfl
theorem dX6_holdOne_0 : decode cX6_holdOne 0 = .ok (.aload_n 0, 1) := dk_42 (dk_at dksX6_holdOne_0 0 rfl rfl)
theorem dX6_holdOne_1 : decode cX6_holdOne 1 = .ok (.aload_n 0, 1) := dk_42 (dk_at dksX6_holdOne_0 1 rfl rfl)
theorem dX6_holdOne_2 : decode cX6_holdOne 2 = .ok (.invokevirtual 138, 3) := dk_182 0 138 (dk_at dksX6_holdOne_0 2 rfl rfl)
theorem dX6_holdOne_5 : decode cX6_holdOne 5 = .ok (.iconst 1, 1) := dk_4 (dk_at dksX6_holdOne_0 5 rfl rfl)
theorem dX6_holdOne_6 : decode cX6_holdOne 6 = .ok (.invokevirtual 87, 3) := dk_182 0 87 (dk_at dksX6_holdOne_0 6 rfl rfl)
theorem dX6_holdOne_9 : decode cX6_holdOne 9 = .ok (.aload_n 0, 1) := dk_42 (dk_at dksX6_holdOne_0 9 rfl rfl)
theorem dX6_holdOne_10 : decode cX6_holdOne 10 = .ok (.aload_n 1, 1) := dk_43 (dk_at dksX6_holdOne_0 10 rfl rfl)
theorem dX6_holdOne_11 : decode cX6_holdOne 11 = .ok (.invokevirtual 142, 3) := dk_182 0 142 (dk_at dksX6_holdOne_0 11 rfl rfl)
theorem dX6_holdOne_14 : decode cX6_holdOne 14 = .ok (.istore_n 2, 1) := dk_61 (dk_at dksX6_holdOne_0 14 rfl rfl)
theorem dX6_holdOne_15 : decode cX6_holdOne 15 = .ok (.aload_n 0, 1) := dk_42 (dk_at dksX6_holdOne_0 15 rfl rfl)
theorem dX6_holdOne_16 : decode cX6_holdOne 16 = .ok (.iload_n 2, 1) := dk_28 (dk_at dksX6_holdOne_0 16 rfl rfl)
theorem dX6_holdOne_17 : decode cX6_holdOne 17 = .ok (.iconst (-1), 1) := dk_2 (dk_at dksX6_holdOne_0 17 rfl rfl)
theorem dX6_holdOne_18 : decode cX6_holdOne 18 = .ok (.if_icmp .eq 7, 3) := dk_159 0 7 (dk_at dksX6_holdOne_0 18 rfl rfl)
theorem dX6_holdOne_21 : decode cX6_holdOne 21 = .ok (.iconst 1, 1) := dk_4 (dk_at dksX6_holdOne_0 21 rfl rfl)
theorem dX6_holdOne_22 : decode cX6_holdOne 22 = .ok (.goto 4, 3) := dk_167 0 4 (dk_at dksX6_holdOne_1 0 rfl rfl)
theorem dX6_holdOne_25 : decode cX6_holdOne 25 = .ok (.iconst 0, 1) := dk_3 (dk_at dksX6_holdOne_1 3 rfl rfl)
theorem dX6_holdOne_26 : decode cX6_holdOne 26 = .ok (.iconst 3, 1) := dk_6 (dk_at dksX6_holdOne_1 4 rfl rfl)
theorem dX6_holdOne_27 : decode cX6_holdOne 27 = .ok (.invokevirtual 87, 3) := dk_182 0 87 (dk_at dksX6_holdOne_1 5 rfl rfl)
theorem dX6_holdOne_30 : decode cX6_holdOne 30 = .ok (.iload_n 2, 1) := dk_28 (dk_at dksX6_holdOne_1 8 rfl rfl)
theorem dX6_holdOne_31 : decode cX6_holdOne 31 = .ok (.ireturn, 1) := dk_172 (dk_at dksX6_holdOne_1 9 rfl rfl)
theorem q112 : (Jvm.Cond.initialized "RugReader$Reader") ∈ lw_all := lw_g (lw_at lw_m1 10 rfl) rfl
theorem q185 : (Jvm.Cond.fieldLinkNest "RugReader$Reader" (114 : Nat) "RugReader$House" "wide" "I" "RugReader") ∈ lw_tbl := lw_at lw_m1 83 rfl
theorem q189 : (Jvm.Cond.fieldLinkNest "RugReader$Reader" (121 : Nat) "RugReader$House" "high" "I" "RugReader") ∈ lw_tbl := lw_at lw_m1 87 rfl
theorem q448 : (Jvm.Cond.instanceMethod ({ cls := "RugReader$Reader", name := "<init>", desc := "([BII)V" } : Jvm.MethodName)) ∈ lw_all := lw_g (lw_at lw_m2 106 rfl) rfl
theorem q449 : (Jvm.Cond.code ({ cls := "RugReader$Reader", name := "<init>", desc := "([BII)V" } : Jvm.MethodName) prog_10_method_1_code (4 : Nat) (Option.none : Option Jvm.ClassFile.FieldType)) ∈ lw_all := lw_g (lw_at lw_m2 107 rfl) rfl
theorem q450 : (Jvm.Cond.methodLink "RugReader$Reader" (3 : Nat) ({ cls := "java/lang/Object", name := "<init>", desc := "()V" } : Jvm.MethodName)) ∈ lw_all := lw_g (lw_at lw_m2 108 rfl) rfl
theorem q451 : (Jvm.Cond.stringRef "RugReader$Reader" (9 : Nat) "") ∈ lw_tbl := lw_at lw_m2 109 rfl
theorem q456 : (Jvm.Cond.fieldLink "RugReader$Reader" (17 : Nat) "RugReader$Reader" "tape" "[B") ∈ lw_all := lw_g (lw_at lw_m2 114 rfl) rfl
theorem q457 : (Jvm.Cond.fieldLink "RugReader$Reader" (21 : Nat) "RugReader$Reader" "size" "I") ∈ lw_all := lw_g (lw_at lw_m2 115 rfl) rfl
theorem q458 : (Jvm.Cond.fieldLink "RugReader$Reader" (25 : Nat) "RugReader$Reader" "limit" "I") ∈ lw_all := lw_g (lw_at lw_m2 116 rfl) rfl
theorem q459 : (Jvm.Cond.fieldLink "RugReader$Reader" (28 : Nat) "RugReader$Reader" "to" "I") ∈ lw_all := lw_g (lw_at lw_m2 117 rfl) rfl
theorem q466 : (Jvm.Cond.fieldLink "RugReader$Reader" (38 : Nat) "RugReader$Reader" "kind" "I") ∈ lw_all := lw_g (lw_at lw_m2 124 rfl) rfl
theorem q467 : (Jvm.Cond.fieldLink "RugReader$Reader" (35 : Nat) "RugReader$Reader" "from" "I") ∈ lw_all := lw_g (lw_at lw_m2 125 rfl) rfl
theorem q468 : (Jvm.Cond.fieldLink "RugReader$Reader" (51 : Nat) "RugReader$Reader" "number" "I") ∈ lw_all := lw_g (lw_at lw_m2 126 rfl) rfl
theorem q469 : (Jvm.Cond.fieldLink "RugReader$Reader" (48 : Nat) "RugReader$Reader" "sign" "I") ∈ lw_all := lw_g (lw_at lw_m2 127 rfl) rfl
theorem q472 : (Jvm.Cond.fieldLink "RugReader$Reader" (11 : Nat) "RugReader$Reader" "word" "Ljava/lang/String;") ∈ lw_all := lw_g (lw_at lw_m2 130 rfl) rfl
theorem q480 : (Jvm.Cond.soleField "RugReader$Reader" "tape") ∈ lw_all := lw_g (lw_at lw_m2 138 rfl) rfl
theorem q482 : (Jvm.Cond.soleField "RugReader$Reader" "size") ∈ lw_all := lw_g (lw_at lw_m2 140 rfl) rfl
theorem q484 : (Jvm.Cond.soleField "RugReader$Reader" "limit") ∈ lw_all := lw_g (lw_at lw_m2 142 rfl) rfl
theorem q486 : (Jvm.Cond.soleField "RugReader$Reader" "to") ∈ lw_all := lw_g (lw_at lw_m2 144 rfl) rfl
theorem q488 : (Jvm.Cond.soleField "RugReader$Reader" "kind") ∈ lw_all := lw_g (lw_at lw_m2 146 rfl) rfl
theorem q490 : (Jvm.Cond.soleField "RugReader$Reader" "from") ∈ lw_all := lw_g (lw_at lw_m2 148 rfl) rfl
theorem q492 : (Jvm.Cond.soleField "RugReader$Reader" "number") ∈ lw_all := lw_g (lw_at lw_m2 150 rfl) rfl
theorem q494 : (Jvm.Cond.soleField "RugReader$Reader" "sign") ∈ lw_all := lw_g (lw_at lw_m2 152 rfl) rfl
theorem q496 : (Jvm.Cond.soleField "RugReader$Reader" "word") ∈ lw_all := lw_g (lw_at lw_m2 154 rfl) rfl
theorem q504 : (Jvm.Cond.declares ({ cls := "RugReader$Reader", name := "go", desc := "()V" } : Jvm.MethodName)) ∈ lw_tbl := lw_at lw_m2 162 rfl
theorem q506 : (Jvm.Cond.instanceMethod ({ cls := "RugReader$Reader", name := "go", desc := "()V" } : Jvm.MethodName)) ∈ lw_all := lw_g (lw_at lw_m2 164 rfl) rfl
theorem q507 : (Jvm.Cond.code ({ cls := "RugReader$Reader", name := "go", desc := "()V" } : Jvm.MethodName) prog_10_method_5_code (5 : Nat) (Option.none : Option Jvm.ClassFile.FieldType)) ∈ lw_all := lw_g (lw_at lw_m2 165 rfl) rfl
theorem q508 : (Jvm.Cond.methodLink "RugReader$Reader" (31 : Nat) ({ cls := "RugReader$Reader", name := "byteAt", desc := "(I)I" } : Jvm.MethodName)) ∈ lw_all := lw_g (lw_at lw_m2 166 rfl) rfl
theorem q509 : (Jvm.Cond.privateMethod ({ cls := "RugReader$Reader", name := "byteAt", desc := "(I)I" } : Jvm.MethodName)) ∈ lw_tbl := lw_at lw_m2 167 rfl
theorem q510 : (Jvm.Cond.instanceMethod ({ cls := "RugReader$Reader", name := "byteAt", desc := "(I)I" } : Jvm.MethodName)) ∈ lw_all := lw_g (lw_at lw_m2 168 rfl) rfl
theorem q511 : (Jvm.Cond.code ({ cls := "RugReader$Reader", name := "byteAt", desc := "(I)I" } : Jvm.MethodName) prog_10_method_2_code (2 : Nat) (Option.some Jvm.ClassFile.FieldType.int)) ∈ lw_all := lw_g (lw_at lw_m2 169 rfl) rfl
theorem q512 : (Jvm.Cond.methodLink "RugReader$Reader" (41 : Nat) ({ cls := "RugReader$Reader", name := "isLetter", desc := "(I)Z" } : Jvm.MethodName)) ∈ lw_all := lw_g (lw_at lw_m2 170 rfl) rfl
theorem q513 : (Jvm.Cond.static ({ cls := "RugReader$Reader", name := "isLetter", desc := "(I)Z" } : Jvm.MethodName)) ∈ lw_all := lw_g (lw_at lw_m2 171 rfl) rfl
theorem q514 : (Jvm.Cond.code ({ cls := "RugReader$Reader", name := "isLetter", desc := "(I)Z" } : Jvm.MethodName) prog_10_method_4_code (1 : Nat) (Option.some Jvm.ClassFile.FieldType.boolean)) ∈ lw_all := lw_g (lw_at lw_m2 172 rfl) rfl
theorem q515 : (Jvm.Cond.methodLink "RugReader$Reader" (45 : Nat) ({ cls := "RugReader$Reader", name := "isDigit", desc := "(I)Z" } : Jvm.MethodName)) ∈ lw_all := lw_g (lw_at lw_m2 173 rfl) rfl
theorem q516 : (Jvm.Cond.static ({ cls := "RugReader$Reader", name := "isDigit", desc := "(I)Z" } : Jvm.MethodName)) ∈ lw_all := lw_g (lw_at lw_m2 174 rfl) rfl
theorem q517 : (Jvm.Cond.code ({ cls := "RugReader$Reader", name := "isDigit", desc := "(I)Z" } : Jvm.MethodName) prog_10_method_3_code (1 : Nat) (Option.some Jvm.ClassFile.FieldType.boolean)) ∈ lw_all := lw_g (lw_at lw_m2 175 rfl) rfl
theorem q518 : (Jvm.Cond.classLink "RugReader$Reader" (54 : Nat) "java/lang/StringBuilder") ∈ lw_all := lw_g (lw_at lw_m2 176 rfl) rfl
theorem q520 : (Jvm.Cond.methodLink "RugReader$Reader" (56 : Nat) ({ cls := "java/lang/StringBuilder", name := "<init>", desc := "()V" } : Jvm.MethodName)) ∈ lw_all := lw_g (lw_at lw_m2 178 rfl) rfl
theorem q549 : (Jvm.Cond.methodLink "RugReader$Reader" (57 : Nat) ({ cls := "java/lang/StringBuilder", name := "append", desc := "(C)Ljava/lang/StringBuilder;" } : Jvm.MethodName)) ∈ lw_all := lw_g (lw_at lw_m2 207 rfl) rfl
theorem q644 : (Jvm.Cond.methodLink "RugReader$Reader" (61 : Nat) ({ cls := "java/lang/StringBuilder", name := "toString", desc := "()Ljava/lang/String;" } : Jvm.MethodName)) ∈ lw_all := lw_g (lw_at lw_m3 62 rfl) rfl
theorem q712 : (Jvm.Cond.declares ({ cls := "RugReader$Reader", name := "is", desc := "(Ljava/lang/String;)Z" } : Jvm.MethodName)) ∈ lw_tbl := lw_at lw_m3 130 rfl
theorem q714 : (Jvm.Cond.instanceMethod ({ cls := "RugReader$Reader", name := "is", desc := "(Ljava/lang/String;)Z" } : Jvm.MethodName)) ∈ lw_all := lw_g (lw_at lw_m3 132 rfl) rfl
theorem q715 : (Jvm.Cond.code ({ cls := "RugReader$Reader", name := "is", desc := "(Ljava/lang/String;)Z" } : Jvm.MethodName) prog_10_method_7_code (2 : Nat) (Option.some Jvm.ClassFile.FieldType.boolean)) ∈ lw_all := lw_g (lw_at lw_m3 133 rfl) rfl
theorem q716 : (Jvm.Cond.methodLink "RugReader$Reader" (70 : Nat) ({ cls := "java/lang/String", name := "equals", desc := "(Ljava/lang/Object;)Z" } : Jvm.MethodName)) ∈ lw_all := lw_g (lw_at lw_m3 134 rfl) rfl
theorem q737 : (Jvm.Cond.declares ({ cls := "RugReader$Reader", name := "need", desc := "(ZI)V" } : Jvm.MethodName)) ∈ lw_tbl := lw_at lw_m3 155 rfl
theorem q739 : (Jvm.Cond.instanceMethod ({ cls := "RugReader$Reader", name := "need", desc := "(ZI)V" } : Jvm.MethodName)) ∈ lw_all := lw_g (lw_at lw_m3 157 rfl) rfl
theorem q740 : (Jvm.Cond.code ({ cls := "RugReader$Reader", name := "need", desc := "(ZI)V" } : Jvm.MethodName) prog_10_method_6_code (3 : Nat) (Option.none : Option Jvm.ClassFile.FieldType)) ∈ lw_all := lw_g (lw_at lw_m3 158 rfl) rfl
theorem q741 : (Jvm.Cond.classLink "RugReader$Reader" (65 : Nat) "RugReader$Fault") ∈ lw_all := lw_g (lw_at lw_m3 159 rfl) rfl
theorem q779 : (Jvm.Cond.methodLink "RugReader$Reader" (67 : Nat) ({ cls := "RugReader$Fault", name := "<init>", desc := "(II)V" } : Jvm.MethodName)) ∈ lw_all := lw_g (lw_at lw_m3 197 rfl) rfl
theorem q808 : (Jvm.Cond.declares ({ cls := "RugReader$Reader", name := "number", desc := "(II)I" } : Jvm.MethodName)) ∈ lw_tbl := lw_at lw_m3 226 rfl
theorem q810 : (Jvm.Cond.instanceMethod ({ cls := "RugReader$Reader", name := "number", desc := "(II)I" } : Jvm.MethodName)) ∈ lw_all := lw_g (lw_at lw_m3 228 rfl) rfl
theorem q811 : (Jvm.Cond.code ({ cls := "RugReader$Reader", name := "number", desc := "(II)I" } : Jvm.MethodName) prog_10_method_10_code (4 : Nat) (Option.some Jvm.ClassFile.FieldType.int)) ∈ lw_all := lw_g (lw_at lw_m3 229 rfl) rfl
theorem q812 : (Jvm.Cond.methodLink "RugReader$Reader" (95 : Nat) ({ cls := "RugReader$Reader", name := "hold", desc := "(II)I" } : Jvm.MethodName)) ∈ lw_all := lw_g (lw_at lw_m3 230 rfl) rfl
theorem q813 : (Jvm.Cond.instanceMethod ({ cls := "RugReader$Reader", name := "hold", desc := "(II)I" } : Jvm.MethodName)) ∈ lw_all := lw_g (lw_at lw_m3 231 rfl) rfl
theorem q814 : (Jvm.Cond.sameMethod "RugReader$Reader" "RugReader$Reader" "hold" "(II)I") ∈ lw_all := lw_g (lw_at lw_m3 232 rfl) rfl
theorem q818 : (Jvm.Cond.code ({ cls := "RugReader$Reader", name := "hold", desc := "(II)I" } : Jvm.MethodName) prog_10_method_9_code (3 : Nat) (Option.some Jvm.ClassFile.FieldType.int)) ∈ lw_all := lw_g (lw_at lw_m3 236 rfl) rfl
theorem q819 : (Jvm.Cond.methodLink "RugReader$Reader" (87 : Nat) ({ cls := "RugReader$Reader", name := "need", desc := "(ZI)V" } : Jvm.MethodName)) ∈ lw_all := lw_g (lw_at lw_m3 237 rfl) rfl
theorem q820 : (Jvm.Cond.methodLinkNest "RugReader$Reader" (91 : Nat) ({ cls := "RugReader", name := "isIn", desc := "(III)Z" } : Jvm.MethodName) "RugReader") ∈ lw_tbl := lw_at lw_m3 238 rfl
theorem q823 : (Jvm.Cond.methodLink "RugReader$Reader" (99 : Nat) ({ cls := "RugReader$Reader", name := "go", desc := "()V" } : Jvm.MethodName)) ∈ lw_all := lw_g (lw_at lw_m4 1 rfl) rfl
theorem q839 : (Jvm.Cond.declares ({ cls := "RugReader$Reader", name := "isName", desc := "()Z" } : Jvm.MethodName)) ∈ lw_tbl := lw_at lw_m4 17 rfl
theorem q841 : (Jvm.Cond.instanceMethod ({ cls := "RugReader$Reader", name := "isName", desc := "()Z" } : Jvm.MethodName)) ∈ lw_all := lw_g (lw_at lw_m4 19 rfl) rfl
theorem q842 : (Jvm.Cond.code ({ cls := "RugReader$Reader", name := "isName", desc := "()Z" } : Jvm.MethodName) prog_10_method_8_code (1 : Nat) (Option.some Jvm.ClassFile.FieldType.boolean)) ∈ lw_all := lw_g (lw_at lw_m4 20 rfl) rfl
theorem q843 : (Jvm.Cond.stringRef "RugReader$Reader" (76 : Nat) " rug person wall door way fade n e s w or and not trod weight sole pace prints tufts place ") ∈ lw_tbl := lw_at lw_m4 21 rfl
theorem q844 : (Jvm.Cond.stringRef "RugReader$Reader" (78 : Nat) " ") ∈ lw_tbl := lw_at lw_m4 22 rfl
theorem q845 : (Jvm.Cond.methodLink "RugReader$Reader" (80 : Nat) ({ cls := "java/lang/StringBuilder", name := "append", desc := "(Ljava/lang/String;)Ljava/lang/StringBuilder;" } : Jvm.MethodName)) ∈ lw_all := lw_g (lw_at lw_m4 23 rfl) rfl
theorem q891 : (Jvm.Cond.methodLink "RugReader$Reader" (83 : Nat) ({ cls := "java/lang/String", name := "indexOf", desc := "(Ljava/lang/String;)I" } : Jvm.MethodName)) ∈ lw_all := lw_g (lw_at lw_m4 69 rfl) rfl
theorem q919 : (Jvm.Cond.declares ({ cls := "RugReader$Reader", name := "find", desc := "(Ljava/util/ArrayList;)I" } : Jvm.MethodName)) ∈ lw_tbl := lw_at lw_m4 97 rfl
theorem q921 : (Jvm.Cond.instanceMethod ({ cls := "RugReader$Reader", name := "find", desc := "(Ljava/util/ArrayList;)I" } : Jvm.MethodName)) ∈ lw_all := lw_g (lw_at lw_m4 99 rfl) rfl
theorem q922 : (Jvm.Cond.code ({ cls := "RugReader$Reader", name := "find", desc := "(Ljava/util/ArrayList;)I" } : Jvm.MethodName) prog_10_method_14_code (3 : Nat) (Option.some Jvm.ClassFile.FieldType.int)) ∈ lw_all := lw_g (lw_at lw_m4 100 rfl) rfl
theorem q923 : (Jvm.Cond.methodLink "RugReader$Reader" (124 : Nat) ({ cls := "java/util/ArrayList", name := "size", desc := "()I" } : Jvm.MethodName)) ∈ lw_all := lw_g (lw_at lw_m4 101 rfl) rfl
theorem q924 : (Jvm.Cond.methodLink "RugReader$Reader" (129 : Nat) ({ cls := "java/util/ArrayList", name := "get", desc := "(I)Ljava/lang/Object;" } : Jvm.MethodName)) ∈ lw_all := lw_g (lw_at lw_m4 102 rfl) rfl
theorem q936 : (Jvm.Cond.classLink "RugReader$Reader" (133 : Nat) "RugReader$Named") ∈ lw_all := lw_g (lw_at lw_m4 114 rfl) rfl
theorem q959 : (Jvm.Cond.fieldLink "RugReader$Reader" (135 : Nat) "RugReader$Named" "name" "Ljava/lang/String;") ∈ lw_all := lw_g (lw_at lw_m4 137 rfl) rfl
theorem q1028 : (Jvm.Cond.declares ({ cls := "RugReader$Reader", name := "holdTuft", desc := "(LRugReader$House;)I" } : Jvm.MethodName)) ∈ lw_tbl := lw_at lw_m4 206 rfl
theorem q1030 : (Jvm.Cond.instanceMethod ({ cls := "RugReader$Reader", name := "holdTuft", desc := "(LRugReader$House;)I" } : Jvm.MethodName)) ∈ lw_all := lw_g (lw_at lw_m4 208 rfl) rfl
theorem q1031 : (Jvm.Cond.code ({ cls := "RugReader$Reader", name := "holdTuft", desc := "(LRugReader$House;)I" } : Jvm.MethodName) prog_10_method_13_code (3 : Nat) (Option.some Jvm.ClassFile.FieldType.int)) ∈ lw_all := lw_g (lw_at lw_m4 209 rfl) rfl
theorem q1032 : (Jvm.Cond.methodLink "RugReader$Reader" (119 : Nat) ({ cls := "RugReader$Reader", name := "number", desc := "(II)I" } : Jvm.MethodName)) ∈ lw_all := lw_g (lw_at lw_m4 210 rfl) rfl
theorem q1088 : (Jvm.Cond.declares ({ cls := "RugReader$Reader", name := "direction", desc := "()I" } : Jvm.MethodName)) ∈ lw_tbl := lw_at lw_m5 26 rfl
theorem q1090 : (Jvm.Cond.instanceMethod ({ cls := "RugReader$Reader", name := "direction", desc := "()I" } : Jvm.MethodName)) ∈ lw_all := lw_g (lw_at lw_m5 28 rfl) rfl
theorem q1091 : (Jvm.Cond.code ({ cls := "RugReader$Reader", name := "direction", desc := "()I" } : Jvm.MethodName) prog_10_method_12_code (1 : Nat) (Option.some Jvm.ClassFile.FieldType.int)) ∈ lw_all := lw_g (lw_at lw_m5 29 rfl) rfl
theorem q1092 : (Jvm.Cond.stringRef "RugReader$Reader" (102 : Nat) "n") ∈ lw_tbl := lw_at lw_m5 30 rfl
theorem q1093 : (Jvm.Cond.methodLink "RugReader$Reader" (104 : Nat) ({ cls := "RugReader$Reader", name := "is", desc := "(Ljava/lang/String;)Z" } : Jvm.MethodName)) ∈ lw_all := lw_g (lw_at lw_m5 31 rfl) rfl
theorem q1094 : (Jvm.Cond.stringRef "RugReader$Reader" (108 : Nat) "e") ∈ lw_tbl := lw_at lw_m5 32 rfl
theorem q1095 : (Jvm.Cond.stringRef "RugReader$Reader" (110 : Nat) "s") ∈ lw_tbl := lw_at lw_m5 33 rfl
theorem q1096 : (Jvm.Cond.stringRef "RugReader$Reader" (112 : Nat) "w") ∈ lw_tbl := lw_at lw_m5 34 rfl
theorem q1099 : (Jvm.Cond.declares ({ cls := "RugReader$Reader", name := "hold", desc := "(II)I" } : Jvm.MethodName)) ∈ lw_tbl := lw_at lw_m5 37 rfl
theorem q1133 : (Jvm.Cond.declares ({ cls := "RugReader$Reader", name := "end", desc := "()V" } : Jvm.MethodName)) ∈ lw_tbl := lw_at lw_m5 71 rfl
theorem q1135 : (Jvm.Cond.instanceMethod ({ cls := "RugReader$Reader", name := "end", desc := "()V" } : Jvm.MethodName)) ∈ lw_all := lw_g (lw_at lw_m5 73 rfl) rfl
theorem q1136 : (Jvm.Cond.code ({ cls := "RugReader$Reader", name := "end", desc := "()V" } : Jvm.MethodName) prog_10_method_11_code (1 : Nat) (Option.none : Option Jvm.ClassFile.FieldType)) ∈ lw_all := lw_g (lw_at lw_m5 74 rfl) rfl
theorem q1377 : (Jvm.Cond.declares ({ cls := "RugReader$Reader", name := "holdOne", desc := "(Ljava/util/ArrayList;)I" } : Jvm.MethodName)) ∈ lw_tbl := lw_at lw_m6 75 rfl
theorem q1379 : (Jvm.Cond.instanceMethod ({ cls := "RugReader$Reader", name := "holdOne", desc := "(Ljava/util/ArrayList;)I" } : Jvm.MethodName)) ∈ lw_all := lw_g (lw_at lw_m6 77 rfl) rfl
theorem q1380 : (Jvm.Cond.code ({ cls := "RugReader$Reader", name := "holdOne", desc := "(Ljava/util/ArrayList;)I" } : Jvm.MethodName) prog_10_method_15_code (3 : Nat) (Option.some Jvm.ClassFile.FieldType.int)) ∈ lw_all := lw_g (lw_at lw_m6 78 rfl) rfl
theorem q1381 : (Jvm.Cond.methodLink "RugReader$Reader" (138 : Nat) ({ cls := "RugReader$Reader", name := "isName", desc := "()Z" } : Jvm.MethodName)) ∈ lw_all := lw_g (lw_at lw_m6 79 rfl) rfl
theorem q1382 : (Jvm.Cond.methodLink "RugReader$Reader" (142 : Nat) ({ cls := "RugReader$Reader", name := "find", desc := "(Ljava/util/ArrayList;)I" } : Jvm.MethodName)) ∈ lw_all := lw_g (lw_at lw_m6 80 rfl) rfl
theorem q2320 : (Jvm.Cond.sameMethod "RugReader$Reader" "RugReader$Reader" "byteAt" "(I)I") ∈ lw_all := lw_g (lw_at lw_m10 58 rfl) rfl
theorem q2326 : (Jvm.Cond.sameMethod "RugReader$Reader" "RugReader$Reader" "need" "(ZI)V") ∈ lw_all := lw_g (lw_at lw_m10 64 rfl) rfl
theorem q2330 : (Jvm.Cond.sameMethod "RugReader$Reader" "RugReader$Reader" "go" "()V") ∈ lw_all := lw_g (lw_at lw_m10 68 rfl) rfl
theorem q2338 : (Jvm.Cond.sameMethod "RugReader$Reader" "RugReader$Reader" "number" "(II)I") ∈ lw_all := lw_g (lw_at lw_m10 76 rfl) rfl
theorem q2342 : (Jvm.Cond.sameMethod "RugReader$Reader" "RugReader$Reader" "is" "(Ljava/lang/String;)Z") ∈ lw_all := lw_g (lw_at lw_m10 80 rfl) rfl
theorem q2346 : (Jvm.Cond.sameMethod "RugReader$Reader" "RugReader$Reader" "isName" "()Z") ∈ lw_all := lw_g (lw_at lw_m10 84 rfl) rfl
theorem q2350 : (Jvm.Cond.sameMethod "RugReader$Reader" "RugReader$Reader" "find" "(Ljava/util/ArrayList;)I") ∈ lw_all := lw_g (lw_at lw_m10 88 rfl) rfl
/-! RugReader$HouseReader -/
set_option maxRecDepth 100000
def RX7 : String := "RugReader$HouseReader"
def TX7 : u_T := fun k => match k with
  | 0 => ("RugReader$Reader", "tape", "[B", true)
  | 1 => ("RugReader$Reader", "size", "I", true)
  | 2 => ("RugReader$Reader", "limit", "I", true)
  | 3 => ("RugReader$Reader", "to", "I", false)
  | 4 => ("RugReader$Reader", "kind", "I", false)
  | 5 => ("RugReader$Reader", "from", "I", false)
  | 6 => ("RugReader$Reader", "number", "I", false)
  | 7 => ("RugReader$Reader", "sign", "I", false)
  | 8 => ("RugReader$Reader", "word", "Ljava/lang/String;", false)
  | 9 => ("RugReader$HouseReader", "h", "LRugReader$House;", true)
  | _ => ("RugReader$HouseReader", "onces", "I", false)
def tyX7 : Nat → FieldType := fun k => match k with
  | 0 => .array .byte
  | 1 => .int
  | 2 => .int
  | 3 => .int
  | 4 => .int
  | 5 => .int
  | 6 => .int
  | 7 => .int
  | 8 => .object "java/lang/String"
  | 9 => .object "RugReader$House"
  | _ => .int
abbrev wsX70 : List Cond := u_ws RX7 TX7 11
theorem nmX7 : ∀ a, a < 11 → ∀ b, b < 11 → a ≠ b → (TX7 a).2.1 ≠ (TX7 b).2.1 := by decide +kernel
theorem tyX7_ok : ∀ k, k < 11 → parseFieldDescriptor (TX7 k).2.2.1 = some (tyX7 k) := by decide +kernel
abbrev cX7_init : ByteArray := prog_5_method_1_code
def yX7_init : MethodName := ⟨RX7, "<init>", "([BI)V"⟩
def dkwX7_init_0 : List UInt8 := [42, 43, 28, 17, 3, 132, 183, 0, 3, 42, 187, 0, 9, 89, 183, 0, 11, 181, 0, 14, 177]
abbrev dktX7_init_0 : List UInt8 := dkwX7_init_0 ++ []
theorem dksX7_init_0 : cX7_init.data.toList.drop 0 = dktX7_init_0 := by decide +kernel
theorem dX7_init_0 : decode cX7_init 0 = .ok (.aload_n 0, 1) := dk_42 (dk_at dksX7_init_0 0 rfl rfl)
theorem dX7_init_1 : decode cX7_init 1 = .ok (.aload_n 1, 1) := dk_43 (dk_at dksX7_init_0 1 rfl rfl)
theorem dX7_init_2 : decode cX7_init 2 = .ok (.iload_n 2, 1) := dk_28 (dk_at dksX7_init_0 2 rfl rfl)
theorem dX7_init_3 : decode cX7_init 3 = .ok (.sipush 900, 3) := dk_17 3 132 (dk_at dksX7_init_0 3 rfl rfl)
theorem dX7_init_6 : decode cX7_init 6 = .ok (.invokespecial 3, 3) := dk_183 0 3 (dk_at dksX7_init_0 6 rfl rfl)
theorem dX7_init_9 : decode cX7_init 9 = .ok (.aload_n 0, 1) := dk_42 (dk_at dksX7_init_0 9 rfl rfl)
theorem dX7_init_10 : decode cX7_init 10 = .ok (.new 9, 3) := dk_187 0 9 (dk_at dksX7_init_0 10 rfl rfl)
theorem dX7_init_13 : decode cX7_init 13 = .ok (.dup, 1) := dk_89 (dk_at dksX7_init_0 13 rfl rfl)
theorem dX7_init_14 : decode cX7_init 14 = .ok (.invokespecial 11, 3) := dk_183 0 11 (dk_at dksX7_init_0 14 rfl rfl)
theorem dX7_init_17 : decode cX7_init 17 = .ok (.putfield 14, 3) := dk_181 0 14 (dk_at dksX7_init_0 17 rfl rfl)
theorem dX7_init_20 : decode cX7_init 20 = .ok (.return_, 1) := dk_177 (dk_at dksX7_init_0 20 rfl rfl)
abbrev cX7_read : ByteArray := prog_5_method_2_code
def yX7_read : MethodName := ⟨RX7, "read", "()LRugReader$House;"⟩
def dkwX7_read_1 : List UInt8 := [180, 0, 33, 4, 96, 181, 0, 33, 167, 255, 228, 42, 180, 0, 14, 176]
abbrev dktX7_read_1 : List UInt8 := dkwX7_read_1 ++ []
def dkwX7_read_0 : List UInt8 := [42, 182, 0, 20, 42, 180, 0, 23, 153, 0, 27, 42, 182, 0, 27, 42, 182, 0, 30, 42, 180, 0, 14, 89]
abbrev dktX7_read_0 : List UInt8 := dkwX7_read_0 ++ dktX7_read_1
theorem dksX7_read_0 : cX7_read.data.toList.drop 0 = dktX7_read_0 := by decide +kernel
theorem dksX7_read_1 : cX7_read.data.toList.drop 24 = dktX7_read_1 := dk_seg dksX7_read_0 24 rfl rfl
theorem dX7_read_0 : decode cX7_read 0 = .ok (.aload_n 0, 1) := dk_42 (dk_at dksX7_read_0 0 rfl rfl)
theorem dX7_read_1 : decode cX7_read 1 = .ok (.invokevirtual 20, 3) := dk_182 0 20 (dk_at dksX7_read_0 1 rfl rfl)
theorem dX7_read_4 : decode cX7_read 4 = .ok (.aload_n 0, 1) := dk_42 (dk_at dksX7_read_0 4 rfl rfl)
theorem dX7_read_5 : decode cX7_read 5 = .ok (.getfield 23, 3) := dk_180 0 23 (dk_at dksX7_read_0 5 rfl rfl)
theorem dX7_read_8 : decode cX7_read 8 = .ok (.ifCond .eq 27, 3) := dk_153 0 27 (dk_at dksX7_read_0 8 rfl rfl)
theorem dX7_read_11 : decode cX7_read 11 = .ok (.aload_n 0, 1) := dk_42 (dk_at dksX7_read_0 11 rfl rfl)
theorem dX7_read_12 : decode cX7_read 12 = .ok (.invokevirtual 27, 3) := dk_182 0 27 (dk_at dksX7_read_0 12 rfl rfl)
theorem dX7_read_15 : decode cX7_read 15 = .ok (.aload_n 0, 1) := dk_42 (dk_at dksX7_read_0 15 rfl rfl)
theorem dX7_read_16 : decode cX7_read 16 = .ok (.invokevirtual 30, 3) := dk_182 0 30 (dk_at dksX7_read_0 16 rfl rfl)
theorem dX7_read_19 : decode cX7_read 19 = .ok (.aload_n 0, 1) := dk_42 (dk_at dksX7_read_0 19 rfl rfl)
theorem dX7_read_20 : decode cX7_read 20 = .ok (.getfield 14, 3) := dk_180 0 14 (dk_at dksX7_read_0 20 rfl rfl)
theorem dX7_read_23 : decode cX7_read 23 = .ok (.dup, 1) := dk_89 (dk_at dksX7_read_0 23 rfl rfl)
theorem dX7_read_24 : decode cX7_read 24 = .ok (.getfield 33, 3) := dk_180 0 33 (dk_at dksX7_read_1 0 rfl rfl)
theorem dX7_read_27 : decode cX7_read 27 = .ok (.iconst 1, 1) := dk_4 (dk_at dksX7_read_1 3 rfl rfl)
theorem dX7_read_28 : decode cX7_read 28 = .ok (.iadd, 1) := dk_96 (dk_at dksX7_read_1 4 rfl rfl)
theorem dX7_read_29 : decode cX7_read 29 = .ok (.putfield 33, 3) := dk_181 0 33 (dk_at dksX7_read_1 5 rfl rfl)
theorem dX7_read_32 : decode cX7_read 32 = .ok (.goto (-28), 3) := dk_167 255 228 (dk_at dksX7_read_1 8 rfl rfl)
theorem dX7_read_35 : decode cX7_read 35 = .ok (.aload_n 0, 1) := dk_42 (dk_at dksX7_read_1 11 rfl rfl)
theorem dX7_read_36 : decode cX7_read 36 = .ok (.getfield 14, 3) := dk_180 0 14 (dk_at dksX7_read_1 12 rfl rfl)
theorem dX7_read_39 : decode cX7_read 39 = .ok (.areturn, 1) := dk_176 (dk_at dksX7_read_1 15 rfl rfl)
abbrev cX7_line : ByteArray := prog_5_method_3_code
def yX7_line : MethodName := ⟨RX7, "line", "()V"⟩
def dkwX7_line_3 : List UInt8 := [182, 0, 38, 153, 0, 10, 42, 182, 0, 58, 167, 0, 7, 42, 182, 0, 60, 177]
abbrev dktX7_line_3 : List UInt8 := dkwX7_line_3 ++ []
def dkwX7_line_2 : List UInt8 := [167, 0, 39, 42, 18, 52, 182, 0, 38, 153, 0, 10, 42, 182, 0, 54, 167, 0, 23, 42, 18, 56]
abbrev dktX7_line_2 : List UInt8 := dkwX7_line_2 ++ dktX7_line_3
def dkwX7_line_1 : List UInt8 := [153, 0, 10, 42, 182, 0, 46, 167, 0, 55, 42, 18, 48, 182, 0, 38, 153, 0, 10, 42, 182, 0, 50]
abbrev dktX7_line_1 : List UInt8 := dkwX7_line_1 ++ dktX7_line_2
def dkwX7_line_0 : List UInt8 := [42, 18, 36, 182, 0, 38, 153, 0, 10, 42, 182, 0, 42, 167, 0, 71, 42, 18, 44, 182, 0, 38]
abbrev dktX7_line_0 : List UInt8 := dkwX7_line_0 ++ dktX7_line_1
theorem dksX7_line_0 : cX7_line.data.toList.drop 0 = dktX7_line_0 := by decide +kernel
theorem dksX7_line_1 : cX7_line.data.toList.drop 22 = dktX7_line_1 := dk_seg dksX7_line_0 22 rfl rfl
theorem dksX7_line_2 : cX7_line.data.toList.drop 45 = dktX7_line_2 := dk_seg dksX7_line_1 23 rfl rfl
theorem dksX7_line_3 : cX7_line.data.toList.drop 67 = dktX7_line_3 := dk_seg dksX7_line_2 22 rfl rfl
theorem dX7_line_0 : decode cX7_line 0 = .ok (.aload_n 0, 1) := dk_42 (dk_at dksX7_line_0 0 rfl rfl)
theorem dX7_line_1 : decode cX7_line 1 = .ok (.ldc 36, 2) := dk_18 36 (dk_at dksX7_line_0 1 rfl rfl)
theorem dX7_line_3 : decode cX7_line 3 = .ok (.invokevirtual 38, 3) := dk_182 0 38 (dk_at dksX7_line_0 3 rfl rfl)
theorem dX7_line_6 : decode cX7_line 6 = .ok (.ifCond .eq 10, 3) := dk_153 0 10 (dk_at dksX7_line_0 6 rfl rfl)
theorem dX7_line_9 : decode cX7_line 9 = .ok (.aload_n 0, 1) := dk_42 (dk_at dksX7_line_0 9 rfl rfl)
theorem dX7_line_10 : decode cX7_line 10 = .ok (.invokevirtual 42, 3) := dk_182 0 42 (dk_at dksX7_line_0 10 rfl rfl)
theorem dX7_line_13 : decode cX7_line 13 = .ok (.goto 71, 3) := dk_167 0 71 (dk_at dksX7_line_0 13 rfl rfl)
theorem dX7_line_16 : decode cX7_line 16 = .ok (.aload_n 0, 1) := dk_42 (dk_at dksX7_line_0 16 rfl rfl)
theorem dX7_line_17 : decode cX7_line 17 = .ok (.ldc 44, 2) := dk_18 44 (dk_at dksX7_line_0 17 rfl rfl)
theorem dX7_line_19 : decode cX7_line 19 = .ok (.invokevirtual 38, 3) := dk_182 0 38 (dk_at dksX7_line_0 19 rfl rfl)
theorem dX7_line_22 : decode cX7_line 22 = .ok (.ifCond .eq 10, 3) := dk_153 0 10 (dk_at dksX7_line_1 0 rfl rfl)
theorem dX7_line_25 : decode cX7_line 25 = .ok (.aload_n 0, 1) := dk_42 (dk_at dksX7_line_1 3 rfl rfl)
theorem dX7_line_26 : decode cX7_line 26 = .ok (.invokevirtual 46, 3) := dk_182 0 46 (dk_at dksX7_line_1 4 rfl rfl)
theorem dX7_line_29 : decode cX7_line 29 = .ok (.goto 55, 3) := dk_167 0 55 (dk_at dksX7_line_1 7 rfl rfl)
theorem dX7_line_32 : decode cX7_line 32 = .ok (.aload_n 0, 1) := dk_42 (dk_at dksX7_line_1 10 rfl rfl)
theorem dX7_line_33 : decode cX7_line 33 = .ok (.ldc 48, 2) := dk_18 48 (dk_at dksX7_line_1 11 rfl rfl)
theorem dX7_line_35 : decode cX7_line 35 = .ok (.invokevirtual 38, 3) := dk_182 0 38 (dk_at dksX7_line_1 13 rfl rfl)
theorem dX7_line_38 : decode cX7_line 38 = .ok (.ifCond .eq 10, 3) := dk_153 0 10 (dk_at dksX7_line_1 16 rfl rfl)
theorem dX7_line_41 : decode cX7_line 41 = .ok (.aload_n 0, 1) := dk_42 (dk_at dksX7_line_1 19 rfl rfl)
theorem dX7_line_42 : decode cX7_line 42 = .ok (.invokevirtual 50, 3) := dk_182 0 50 (dk_at dksX7_line_1 20 rfl rfl)
theorem dX7_line_45 : decode cX7_line 45 = .ok (.goto 39, 3) := dk_167 0 39 (dk_at dksX7_line_2 0 rfl rfl)
theorem dX7_line_48 : decode cX7_line 48 = .ok (.aload_n 0, 1) := dk_42 (dk_at dksX7_line_2 3 rfl rfl)
theorem dX7_line_49 : decode cX7_line 49 = .ok (.ldc 52, 2) := dk_18 52 (dk_at dksX7_line_2 4 rfl rfl)
theorem dX7_line_51 : decode cX7_line 51 = .ok (.invokevirtual 38, 3) := dk_182 0 38 (dk_at dksX7_line_2 6 rfl rfl)
theorem dX7_line_54 : decode cX7_line 54 = .ok (.ifCond .eq 10, 3) := dk_153 0 10 (dk_at dksX7_line_2 9 rfl rfl)
theorem dX7_line_57 : decode cX7_line 57 = .ok (.aload_n 0, 1) := dk_42 (dk_at dksX7_line_2 12 rfl rfl)
theorem dX7_line_58 : decode cX7_line 58 = .ok (.invokevirtual 54, 3) := dk_182 0 54 (dk_at dksX7_line_2 13 rfl rfl)
theorem dX7_line_61 : decode cX7_line 61 = .ok (.goto 23, 3) := dk_167 0 23 (dk_at dksX7_line_2 16 rfl rfl)
theorem dX7_line_64 : decode cX7_line 64 = .ok (.aload_n 0, 1) := dk_42 (dk_at dksX7_line_2 19 rfl rfl)
theorem dX7_line_65 : decode cX7_line 65 = .ok (.ldc 56, 2) := dk_18 56 (dk_at dksX7_line_2 20 rfl rfl)
theorem dX7_line_67 : decode cX7_line 67 = .ok (.invokevirtual 38, 3) := dk_182 0 38 (dk_at dksX7_line_3 0 rfl rfl)
theorem dX7_line_70 : decode cX7_line 70 = .ok (.ifCond .eq 10, 3) := dk_153 0 10 (dk_at dksX7_line_3 3 rfl rfl)
theorem dX7_line_73 : decode cX7_line 73 = .ok (.aload_n 0, 1) := dk_42 (dk_at dksX7_line_3 6 rfl rfl)
theorem dX7_line_74 : decode cX7_line 74 = .ok (.invokevirtual 58, 3) := dk_182 0 58 (dk_at dksX7_line_3 7 rfl rfl)
theorem dX7_line_77 : decode cX7_line 77 = .ok (.goto 7, 3) := dk_167 0 7 (dk_at dksX7_line_3 10 rfl rfl)
theorem dX7_line_80 : decode cX7_line 80 = .ok (.aload_n 0, 1) := dk_42 (dk_at dksX7_line_3 13 rfl rfl)
theorem dX7_line_81 : decode cX7_line 81 = .ok (.invokevirtual 60, 3) := dk_182 0 60 (dk_at dksX7_line_3 14 rfl rfl)
theorem dX7_line_84 : decode cX7_line 84 = .ok (.return_, 1) := dk_177 (dk_at dksX7_line_3 17 rfl rfl)
abbrev cX7_rug : ByteArray := prog_5_method_5_code
def yX7_rug : MethodName := ⟨RX7, "rug", "()V"⟩
def dkwX7_rug_1 : List UInt8 := [5, 16, 12, 182, 0, 78, 181, 0, 85, 177]
abbrev dktX7_rug_1 : List UInt8 := dkwX7_rug_1 ++ []
def dkwX7_rug_0 : List UInt8 := [42, 3, 182, 0, 74, 42, 180, 0, 14, 42, 5, 16, 12, 182, 0, 78, 181, 0, 82, 42, 180, 0, 14, 42]
abbrev dktX7_rug_0 : List UInt8 := dkwX7_rug_0 ++ dktX7_rug_1
theorem dksX7_rug_0 : cX7_rug.data.toList.drop 0 = dktX7_rug_0 := by decide +kernel
theorem dksX7_rug_1 : cX7_rug.data.toList.drop 24 = dktX7_rug_1 := dk_seg dksX7_rug_0 24 rfl rfl
theorem dX7_rug_0 : decode cX7_rug 0 = .ok (.aload_n 0, 1) := dk_42 (dk_at dksX7_rug_0 0 rfl rfl)
theorem dX7_rug_1 : decode cX7_rug 1 = .ok (.iconst 0, 1) := dk_3 (dk_at dksX7_rug_0 1 rfl rfl)
theorem dX7_rug_2 : decode cX7_rug 2 = .ok (.invokevirtual 74, 3) := dk_182 0 74 (dk_at dksX7_rug_0 2 rfl rfl)
theorem dX7_rug_5 : decode cX7_rug 5 = .ok (.aload_n 0, 1) := dk_42 (dk_at dksX7_rug_0 5 rfl rfl)
theorem dX7_rug_6 : decode cX7_rug 6 = .ok (.getfield 14, 3) := dk_180 0 14 (dk_at dksX7_rug_0 6 rfl rfl)
theorem dX7_rug_9 : decode cX7_rug 9 = .ok (.aload_n 0, 1) := dk_42 (dk_at dksX7_rug_0 9 rfl rfl)
theorem dX7_rug_10 : decode cX7_rug 10 = .ok (.iconst 2, 1) := dk_5 (dk_at dksX7_rug_0 10 rfl rfl)
theorem dX7_rug_11 : decode cX7_rug 11 = .ok (.bipush 12, 2) := dk_16 12 (dk_at dksX7_rug_0 11 rfl rfl)
theorem dX7_rug_13 : decode cX7_rug 13 = .ok (.invokevirtual 78, 3) := dk_182 0 78 (dk_at dksX7_rug_0 13 rfl rfl)
theorem dX7_rug_16 : decode cX7_rug 16 = .ok (.putfield 82, 3) := dk_181 0 82 (dk_at dksX7_rug_0 16 rfl rfl)
theorem dX7_rug_19 : decode cX7_rug 19 = .ok (.aload_n 0, 1) := dk_42 (dk_at dksX7_rug_0 19 rfl rfl)
theorem dX7_rug_20 : decode cX7_rug 20 = .ok (.getfield 14, 3) := dk_180 0 14 (dk_at dksX7_rug_0 20 rfl rfl)
theorem dX7_rug_23 : decode cX7_rug 23 = .ok (.aload_n 0, 1) := dk_42 (dk_at dksX7_rug_0 23 rfl rfl)
theorem dX7_rug_24 : decode cX7_rug 24 = .ok (.iconst 2, 1) := dk_5 (dk_at dksX7_rug_1 0 rfl rfl)
theorem dX7_rug_25 : decode cX7_rug 25 = .ok (.bipush 12, 2) := dk_16 12 (dk_at dksX7_rug_1 1 rfl rfl)
theorem dX7_rug_27 : decode cX7_rug 27 = .ok (.invokevirtual 78, 3) := dk_182 0 78 (dk_at dksX7_rug_1 3 rfl rfl)
theorem dX7_rug_30 : decode cX7_rug 30 = .ok (.putfield 85, 3) := dk_181 0 85 (dk_at dksX7_rug_1 6 rfl rfl)
theorem dX7_rug_33 : decode cX7_rug 33 = .ok (.return_, 1) := dk_177 (dk_at dksX7_rug_1 9 rfl rfl)
abbrev cX7_once : ByteArray := prog_5_method_4_code
def yX7_once : MethodName := ⟨RX7, "once", "(I)V"⟩
def dkwX7_once_1 : List UInt8 := [180, 0, 63, 4, 27, 120, 128, 181, 0, 63, 42, 182, 0, 20, 177]
abbrev dktX7_once_1 : List UInt8 := dkwX7_once_1 ++ []
def dkwX7_once_0 : List UInt8 := [42, 42, 180, 0, 63, 27, 184, 0, 66, 154, 0, 7, 4, 167, 0, 4, 3, 6, 182, 0, 70, 42, 89]
abbrev dktX7_once_0 : List UInt8 := dkwX7_once_0 ++ dktX7_once_1
theorem dksX7_once_0 : cX7_once.data.toList.drop 0 = dktX7_once_0 := by decide +kernel
theorem dksX7_once_1 : cX7_once.data.toList.drop 23 = dktX7_once_1 := dk_seg dksX7_once_0 23 rfl rfl
theorem dX7_once_0 : decode cX7_once 0 = .ok (.aload_n 0, 1) := dk_42 (dk_at dksX7_once_0 0 rfl rfl)
theorem dX7_once_1 : decode cX7_once 1 = .ok (.aload_n 0, 1) := dk_42 (dk_at dksX7_once_0 1 rfl rfl)
theorem dX7_once_2 : decode cX7_once 2 = .ok (.getfield 63, 3) := dk_180 0 63 (dk_at dksX7_once_0 2 rfl rfl)
theorem dX7_once_5 : decode cX7_once 5 = .ok (.iload_n 1, 1) := dk_27 (dk_at dksX7_once_0 5 rfl rfl)
theorem dX7_once_6 : decode cX7_once 6 = .ok (.invokestatic 66, 3) := dk_184 0 66 (dk_at dksX7_once_0 6 rfl rfl)
theorem dX7_once_9 : decode cX7_once 9 = .ok (.ifCond .ne 7, 3) := dk_154 0 7 (dk_at dksX7_once_0 9 rfl rfl)
theorem dX7_once_12 : decode cX7_once 12 = .ok (.iconst 1, 1) := dk_4 (dk_at dksX7_once_0 12 rfl rfl)
theorem dX7_once_13 : decode cX7_once 13 = .ok (.goto 4, 3) := dk_167 0 4 (dk_at dksX7_once_0 13 rfl rfl)
theorem dX7_once_16 : decode cX7_once 16 = .ok (.iconst 0, 1) := dk_3 (dk_at dksX7_once_0 16 rfl rfl)
theorem dX7_once_17 : decode cX7_once 17 = .ok (.iconst 3, 1) := dk_6 (dk_at dksX7_once_0 17 rfl rfl)
theorem dX7_once_18 : decode cX7_once 18 = .ok (.invokevirtual 70, 3) := dk_182 0 70 (dk_at dksX7_once_0 18 rfl rfl)
theorem dX7_once_21 : decode cX7_once 21 = .ok (.aload_n 0, 1) := dk_42 (dk_at dksX7_once_0 21 rfl rfl)
theorem dX7_once_22 : decode cX7_once 22 = .ok (.dup, 1) := dk_89 (dk_at dksX7_once_0 22 rfl rfl)
theorem dX7_once_23 : decode cX7_once 23 = .ok (.getfield 63, 3) := dk_180 0 63 (dk_at dksX7_once_1 0 rfl rfl)
theorem dX7_once_26 : decode cX7_once 26 = .ok (.iconst 1, 1) := dk_4 (dk_at dksX7_once_1 3 rfl rfl)
theorem dX7_once_27 : decode cX7_once 27 = .ok (.iload_n 1, 1) := dk_27 (dk_at dksX7_once_1 4 rfl rfl)
theorem dX7_once_28 : decode cX7_once 28 = .ok (.ishl, 1) := dk_120 (dk_at dksX7_once_1 5 rfl rfl)
theorem dX7_once_29 : decode cX7_once 29 = .ok (.ior, 1) := dk_128 (dk_at dksX7_once_1 6 rfl rfl)
theorem dX7_once_30 : decode cX7_once 30 = .ok (.putfield 63, 3) := dk_181 0 63 (dk_at dksX7_once_1 7 rfl rfl)
theorem dX7_once_33 : decode cX7_once 33 = .ok (.aload_n 0, 1) := dk_42 (dk_at dksX7_once_1 10 rfl rfl)
theorem dX7_once_34 : decode cX7_once 34 = .ok (.invokevirtual 20, 3) := dk_182 0 20 (dk_at dksX7_once_1 11 rfl rfl)
theorem dX7_once_37 : decode cX7_once 37 = .ok (.return_, 1) := dk_177 (dk_at dksX7_once_1 14 rfl rfl)
abbrev cX7_person : ByteArray := prog_5_method_8_code
def yX7_person : MethodName := ⟨RX7, "person", "()V"⟩
def dkwX7_person_3 : List UInt8 := [182, 0, 78, 183, 0, 122, 182, 0, 125, 87, 177]
abbrev dktX7_person_3 : List UInt8 := dkwX7_person_3 ++ []
def dkwX7_person_2 : List UInt8 := [182, 0, 78, 62, 42, 180, 0, 14, 180, 0, 95, 187, 0, 120, 89, 43, 28, 29, 42, 4, 16, 9]
abbrev dktX7_person_2 : List UInt8 := dkwX7_person_2 ++ dktX7_person_3
def dkwX7_person_1 : List UInt8 := [182, 0, 70, 42, 182, 0, 20, 42, 182, 0, 116, 76, 42, 4, 16, 9, 182, 0, 78, 61, 42, 3, 16, 9]
abbrev dktX7_person_1 : List UInt8 := dkwX7_person_1 ++ dktX7_person_2
def dkwX7_person_0 : List UInt8 := [42, 42, 180, 0, 14, 180, 0, 95, 182, 0, 110, 16, 6, 162, 0, 7, 4, 167, 0, 4, 3, 7]
abbrev dktX7_person_0 : List UInt8 := dkwX7_person_0 ++ dktX7_person_1
theorem dksX7_person_0 : cX7_person.data.toList.drop 0 = dktX7_person_0 := by decide +kernel
theorem dksX7_person_1 : cX7_person.data.toList.drop 22 = dktX7_person_1 := dk_seg dksX7_person_0 22 rfl rfl
theorem dksX7_person_2 : cX7_person.data.toList.drop 46 = dktX7_person_2 := dk_seg dksX7_person_1 24 rfl rfl
theorem dksX7_person_3 : cX7_person.data.toList.drop 68 = dktX7_person_3 := dk_seg dksX7_person_2 22 rfl rfl
theorem dX7_person_0 : decode cX7_person 0 = .ok (.aload_n 0, 1) := dk_42 (dk_at dksX7_person_0 0 rfl rfl)
theorem dX7_person_1 : decode cX7_person 1 = .ok (.aload_n 0, 1) := dk_42 (dk_at dksX7_person_0 1 rfl rfl)
theorem dX7_person_2 : decode cX7_person 2 = .ok (.getfield 14, 3) := dk_180 0 14 (dk_at dksX7_person_0 2 rfl rfl)
theorem dX7_person_5 : decode cX7_person 5 = .ok (.getfield 95, 3) := dk_180 0 95 (dk_at dksX7_person_0 5 rfl rfl)
theorem dX7_person_8 : decode cX7_person 8 = .ok (.invokevirtual 110, 3) := dk_182 0 110 (dk_at dksX7_person_0 8 rfl rfl)
theorem dX7_person_11 : decode cX7_person 11 = .ok (.bipush 6, 2) := dk_16 6 (dk_at dksX7_person_0 11 rfl rfl)
theorem dX7_person_13 : decode cX7_person 13 = .ok (.if_icmp .ge 7, 3) := dk_162 0 7 (dk_at dksX7_person_0 13 rfl rfl)
theorem dX7_person_16 : decode cX7_person 16 = .ok (.iconst 1, 1) := dk_4 (dk_at dksX7_person_0 16 rfl rfl)
theorem dX7_person_17 : decode cX7_person 17 = .ok (.goto 4, 3) := dk_167 0 4 (dk_at dksX7_person_0 17 rfl rfl)
theorem dX7_person_20 : decode cX7_person 20 = .ok (.iconst 0, 1) := dk_3 (dk_at dksX7_person_0 20 rfl rfl)
theorem dX7_person_21 : decode cX7_person 21 = .ok (.iconst 4, 1) := dk_7 (dk_at dksX7_person_0 21 rfl rfl)
theorem dX7_person_22 : decode cX7_person 22 = .ok (.invokevirtual 70, 3) := dk_182 0 70 (dk_at dksX7_person_1 0 rfl rfl)
theorem dX7_person_25 : decode cX7_person 25 = .ok (.aload_n 0, 1) := dk_42 (dk_at dksX7_person_1 3 rfl rfl)
theorem dX7_person_26 : decode cX7_person 26 = .ok (.invokevirtual 20, 3) := dk_182 0 20 (dk_at dksX7_person_1 4 rfl rfl)
theorem dX7_person_29 : decode cX7_person 29 = .ok (.aload_n 0, 1) := dk_42 (dk_at dksX7_person_1 7 rfl rfl)
theorem dX7_person_30 : decode cX7_person 30 = .ok (.invokevirtual 116, 3) := dk_182 0 116 (dk_at dksX7_person_1 8 rfl rfl)
theorem dX7_person_33 : decode cX7_person 33 = .ok (.astore_n 1, 1) := dk_76 (dk_at dksX7_person_1 11 rfl rfl)
theorem dX7_person_34 : decode cX7_person 34 = .ok (.aload_n 0, 1) := dk_42 (dk_at dksX7_person_1 12 rfl rfl)
theorem dX7_person_35 : decode cX7_person 35 = .ok (.iconst 1, 1) := dk_4 (dk_at dksX7_person_1 13 rfl rfl)
theorem dX7_person_36 : decode cX7_person 36 = .ok (.bipush 9, 2) := dk_16 9 (dk_at dksX7_person_1 14 rfl rfl)
theorem dX7_person_38 : decode cX7_person 38 = .ok (.invokevirtual 78, 3) := dk_182 0 78 (dk_at dksX7_person_1 16 rfl rfl)
theorem dX7_person_41 : decode cX7_person 41 = .ok (.istore_n 2, 1) := dk_61 (dk_at dksX7_person_1 19 rfl rfl)
theorem dX7_person_42 : decode cX7_person 42 = .ok (.aload_n 0, 1) := dk_42 (dk_at dksX7_person_1 20 rfl rfl)
theorem dX7_person_43 : decode cX7_person 43 = .ok (.iconst 0, 1) := dk_3 (dk_at dksX7_person_1 21 rfl rfl)
theorem dX7_person_44 : decode cX7_person 44 = .ok (.bipush 9, 2) := dk_16 9 (dk_at dksX7_person_1 22 rfl rfl)
theorem dX7_person_46 : decode cX7_person 46 = .ok (.invokevirtual 78, 3) := dk_182 0 78 (dk_at dksX7_person_2 0 rfl rfl)
theorem dX7_person_49 : decode cX7_person 49 = .ok (.istore_n 3, 1) := dk_62 (dk_at dksX7_person_2 3 rfl rfl)
theorem dX7_person_50 : decode cX7_person 50 = .ok (.aload_n 0, 1) := dk_42 (dk_at dksX7_person_2 4 rfl rfl)
theorem dX7_person_51 : decode cX7_person 51 = .ok (.getfield 14, 3) := dk_180 0 14 (dk_at dksX7_person_2 5 rfl rfl)
theorem dX7_person_54 : decode cX7_person 54 = .ok (.getfield 95, 3) := dk_180 0 95 (dk_at dksX7_person_2 8 rfl rfl)
theorem dX7_person_57 : decode cX7_person 57 = .ok (.new 120, 3) := dk_187 0 120 (dk_at dksX7_person_2 11 rfl rfl)
theorem dX7_person_60 : decode cX7_person 60 = .ok (.dup, 1) := dk_89 (dk_at dksX7_person_2 14 rfl rfl)
theorem dX7_person_61 : decode cX7_person 61 = .ok (.aload_n 1, 1) := dk_43 (dk_at dksX7_person_2 15 rfl rfl)
theorem dX7_person_62 : decode cX7_person 62 = .ok (.iload_n 2, 1) := dk_28 (dk_at dksX7_person_2 16 rfl rfl)
theorem dX7_person_63 : decode cX7_person 63 = .ok (.iload_n 3, 1) := dk_29 (dk_at dksX7_person_2 17 rfl rfl)
theorem dX7_person_64 : decode cX7_person 64 = .ok (.aload_n 0, 1) := dk_42 (dk_at dksX7_person_2 18 rfl rfl)
theorem dX7_person_65 : decode cX7_person 65 = .ok (.iconst 1, 1) := dk_4 (dk_at dksX7_person_2 19 rfl rfl)
theorem dX7_person_66 : decode cX7_person 66 = .ok (.bipush 9, 2) := dk_16 9 (dk_at dksX7_person_2 20 rfl rfl)
theorem dX7_person_68 : decode cX7_person 68 = .ok (.invokevirtual 78, 3) := dk_182 0 78 (dk_at dksX7_person_3 0 rfl rfl)
theorem dX7_person_71 : decode cX7_person 71 = .ok (.invokespecial 122, 3) := dk_183 0 122 (dk_at dksX7_person_3 3 rfl rfl)
theorem dX7_person_74 : decode cX7_person 74 = .ok (.invokevirtual 125, 3) := dk_182 0 125 (dk_at dksX7_person_3 6 rfl rfl)
theorem dX7_person_77 : decode cX7_person 77 = .ok (.pop, 1) := dk_87 (dk_at dksX7_person_3 9 rfl rfl)
theorem dX7_person_78 : decode cX7_person 78 = .ok (.return_, 1) := dk_177 (dk_at dksX7_person_3 10 rfl rfl)
abbrev cX7_fresh : ByteArray := prog_5_method_7_code
def yX7_fresh : MethodName := ⟨RX7, "fresh", "()Ljava/lang/String;"⟩
def dkwX7_fresh_2 : List UInt8 := [182, 0, 70, 42, 180, 0, 106, 76, 42, 182, 0, 20, 43, 176]
abbrev dktX7_fresh_2 : List UInt8 := dkwX7_fresh_2 ++ []
def dkwX7_fresh_1 : List UInt8 := [160, 0, 22, 42, 42, 180, 0, 14, 180, 0, 103, 182, 0, 99, 2, 160, 0, 7, 4, 167, 0, 4, 3, 6]
abbrev dktX7_fresh_1 : List UInt8 := dkwX7_fresh_1 ++ dktX7_fresh_2
def dkwX7_fresh_0 : List UInt8 := [42, 42, 182, 0, 91, 4, 182, 0, 70, 42, 42, 42, 180, 0, 14, 180, 0, 95, 182, 0, 99, 2]
abbrev dktX7_fresh_0 : List UInt8 := dkwX7_fresh_0 ++ dktX7_fresh_1
theorem dksX7_fresh_0 : cX7_fresh.data.toList.drop 0 = dktX7_fresh_0 := by decide +kernel
theorem dksX7_fresh_1 : cX7_fresh.data.toList.drop 22 = dktX7_fresh_1 := dk_seg dksX7_fresh_0 22 rfl rfl
theorem dksX7_fresh_2 : cX7_fresh.data.toList.drop 46 = dktX7_fresh_2 := dk_seg dksX7_fresh_1 24 rfl rfl
theorem dX7_fresh_0 : decode cX7_fresh 0 = .ok (.aload_n 0, 1) := dk_42 (dk_at dksX7_fresh_0 0 rfl rfl)
theorem dX7_fresh_1 : decode cX7_fresh 1 = .ok (.aload_n 0, 1) := dk_42 (dk_at dksX7_fresh_0 1 rfl rfl)
theorem dX7_fresh_2 : decode cX7_fresh 2 = .ok (.invokevirtual 91, 3) := dk_182 0 91 (dk_at dksX7_fresh_0 2 rfl rfl)
theorem dX7_fresh_5 : decode cX7_fresh 5 = .ok (.iconst 1, 1) := dk_4 (dk_at dksX7_fresh_0 5 rfl rfl)
theorem dX7_fresh_6 : decode cX7_fresh 6 = .ok (.invokevirtual 70, 3) := dk_182 0 70 (dk_at dksX7_fresh_0 6 rfl rfl)
theorem dX7_fresh_9 : decode cX7_fresh 9 = .ok (.aload_n 0, 1) := dk_42 (dk_at dksX7_fresh_0 9 rfl rfl)
theorem dX7_fresh_10 : decode cX7_fresh 10 = .ok (.aload_n 0, 1) := dk_42 (dk_at dksX7_fresh_0 10 rfl rfl)
theorem dX7_fresh_11 : decode cX7_fresh 11 = .ok (.aload_n 0, 1) := dk_42 (dk_at dksX7_fresh_0 11 rfl rfl)
theorem dX7_fresh_12 : decode cX7_fresh 12 = .ok (.getfield 14, 3) := dk_180 0 14 (dk_at dksX7_fresh_0 12 rfl rfl)
theorem dX7_fresh_15 : decode cX7_fresh 15 = .ok (.getfield 95, 3) := dk_180 0 95 (dk_at dksX7_fresh_0 15 rfl rfl)
theorem dX7_fresh_18 : decode cX7_fresh 18 = .ok (.invokevirtual 99, 3) := dk_182 0 99 (dk_at dksX7_fresh_0 18 rfl rfl)
theorem dX7_fresh_21 : decode cX7_fresh 21 = .ok (.iconst (-1), 1) := dk_2 (dk_at dksX7_fresh_0 21 rfl rfl)
theorem dX7_fresh_22 : decode cX7_fresh 22 = .ok (.if_icmp .ne 22, 3) := dk_160 0 22 (dk_at dksX7_fresh_1 0 rfl rfl)
theorem dX7_fresh_25 : decode cX7_fresh 25 = .ok (.aload_n 0, 1) := dk_42 (dk_at dksX7_fresh_1 3 rfl rfl)
theorem dX7_fresh_26 : decode cX7_fresh 26 = .ok (.aload_n 0, 1) := dk_42 (dk_at dksX7_fresh_1 4 rfl rfl)
theorem dX7_fresh_27 : decode cX7_fresh 27 = .ok (.getfield 14, 3) := dk_180 0 14 (dk_at dksX7_fresh_1 5 rfl rfl)
theorem dX7_fresh_30 : decode cX7_fresh 30 = .ok (.getfield 103, 3) := dk_180 0 103 (dk_at dksX7_fresh_1 8 rfl rfl)
theorem dX7_fresh_33 : decode cX7_fresh 33 = .ok (.invokevirtual 99, 3) := dk_182 0 99 (dk_at dksX7_fresh_1 11 rfl rfl)
theorem dX7_fresh_36 : decode cX7_fresh 36 = .ok (.iconst (-1), 1) := dk_2 (dk_at dksX7_fresh_1 14 rfl rfl)
theorem dX7_fresh_37 : decode cX7_fresh 37 = .ok (.if_icmp .ne 7, 3) := dk_160 0 7 (dk_at dksX7_fresh_1 15 rfl rfl)
theorem dX7_fresh_40 : decode cX7_fresh 40 = .ok (.iconst 1, 1) := dk_4 (dk_at dksX7_fresh_1 18 rfl rfl)
theorem dX7_fresh_41 : decode cX7_fresh 41 = .ok (.goto 4, 3) := dk_167 0 4 (dk_at dksX7_fresh_1 19 rfl rfl)
theorem dX7_fresh_44 : decode cX7_fresh 44 = .ok (.iconst 0, 1) := dk_3 (dk_at dksX7_fresh_1 22 rfl rfl)
theorem dX7_fresh_45 : decode cX7_fresh 45 = .ok (.iconst 3, 1) := dk_6 (dk_at dksX7_fresh_1 23 rfl rfl)
theorem dX7_fresh_46 : decode cX7_fresh 46 = .ok (.invokevirtual 70, 3) := dk_182 0 70 (dk_at dksX7_fresh_2 0 rfl rfl)
theorem dX7_fresh_49 : decode cX7_fresh 49 = .ok (.aload_n 0, 1) := dk_42 (dk_at dksX7_fresh_2 3 rfl rfl)
theorem dX7_fresh_50 : decode cX7_fresh 50 = .ok (.getfield 106, 3) := dk_180 0 106 (dk_at dksX7_fresh_2 4 rfl rfl)
theorem dX7_fresh_53 : decode cX7_fresh 53 = .ok (.astore_n 1, 1) := dk_76 (dk_at dksX7_fresh_2 7 rfl rfl)
theorem dX7_fresh_54 : decode cX7_fresh 54 = .ok (.aload_n 0, 1) := dk_42 (dk_at dksX7_fresh_2 8 rfl rfl)
theorem dX7_fresh_55 : decode cX7_fresh 55 = .ok (.invokevirtual 20, 3) := dk_182 0 20 (dk_at dksX7_fresh_2 9 rfl rfl)
theorem dX7_fresh_58 : decode cX7_fresh 58 = .ok (.aload_n 1, 1) := dk_43 (dk_at dksX7_fresh_2 12 rfl rfl)
theorem dX7_fresh_59 : decode cX7_fresh 59 = .ok (.areturn, 1) := dk_176 (dk_at dksX7_fresh_2 13 rfl rfl)
abbrev cX7_wall : ByteArray := prog_5_method_9_code
def yX7_wall : MethodName := ⟨RX7, "wall", "()V"⟩
def dkwX7_wall_3 : List UInt8 := [180, 0, 14, 89, 180, 0, 129, 4, 96, 181, 0, 129, 42, 182, 0, 20, 177]
abbrev dktX7_wall_3 : List UInt8 := dkwX7_wall_3 ++ []
def dkwX7_wall_2 : List UInt8 := [154, 0, 7, 4, 167, 0, 4, 3, 6, 182, 0, 70, 42, 180, 0, 14, 180, 0, 136, 27, 4, 84, 42]
abbrev dktX7_wall_2 : List UInt8 := dkwX7_wall_2 ++ dktX7_wall_3
def dkwX7_wall_1 : List UInt8 := [182, 0, 20, 42, 42, 180, 0, 14, 182, 0, 132, 60, 42, 42, 180, 0, 14, 180, 0, 136, 27, 51]
abbrev dktX7_wall_1 : List UInt8 := dkwX7_wall_1 ++ dktX7_wall_2
def dkwX7_wall_0 : List UInt8 := [42, 42, 180, 0, 14, 180, 0, 129, 16, 30, 162, 0, 7, 4, 167, 0, 4, 3, 7, 182, 0, 70, 42]
abbrev dktX7_wall_0 : List UInt8 := dkwX7_wall_0 ++ dktX7_wall_1
theorem dksX7_wall_0 : cX7_wall.data.toList.drop 0 = dktX7_wall_0 := by decide +kernel
theorem dksX7_wall_1 : cX7_wall.data.toList.drop 23 = dktX7_wall_1 := dk_seg dksX7_wall_0 23 rfl rfl
theorem dksX7_wall_2 : cX7_wall.data.toList.drop 45 = dktX7_wall_2 := dk_seg dksX7_wall_1 22 rfl rfl
theorem dksX7_wall_3 : cX7_wall.data.toList.drop 68 = dktX7_wall_3 := dk_seg dksX7_wall_2 23 rfl rfl
theorem dX7_wall_0 : decode cX7_wall 0 = .ok (.aload_n 0, 1) := dk_42 (dk_at dksX7_wall_0 0 rfl rfl)
theorem dX7_wall_1 : decode cX7_wall 1 = .ok (.aload_n 0, 1) := dk_42 (dk_at dksX7_wall_0 1 rfl rfl)
theorem dX7_wall_2 : decode cX7_wall 2 = .ok (.getfield 14, 3) := dk_180 0 14 (dk_at dksX7_wall_0 2 rfl rfl)
theorem dX7_wall_5 : decode cX7_wall 5 = .ok (.getfield 129, 3) := dk_180 0 129 (dk_at dksX7_wall_0 5 rfl rfl)
theorem dX7_wall_8 : decode cX7_wall 8 = .ok (.bipush 30, 2) := dk_16 30 (dk_at dksX7_wall_0 8 rfl rfl)
theorem dX7_wall_10 : decode cX7_wall 10 = .ok (.if_icmp .ge 7, 3) := dk_162 0 7 (dk_at dksX7_wall_0 10 rfl rfl)
theorem dX7_wall_13 : decode cX7_wall 13 = .ok (.iconst 1, 1) := dk_4 (dk_at dksX7_wall_0 13 rfl rfl)
theorem dX7_wall_14 : decode cX7_wall 14 = .ok (.goto 4, 3) := dk_167 0 4 (dk_at dksX7_wall_0 14 rfl rfl)
theorem dX7_wall_17 : decode cX7_wall 17 = .ok (.iconst 0, 1) := dk_3 (dk_at dksX7_wall_0 17 rfl rfl)
theorem dX7_wall_18 : decode cX7_wall 18 = .ok (.iconst 4, 1) := dk_7 (dk_at dksX7_wall_0 18 rfl rfl)
theorem dX7_wall_19 : decode cX7_wall 19 = .ok (.invokevirtual 70, 3) := dk_182 0 70 (dk_at dksX7_wall_0 19 rfl rfl)
theorem dX7_wall_22 : decode cX7_wall 22 = .ok (.aload_n 0, 1) := dk_42 (dk_at dksX7_wall_0 22 rfl rfl)
theorem dX7_wall_23 : decode cX7_wall 23 = .ok (.invokevirtual 20, 3) := dk_182 0 20 (dk_at dksX7_wall_1 0 rfl rfl)
theorem dX7_wall_26 : decode cX7_wall 26 = .ok (.aload_n 0, 1) := dk_42 (dk_at dksX7_wall_1 3 rfl rfl)
theorem dX7_wall_27 : decode cX7_wall 27 = .ok (.aload_n 0, 1) := dk_42 (dk_at dksX7_wall_1 4 rfl rfl)
theorem dX7_wall_28 : decode cX7_wall 28 = .ok (.getfield 14, 3) := dk_180 0 14 (dk_at dksX7_wall_1 5 rfl rfl)
theorem dX7_wall_31 : decode cX7_wall 31 = .ok (.invokevirtual 132, 3) := dk_182 0 132 (dk_at dksX7_wall_1 8 rfl rfl)
theorem dX7_wall_34 : decode cX7_wall 34 = .ok (.istore_n 1, 1) := dk_60 (dk_at dksX7_wall_1 11 rfl rfl)
theorem dX7_wall_35 : decode cX7_wall 35 = .ok (.aload_n 0, 1) := dk_42 (dk_at dksX7_wall_1 12 rfl rfl)
theorem dX7_wall_36 : decode cX7_wall 36 = .ok (.aload_n 0, 1) := dk_42 (dk_at dksX7_wall_1 13 rfl rfl)
theorem dX7_wall_37 : decode cX7_wall 37 = .ok (.getfield 14, 3) := dk_180 0 14 (dk_at dksX7_wall_1 14 rfl rfl)
theorem dX7_wall_40 : decode cX7_wall 40 = .ok (.getfield 136, 3) := dk_180 0 136 (dk_at dksX7_wall_1 17 rfl rfl)
theorem dX7_wall_43 : decode cX7_wall 43 = .ok (.iload_n 1, 1) := dk_27 (dk_at dksX7_wall_1 20 rfl rfl)
theorem dX7_wall_44 : decode cX7_wall 44 = .ok (.baload, 1) := dk_51 (dk_at dksX7_wall_1 21 rfl rfl)
theorem dX7_wall_45 : decode cX7_wall 45 = .ok (.ifCond .ne 7, 3) := dk_154 0 7 (dk_at dksX7_wall_2 0 rfl rfl)
theorem dX7_wall_48 : decode cX7_wall 48 = .ok (.iconst 1, 1) := dk_4 (dk_at dksX7_wall_2 3 rfl rfl)
theorem dX7_wall_49 : decode cX7_wall 49 = .ok (.goto 4, 3) := dk_167 0 4 (dk_at dksX7_wall_2 4 rfl rfl)
theorem dX7_wall_52 : decode cX7_wall 52 = .ok (.iconst 0, 1) := dk_3 (dk_at dksX7_wall_2 7 rfl rfl)
theorem dX7_wall_53 : decode cX7_wall 53 = .ok (.iconst 3, 1) := dk_6 (dk_at dksX7_wall_2 8 rfl rfl)
theorem dX7_wall_54 : decode cX7_wall 54 = .ok (.invokevirtual 70, 3) := dk_182 0 70 (dk_at dksX7_wall_2 9 rfl rfl)
theorem dX7_wall_57 : decode cX7_wall 57 = .ok (.aload_n 0, 1) := dk_42 (dk_at dksX7_wall_2 12 rfl rfl)
theorem dX7_wall_58 : decode cX7_wall 58 = .ok (.getfield 14, 3) := dk_180 0 14 (dk_at dksX7_wall_2 13 rfl rfl)
theorem dX7_wall_61 : decode cX7_wall 61 = .ok (.getfield 136, 3) := dk_180 0 136 (dk_at dksX7_wall_2 16 rfl rfl)
theorem dX7_wall_64 : decode cX7_wall 64 = .ok (.iload_n 1, 1) := dk_27 (dk_at dksX7_wall_2 19 rfl rfl)
theorem dX7_wall_65 : decode cX7_wall 65 = .ok (.iconst 1, 1) := dk_4 (dk_at dksX7_wall_2 20 rfl rfl)
theorem dX7_wall_66 : decode cX7_wall 66 = .ok (.bastore, 1) := dk_84 (dk_at dksX7_wall_2 21 rfl rfl)
theorem dX7_wall_67 : decode cX7_wall 67 = .ok (.aload_n 0, 1) := dk_42 (dk_at dksX7_wall_2 22 rfl rfl)
theorem dX7_wall_68 : decode cX7_wall 68 = .ok (.getfield 14, 3) := dk_180 0 14 (dk_at dksX7_wall_3 0 rfl rfl)
theorem dX7_wall_71 : decode cX7_wall 71 = .ok (.dup, 1) := dk_89 (dk_at dksX7_wall_3 3 rfl rfl)
theorem dX7_wall_72 : decode cX7_wall 72 = .ok (.getfield 129, 3) := dk_180 0 129 (dk_at dksX7_wall_3 4 rfl rfl)
theorem dX7_wall_75 : decode cX7_wall 75 = .ok (.iconst 1, 1) := dk_4 (dk_at dksX7_wall_3 7 rfl rfl)
theorem dX7_wall_76 : decode cX7_wall 76 = .ok (.iadd, 1) := dk_96 (dk_at dksX7_wall_3 8 rfl rfl)
theorem dX7_wall_77 : decode cX7_wall 77 = .ok (.putfield 129, 3) := dk_181 0 129 (dk_at dksX7_wall_3 9 rfl rfl)
theorem dX7_wall_80 : decode cX7_wall 80 = .ok (.aload_n 0, 1) := dk_42 (dk_at dksX7_wall_3 12 rfl rfl)
theorem dX7_wall_81 : decode cX7_wall 81 = .ok (.invokevirtual 20, 3) := dk_182 0 20 (dk_at dksX7_wall_3 13 rfl rfl)
theorem dX7_wall_84 : decode cX7_wall 84 = .ok (.return_, 1) := dk_177 (dk_at dksX7_wall_3 16 rfl rfl)
abbrev cX7_door : ByteArray := prog_5_method_10_code
def yX7_door : MethodName := ⟨RX7, "door", "()V"⟩
def dkwX7_door_3 : List UInt8 := [42, 180, 0, 14, 180, 0, 139, 27, 184, 0, 144, 182, 0, 125, 87, 42, 182, 0, 20, 177]
abbrev dktX7_door_3 : List UInt8 := dkwX7_door_3 ++ []
def dkwX7_door_2 : List UInt8 := [27, 51, 154, 0, 7, 4, 167, 0, 4, 3, 6, 182, 0, 70, 42, 180, 0, 14, 180, 0, 142, 27, 4, 84]
abbrev dktX7_door_2 : List UInt8 := dkwX7_door_2 ++ dktX7_door_3
def dkwX7_door_1 : List UInt8 := [182, 0, 70, 42, 182, 0, 20, 42, 42, 180, 0, 14, 182, 0, 132, 60, 42, 42, 180, 0, 14, 180, 0, 142]
abbrev dktX7_door_1 : List UInt8 := dkwX7_door_1 ++ dktX7_door_2
def dkwX7_door_0 : List UInt8 := [42, 42, 180, 0, 14, 180, 0, 139, 182, 0, 110, 16, 8, 162, 0, 7, 4, 167, 0, 4, 3, 7]
abbrev dktX7_door_0 : List UInt8 := dkwX7_door_0 ++ dktX7_door_1
theorem dksX7_door_0 : cX7_door.data.toList.drop 0 = dktX7_door_0 := by decide +kernel
theorem dksX7_door_1 : cX7_door.data.toList.drop 22 = dktX7_door_1 := dk_seg dksX7_door_0 22 rfl rfl
theorem dksX7_door_2 : cX7_door.data.toList.drop 46 = dktX7_door_2 := dk_seg dksX7_door_1 24 rfl rfl
theorem dksX7_door_3 : cX7_door.data.toList.drop 70 = dktX7_door_3 := dk_seg dksX7_door_2 24 rfl rfl
theorem dX7_door_0 : decode cX7_door 0 = .ok (.aload_n 0, 1) := dk_42 (dk_at dksX7_door_0 0 rfl rfl)
theorem dX7_door_1 : decode cX7_door 1 = .ok (.aload_n 0, 1) := dk_42 (dk_at dksX7_door_0 1 rfl rfl)
theorem dX7_door_2 : decode cX7_door 2 = .ok (.getfield 14, 3) := dk_180 0 14 (dk_at dksX7_door_0 2 rfl rfl)
theorem dX7_door_5 : decode cX7_door 5 = .ok (.getfield 139, 3) := dk_180 0 139 (dk_at dksX7_door_0 5 rfl rfl)
theorem dX7_door_8 : decode cX7_door 8 = .ok (.invokevirtual 110, 3) := dk_182 0 110 (dk_at dksX7_door_0 8 rfl rfl)
theorem dX7_door_11 : decode cX7_door 11 = .ok (.bipush 8, 2) := dk_16 8 (dk_at dksX7_door_0 11 rfl rfl)
theorem dX7_door_13 : decode cX7_door 13 = .ok (.if_icmp .ge 7, 3) := dk_162 0 7 (dk_at dksX7_door_0 13 rfl rfl)
theorem dX7_door_16 : decode cX7_door 16 = .ok (.iconst 1, 1) := dk_4 (dk_at dksX7_door_0 16 rfl rfl)
theorem dX7_door_17 : decode cX7_door 17 = .ok (.goto 4, 3) := dk_167 0 4 (dk_at dksX7_door_0 17 rfl rfl)
theorem dX7_door_20 : decode cX7_door 20 = .ok (.iconst 0, 1) := dk_3 (dk_at dksX7_door_0 20 rfl rfl)
theorem dX7_door_21 : decode cX7_door 21 = .ok (.iconst 4, 1) := dk_7 (dk_at dksX7_door_0 21 rfl rfl)
theorem dX7_door_22 : decode cX7_door 22 = .ok (.invokevirtual 70, 3) := dk_182 0 70 (dk_at dksX7_door_1 0 rfl rfl)
theorem dX7_door_25 : decode cX7_door 25 = .ok (.aload_n 0, 1) := dk_42 (dk_at dksX7_door_1 3 rfl rfl)
theorem dX7_door_26 : decode cX7_door 26 = .ok (.invokevirtual 20, 3) := dk_182 0 20 (dk_at dksX7_door_1 4 rfl rfl)
theorem dX7_door_29 : decode cX7_door 29 = .ok (.aload_n 0, 1) := dk_42 (dk_at dksX7_door_1 7 rfl rfl)
theorem dX7_door_30 : decode cX7_door 30 = .ok (.aload_n 0, 1) := dk_42 (dk_at dksX7_door_1 8 rfl rfl)
theorem dX7_door_31 : decode cX7_door 31 = .ok (.getfield 14, 3) := dk_180 0 14 (dk_at dksX7_door_1 9 rfl rfl)
theorem dX7_door_34 : decode cX7_door 34 = .ok (.invokevirtual 132, 3) := dk_182 0 132 (dk_at dksX7_door_1 12 rfl rfl)
theorem dX7_door_37 : decode cX7_door 37 = .ok (.istore_n 1, 1) := dk_60 (dk_at dksX7_door_1 15 rfl rfl)
theorem dX7_door_38 : decode cX7_door 38 = .ok (.aload_n 0, 1) := dk_42 (dk_at dksX7_door_1 16 rfl rfl)
theorem dX7_door_39 : decode cX7_door 39 = .ok (.aload_n 0, 1) := dk_42 (dk_at dksX7_door_1 17 rfl rfl)
theorem dX7_door_40 : decode cX7_door 40 = .ok (.getfield 14, 3) := dk_180 0 14 (dk_at dksX7_door_1 18 rfl rfl)
theorem dX7_door_43 : decode cX7_door 43 = .ok (.getfield 142, 3) := dk_180 0 142 (dk_at dksX7_door_1 21 rfl rfl)
theorem dX7_door_46 : decode cX7_door 46 = .ok (.iload_n 1, 1) := dk_27 (dk_at dksX7_door_2 0 rfl rfl)
theorem dX7_door_47 : decode cX7_door 47 = .ok (.baload, 1) := dk_51 (dk_at dksX7_door_2 1 rfl rfl)
theorem dX7_door_48 : decode cX7_door 48 = .ok (.ifCond .ne 7, 3) := dk_154 0 7 (dk_at dksX7_door_2 2 rfl rfl)
theorem dX7_door_51 : decode cX7_door 51 = .ok (.iconst 1, 1) := dk_4 (dk_at dksX7_door_2 5 rfl rfl)
theorem dX7_door_52 : decode cX7_door 52 = .ok (.goto 4, 3) := dk_167 0 4 (dk_at dksX7_door_2 6 rfl rfl)
theorem dX7_door_55 : decode cX7_door 55 = .ok (.iconst 0, 1) := dk_3 (dk_at dksX7_door_2 9 rfl rfl)
theorem dX7_door_56 : decode cX7_door 56 = .ok (.iconst 3, 1) := dk_6 (dk_at dksX7_door_2 10 rfl rfl)
theorem dX7_door_57 : decode cX7_door 57 = .ok (.invokevirtual 70, 3) := dk_182 0 70 (dk_at dksX7_door_2 11 rfl rfl)
theorem dX7_door_60 : decode cX7_door 60 = .ok (.aload_n 0, 1) := dk_42 (dk_at dksX7_door_2 14 rfl rfl)
theorem dX7_door_61 : decode cX7_door 61 = .ok (.getfield 14, 3) := dk_180 0 14 (dk_at dksX7_door_2 15 rfl rfl)
theorem dX7_door_64 : decode cX7_door 64 = .ok (.getfield 142, 3) := dk_180 0 142 (dk_at dksX7_door_2 18 rfl rfl)
theorem dX7_door_67 : decode cX7_door 67 = .ok (.iload_n 1, 1) := dk_27 (dk_at dksX7_door_2 21 rfl rfl)
theorem dX7_door_68 : decode cX7_door 68 = .ok (.iconst 1, 1) := dk_4 (dk_at dksX7_door_2 22 rfl rfl)
theorem dX7_door_69 : decode cX7_door 69 = .ok (.bastore, 1) := dk_84 (dk_at dksX7_door_2 23 rfl rfl)
theorem dX7_door_70 : decode cX7_door 70 = .ok (.aload_n 0, 1) := dk_42 (dk_at dksX7_door_3 0 rfl rfl)
theorem dX7_door_71 : decode cX7_door 71 = .ok (.getfield 14, 3) := dk_180 0 14 (dk_at dksX7_door_3 1 rfl rfl)
theorem dX7_door_74 : decode cX7_door 74 = .ok (.getfield 139, 3) := dk_180 0 139 (dk_at dksX7_door_3 4 rfl rfl)
theorem dX7_door_77 : decode cX7_door 77 = .ok (.iload_n 1, 1) := dk_27 (dk_at dksX7_door_3 7 rfl rfl)
theorem dX7_door_78 : decode cX7_door 78 = .ok (.invokestatic 144, 3) := dk_184 0 144 (dk_at dksX7_door_3 8 rfl rfl)
theorem dX7_door_81 : decode cX7_door 81 = .ok (.invokevirtual 125, 3) := dk_182 0 125 (dk_at dksX7_door_3 11 rfl rfl)
theorem dX7_door_84 : decode cX7_door 84 = .ok (.pop, 1) := dk_87 (dk_at dksX7_door_3 14 rfl rfl)
theorem dX7_door_85 : decode cX7_door 85 = .ok (.aload_n 0, 1) := dk_42 (dk_at dksX7_door_3 15 rfl rfl)
theorem dX7_door_86 : decode cX7_door 86 = .ok (.invokevirtual 20, 3) := dk_182 0 20 (dk_at dksX7_door_3 16 rfl rfl)
theorem dX7_door_89 : decode cX7_door 89 = .ok (.return_, 1) := dk_177 (dk_at dksX7_door_3 19 rfl rfl)
abbrev cX7_way : ByteArray := prog_5_method_11_code
def yX7_way : MethodName := ⟨RX7, "way", "()V"⟩
def dkwX7_way_9 : List UInt8 := [177]
abbrev dktX7_way_9 : List UInt8 := dkwX7_way_9 ++ []
def dkwX7_way_8 : List UInt8 := [182, 0, 20, 42, 182, 0, 155, 54, 4, 167, 255, 150, 42, 180, 0, 14, 180, 0, 103, 45, 182, 0, 125, 87]
abbrev dktX7_way_8 : List UInt8 := dkwX7_way_8 ++ dktX7_way_9
def dkwX7_way_7 : List UInt8 := [167, 0, 4, 3, 8, 182, 0, 70, 45, 21, 4, 21, 7, 182, 0, 170, 132, 6, 1, 167, 255, 207, 42]
abbrev dktX7_way_7 : List UInt8 := dkwX7_way_7 ++ dktX7_way_8
def dkwX7_way_6 : List UInt8 := [180, 0, 14, 45, 182, 0, 164, 21, 4, 182, 0, 167, 54, 7, 42, 21, 7, 2, 159, 0, 7, 4]
abbrev dktX7_way_6 : List UInt8 := dkwX7_way_6 ++ dktX7_way_7
def dkwX7_way_5 : List UInt8 := [163, 0, 7, 4, 167, 0, 4, 3, 7, 182, 0, 70, 3, 54, 6, 21, 6, 21, 5, 162, 0, 48, 42]
abbrev dktX7_way_5 : List UInt8 := dkwX7_way_5 ++ dktX7_way_6
def dkwX7_way_4 : List UInt8 := [182, 0, 20, 42, 4, 16, 11, 182, 0, 158, 54, 5, 42, 45, 180, 0, 161, 21, 5, 96, 16, 40]
abbrev dktX7_way_4 : List UInt8 := dkwX7_way_4 ++ dktX7_way_5
def dkwX7_way_3 : List UInt8 := [187, 0, 150, 89, 43, 28, 183, 0, 152, 78, 42, 182, 0, 155, 54, 4, 21, 4, 2, 159, 0, 106, 42]
abbrev dktX7_way_3 : List UInt8 := dkwX7_way_3 ++ dktX7_way_4
def dkwX7_way_2 : List UInt8 := [180, 0, 14, 180, 0, 136, 28, 51, 154, 0, 7, 4, 167, 0, 4, 3, 8, 182, 0, 70, 42, 182, 0, 20]
abbrev dktX7_way_2 : List UInt8 := dkwX7_way_2 ++ dktX7_way_3
def dkwX7_way_1 : List UInt8 := [182, 0, 70, 42, 182, 0, 20, 42, 182, 0, 116, 76, 42, 42, 180, 0, 14, 182, 0, 132, 61, 42, 42]
abbrev dktX7_way_1 : List UInt8 := dkwX7_way_1 ++ dktX7_way_2
def dkwX7_way_0 : List UInt8 := [42, 42, 180, 0, 14, 180, 0, 103, 182, 0, 110, 16, 6, 162, 0, 7, 4, 167, 0, 4, 3, 7]
abbrev dktX7_way_0 : List UInt8 := dkwX7_way_0 ++ dktX7_way_1
theorem dksX7_way_0 : cX7_way.data.toList.drop 0 = dktX7_way_0 := by decide +kernel
theorem dksX7_way_1 : cX7_way.data.toList.drop 22 = dktX7_way_1 := dk_seg dksX7_way_0 22 rfl rfl
theorem dksX7_way_2 : cX7_way.data.toList.drop 45 = dktX7_way_2 := dk_seg dksX7_way_1 23 rfl rfl
theorem dksX7_way_3 : cX7_way.data.toList.drop 69 = dktX7_way_3 := dk_seg dksX7_way_2 24 rfl rfl
theorem dksX7_way_4 : cX7_way.data.toList.drop 92 = dktX7_way_4 := dk_seg dksX7_way_3 23 rfl rfl
theorem dksX7_way_5 : cX7_way.data.toList.drop 114 = dktX7_way_5 := dk_seg dksX7_way_4 22 rfl rfl
theorem dksX7_way_6 : cX7_way.data.toList.drop 137 = dktX7_way_6 := dk_seg dksX7_way_5 23 rfl rfl
theorem dksX7_way_7 : cX7_way.data.toList.drop 159 = dktX7_way_7 := dk_seg dksX7_way_6 22 rfl rfl
theorem dksX7_way_8 : cX7_way.data.toList.drop 182 = dktX7_way_8 := dk_seg dksX7_way_7 23 rfl rfl
theorem dksX7_way_9 : cX7_way.data.toList.drop 206 = dktX7_way_9 := dk_seg dksX7_way_8 24 rfl rfl
theorem dX7_way_0 : decode cX7_way 0 = .ok (.aload_n 0, 1) := dk_42 (dk_at dksX7_way_0 0 rfl rfl)
theorem dX7_way_1 : decode cX7_way 1 = .ok (.aload_n 0, 1) := dk_42 (dk_at dksX7_way_0 1 rfl rfl)
theorem dX7_way_2 : decode cX7_way 2 = .ok (.getfield 14, 3) := dk_180 0 14 (dk_at dksX7_way_0 2 rfl rfl)
theorem dX7_way_5 : decode cX7_way 5 = .ok (.getfield 103, 3) := dk_180 0 103 (dk_at dksX7_way_0 5 rfl rfl)
theorem dX7_way_8 : decode cX7_way 8 = .ok (.invokevirtual 110, 3) := dk_182 0 110 (dk_at dksX7_way_0 8 rfl rfl)
theorem dX7_way_11 : decode cX7_way 11 = .ok (.bipush 6, 2) := dk_16 6 (dk_at dksX7_way_0 11 rfl rfl)
theorem dX7_way_13 : decode cX7_way 13 = .ok (.if_icmp .ge 7, 3) := dk_162 0 7 (dk_at dksX7_way_0 13 rfl rfl)
theorem dX7_way_16 : decode cX7_way 16 = .ok (.iconst 1, 1) := dk_4 (dk_at dksX7_way_0 16 rfl rfl)
theorem dX7_way_17 : decode cX7_way 17 = .ok (.goto 4, 3) := dk_167 0 4 (dk_at dksX7_way_0 17 rfl rfl)
theorem dX7_way_20 : decode cX7_way 20 = .ok (.iconst 0, 1) := dk_3 (dk_at dksX7_way_0 20 rfl rfl)
theorem dX7_way_21 : decode cX7_way 21 = .ok (.iconst 4, 1) := dk_7 (dk_at dksX7_way_0 21 rfl rfl)
theorem dX7_way_22 : decode cX7_way 22 = .ok (.invokevirtual 70, 3) := dk_182 0 70 (dk_at dksX7_way_1 0 rfl rfl)
theorem dX7_way_25 : decode cX7_way 25 = .ok (.aload_n 0, 1) := dk_42 (dk_at dksX7_way_1 3 rfl rfl)
theorem dX7_way_26 : decode cX7_way 26 = .ok (.invokevirtual 20, 3) := dk_182 0 20 (dk_at dksX7_way_1 4 rfl rfl)
theorem dX7_way_29 : decode cX7_way 29 = .ok (.aload_n 0, 1) := dk_42 (dk_at dksX7_way_1 7 rfl rfl)
theorem dX7_way_30 : decode cX7_way 30 = .ok (.invokevirtual 116, 3) := dk_182 0 116 (dk_at dksX7_way_1 8 rfl rfl)
theorem dX7_way_33 : decode cX7_way 33 = .ok (.astore_n 1, 1) := dk_76 (dk_at dksX7_way_1 11 rfl rfl)
theorem dX7_way_34 : decode cX7_way 34 = .ok (.aload_n 0, 1) := dk_42 (dk_at dksX7_way_1 12 rfl rfl)
theorem dX7_way_35 : decode cX7_way 35 = .ok (.aload_n 0, 1) := dk_42 (dk_at dksX7_way_1 13 rfl rfl)
theorem dX7_way_36 : decode cX7_way 36 = .ok (.getfield 14, 3) := dk_180 0 14 (dk_at dksX7_way_1 14 rfl rfl)
theorem dX7_way_39 : decode cX7_way 39 = .ok (.invokevirtual 132, 3) := dk_182 0 132 (dk_at dksX7_way_1 17 rfl rfl)
theorem dX7_way_42 : decode cX7_way 42 = .ok (.istore_n 2, 1) := dk_61 (dk_at dksX7_way_1 20 rfl rfl)
theorem dX7_way_43 : decode cX7_way 43 = .ok (.aload_n 0, 1) := dk_42 (dk_at dksX7_way_1 21 rfl rfl)
theorem dX7_way_44 : decode cX7_way 44 = .ok (.aload_n 0, 1) := dk_42 (dk_at dksX7_way_1 22 rfl rfl)
theorem dX7_way_45 : decode cX7_way 45 = .ok (.getfield 14, 3) := dk_180 0 14 (dk_at dksX7_way_2 0 rfl rfl)
theorem dX7_way_48 : decode cX7_way 48 = .ok (.getfield 136, 3) := dk_180 0 136 (dk_at dksX7_way_2 3 rfl rfl)
theorem dX7_way_51 : decode cX7_way 51 = .ok (.iload_n 2, 1) := dk_28 (dk_at dksX7_way_2 6 rfl rfl)
theorem dX7_way_52 : decode cX7_way 52 = .ok (.baload, 1) := dk_51 (dk_at dksX7_way_2 7 rfl rfl)
theorem dX7_way_53 : decode cX7_way 53 = .ok (.ifCond .ne 7, 3) := dk_154 0 7 (dk_at dksX7_way_2 8 rfl rfl)
theorem dX7_way_56 : decode cX7_way 56 = .ok (.iconst 1, 1) := dk_4 (dk_at dksX7_way_2 11 rfl rfl)
theorem dX7_way_57 : decode cX7_way 57 = .ok (.goto 4, 3) := dk_167 0 4 (dk_at dksX7_way_2 12 rfl rfl)
theorem dX7_way_60 : decode cX7_way 60 = .ok (.iconst 0, 1) := dk_3 (dk_at dksX7_way_2 15 rfl rfl)
theorem dX7_way_61 : decode cX7_way 61 = .ok (.iconst 5, 1) := dk_8 (dk_at dksX7_way_2 16 rfl rfl)
theorem dX7_way_62 : decode cX7_way 62 = .ok (.invokevirtual 70, 3) := dk_182 0 70 (dk_at dksX7_way_2 17 rfl rfl)
theorem dX7_way_65 : decode cX7_way 65 = .ok (.aload_n 0, 1) := dk_42 (dk_at dksX7_way_2 20 rfl rfl)
theorem dX7_way_66 : decode cX7_way 66 = .ok (.invokevirtual 20, 3) := dk_182 0 20 (dk_at dksX7_way_2 21 rfl rfl)
theorem dX7_way_69 : decode cX7_way 69 = .ok (.new 150, 3) := dk_187 0 150 (dk_at dksX7_way_3 0 rfl rfl)
theorem dX7_way_72 : decode cX7_way 72 = .ok (.dup, 1) := dk_89 (dk_at dksX7_way_3 3 rfl rfl)
theorem dX7_way_73 : decode cX7_way 73 = .ok (.aload_n 1, 1) := dk_43 (dk_at dksX7_way_3 4 rfl rfl)
theorem dX7_way_74 : decode cX7_way 74 = .ok (.iload_n 2, 1) := dk_28 (dk_at dksX7_way_3 5 rfl rfl)
theorem dX7_way_75 : decode cX7_way 75 = .ok (.invokespecial 152, 3) := dk_183 0 152 (dk_at dksX7_way_3 6 rfl rfl)
theorem dX7_way_78 : decode cX7_way 78 = .ok (.astore_n 3, 1) := dk_78 (dk_at dksX7_way_3 9 rfl rfl)
theorem dX7_way_79 : decode cX7_way 79 = .ok (.aload_n 0, 1) := dk_42 (dk_at dksX7_way_3 10 rfl rfl)
theorem dX7_way_80 : decode cX7_way 80 = .ok (.invokevirtual 155, 3) := dk_182 0 155 (dk_at dksX7_way_3 11 rfl rfl)
theorem dX7_way_83 : decode cX7_way 83 = .ok (.istore 4, 2) := dk_54 4 (dk_at dksX7_way_3 14 rfl rfl)
theorem dX7_way_85 : decode cX7_way 85 = .ok (.iload 4, 2) := dk_21 4 (dk_at dksX7_way_3 16 rfl rfl)
theorem dX7_way_87 : decode cX7_way 87 = .ok (.iconst (-1), 1) := dk_2 (dk_at dksX7_way_3 18 rfl rfl)
theorem dX7_way_88 : decode cX7_way 88 = .ok (.if_icmp .eq 106, 3) := dk_159 0 106 (dk_at dksX7_way_3 19 rfl rfl)
theorem dX7_way_91 : decode cX7_way 91 = .ok (.aload_n 0, 1) := dk_42 (dk_at dksX7_way_3 22 rfl rfl)
theorem dX7_way_92 : decode cX7_way 92 = .ok (.invokevirtual 20, 3) := dk_182 0 20 (dk_at dksX7_way_4 0 rfl rfl)
theorem dX7_way_95 : decode cX7_way 95 = .ok (.aload_n 0, 1) := dk_42 (dk_at dksX7_way_4 3 rfl rfl)
theorem dX7_way_96 : decode cX7_way 96 = .ok (.iconst 1, 1) := dk_4 (dk_at dksX7_way_4 4 rfl rfl)
theorem dX7_way_97 : decode cX7_way 97 = .ok (.bipush 11, 2) := dk_16 11 (dk_at dksX7_way_4 5 rfl rfl)
theorem dX7_way_99 : decode cX7_way 99 = .ok (.invokevirtual 158, 3) := dk_182 0 158 (dk_at dksX7_way_4 7 rfl rfl)
theorem dX7_way_102 : decode cX7_way 102 = .ok (.istore 5, 2) := dk_54 5 (dk_at dksX7_way_4 10 rfl rfl)
theorem dX7_way_104 : decode cX7_way 104 = .ok (.aload_n 0, 1) := dk_42 (dk_at dksX7_way_4 12 rfl rfl)
theorem dX7_way_105 : decode cX7_way 105 = .ok (.aload_n 3, 1) := dk_45 (dk_at dksX7_way_4 13 rfl rfl)
theorem dX7_way_106 : decode cX7_way 106 = .ok (.getfield 161, 3) := dk_180 0 161 (dk_at dksX7_way_4 14 rfl rfl)
theorem dX7_way_109 : decode cX7_way 109 = .ok (.iload 5, 2) := dk_21 5 (dk_at dksX7_way_4 17 rfl rfl)
theorem dX7_way_111 : decode cX7_way 111 = .ok (.iadd, 1) := dk_96 (dk_at dksX7_way_4 19 rfl rfl)
theorem dX7_way_112 : decode cX7_way 112 = .ok (.bipush 40, 2) := dk_16 40 (dk_at dksX7_way_4 20 rfl rfl)
theorem dX7_way_114 : decode cX7_way 114 = .ok (.if_icmp .gt 7, 3) := dk_163 0 7 (dk_at dksX7_way_5 0 rfl rfl)
theorem dX7_way_117 : decode cX7_way 117 = .ok (.iconst 1, 1) := dk_4 (dk_at dksX7_way_5 3 rfl rfl)
theorem dX7_way_118 : decode cX7_way 118 = .ok (.goto 4, 3) := dk_167 0 4 (dk_at dksX7_way_5 4 rfl rfl)
theorem dX7_way_121 : decode cX7_way 121 = .ok (.iconst 0, 1) := dk_3 (dk_at dksX7_way_5 7 rfl rfl)
theorem dX7_way_122 : decode cX7_way 122 = .ok (.iconst 4, 1) := dk_7 (dk_at dksX7_way_5 8 rfl rfl)
theorem dX7_way_123 : decode cX7_way 123 = .ok (.invokevirtual 70, 3) := dk_182 0 70 (dk_at dksX7_way_5 9 rfl rfl)
theorem dX7_way_126 : decode cX7_way 126 = .ok (.iconst 0, 1) := dk_3 (dk_at dksX7_way_5 12 rfl rfl)
theorem dX7_way_127 : decode cX7_way 127 = .ok (.istore 6, 2) := dk_54 6 (dk_at dksX7_way_5 13 rfl rfl)
theorem dX7_way_129 : decode cX7_way 129 = .ok (.iload 6, 2) := dk_21 6 (dk_at dksX7_way_5 15 rfl rfl)
theorem dX7_way_131 : decode cX7_way 131 = .ok (.iload 5, 2) := dk_21 5 (dk_at dksX7_way_5 17 rfl rfl)
theorem dX7_way_133 : decode cX7_way 133 = .ok (.if_icmp .ge 48, 3) := dk_162 0 48 (dk_at dksX7_way_5 19 rfl rfl)
theorem dX7_way_136 : decode cX7_way 136 = .ok (.aload_n 0, 1) := dk_42 (dk_at dksX7_way_5 22 rfl rfl)
theorem dX7_way_137 : decode cX7_way 137 = .ok (.getfield 14, 3) := dk_180 0 14 (dk_at dksX7_way_6 0 rfl rfl)
theorem dX7_way_140 : decode cX7_way 140 = .ok (.aload_n 3, 1) := dk_45 (dk_at dksX7_way_6 3 rfl rfl)
theorem dX7_way_141 : decode cX7_way 141 = .ok (.invokevirtual 164, 3) := dk_182 0 164 (dk_at dksX7_way_6 4 rfl rfl)
theorem dX7_way_144 : decode cX7_way 144 = .ok (.iload 4, 2) := dk_21 4 (dk_at dksX7_way_6 7 rfl rfl)
theorem dX7_way_146 : decode cX7_way 146 = .ok (.invokevirtual 167, 3) := dk_182 0 167 (dk_at dksX7_way_6 9 rfl rfl)
theorem dX7_way_149 : decode cX7_way 149 = .ok (.istore 7, 2) := dk_54 7 (dk_at dksX7_way_6 12 rfl rfl)
theorem dX7_way_151 : decode cX7_way 151 = .ok (.aload_n 0, 1) := dk_42 (dk_at dksX7_way_6 14 rfl rfl)
theorem dX7_way_152 : decode cX7_way 152 = .ok (.iload 7, 2) := dk_21 7 (dk_at dksX7_way_6 15 rfl rfl)
theorem dX7_way_154 : decode cX7_way 154 = .ok (.iconst (-1), 1) := dk_2 (dk_at dksX7_way_6 17 rfl rfl)
theorem dX7_way_155 : decode cX7_way 155 = .ok (.if_icmp .eq 7, 3) := dk_159 0 7 (dk_at dksX7_way_6 18 rfl rfl)
theorem dX7_way_158 : decode cX7_way 158 = .ok (.iconst 1, 1) := dk_4 (dk_at dksX7_way_6 21 rfl rfl)
theorem dX7_way_159 : decode cX7_way 159 = .ok (.goto 4, 3) := dk_167 0 4 (dk_at dksX7_way_7 0 rfl rfl)
theorem dX7_way_162 : decode cX7_way 162 = .ok (.iconst 0, 1) := dk_3 (dk_at dksX7_way_7 3 rfl rfl)
theorem dX7_way_163 : decode cX7_way 163 = .ok (.iconst 5, 1) := dk_8 (dk_at dksX7_way_7 4 rfl rfl)
theorem dX7_way_164 : decode cX7_way 164 = .ok (.invokevirtual 70, 3) := dk_182 0 70 (dk_at dksX7_way_7 5 rfl rfl)
theorem dX7_way_167 : decode cX7_way 167 = .ok (.aload_n 3, 1) := dk_45 (dk_at dksX7_way_7 8 rfl rfl)
theorem dX7_way_168 : decode cX7_way 168 = .ok (.iload 4, 2) := dk_21 4 (dk_at dksX7_way_7 9 rfl rfl)
theorem dX7_way_170 : decode cX7_way 170 = .ok (.iload 7, 2) := dk_21 7 (dk_at dksX7_way_7 11 rfl rfl)
theorem dX7_way_172 : decode cX7_way 172 = .ok (.invokevirtual 170, 3) := dk_182 0 170 (dk_at dksX7_way_7 13 rfl rfl)
theorem dX7_way_175 : decode cX7_way 175 = .ok (.iinc 6 1, 3) := dk_132 6 1 (dk_at dksX7_way_7 16 rfl rfl)
theorem dX7_way_178 : decode cX7_way 178 = .ok (.goto (-49), 3) := dk_167 255 207 (dk_at dksX7_way_7 19 rfl rfl)
theorem dX7_way_181 : decode cX7_way 181 = .ok (.aload_n 0, 1) := dk_42 (dk_at dksX7_way_7 22 rfl rfl)
theorem dX7_way_182 : decode cX7_way 182 = .ok (.invokevirtual 20, 3) := dk_182 0 20 (dk_at dksX7_way_8 0 rfl rfl)
theorem dX7_way_185 : decode cX7_way 185 = .ok (.aload_n 0, 1) := dk_42 (dk_at dksX7_way_8 3 rfl rfl)
theorem dX7_way_186 : decode cX7_way 186 = .ok (.invokevirtual 155, 3) := dk_182 0 155 (dk_at dksX7_way_8 4 rfl rfl)
theorem dX7_way_189 : decode cX7_way 189 = .ok (.istore 4, 2) := dk_54 4 (dk_at dksX7_way_8 7 rfl rfl)
theorem dX7_way_191 : decode cX7_way 191 = .ok (.goto (-106), 3) := dk_167 255 150 (dk_at dksX7_way_8 9 rfl rfl)
theorem dX7_way_194 : decode cX7_way 194 = .ok (.aload_n 0, 1) := dk_42 (dk_at dksX7_way_8 12 rfl rfl)
theorem dX7_way_195 : decode cX7_way 195 = .ok (.getfield 14, 3) := dk_180 0 14 (dk_at dksX7_way_8 13 rfl rfl)
theorem dX7_way_198 : decode cX7_way 198 = .ok (.getfield 103, 3) := dk_180 0 103 (dk_at dksX7_way_8 16 rfl rfl)
theorem dX7_way_201 : decode cX7_way 201 = .ok (.aload_n 3, 1) := dk_45 (dk_at dksX7_way_8 19 rfl rfl)
theorem dX7_way_202 : decode cX7_way 202 = .ok (.invokevirtual 125, 3) := dk_182 0 125 (dk_at dksX7_way_8 20 rfl rfl)
theorem dX7_way_205 : decode cX7_way 205 = .ok (.pop, 1) := dk_87 (dk_at dksX7_way_8 23 rfl rfl)
theorem dX7_way_206 : decode cX7_way 206 = .ok (.return_, 1) := dk_177 (dk_at dksX7_way_9 0 rfl rfl)
abbrev cX7_fade : ByteArray := prog_5_method_6_code
def yX7_fade : MethodName := ⟨RX7, "fade", "()V"⟩
def dkwX7_fade_1 : List UInt8 := [182, 0, 78, 181, 0, 89, 177]
abbrev dktX7_fade_1 : List UInt8 := dkwX7_fade_1 ++ []
def dkwX7_fade_0 : List UInt8 := [42, 42, 18, 88, 182, 0, 38, 4, 182, 0, 70, 42, 4, 182, 0, 74, 42, 180, 0, 14, 42, 4, 16, 9]
abbrev dktX7_fade_0 : List UInt8 := dkwX7_fade_0 ++ dktX7_fade_1
theorem dksX7_fade_0 : cX7_fade.data.toList.drop 0 = dktX7_fade_0 := by decide +kernel
theorem dksX7_fade_1 : cX7_fade.data.toList.drop 24 = dktX7_fade_1 := dk_seg dksX7_fade_0 24 rfl rfl
theorem dX7_fade_0 : decode cX7_fade 0 = .ok (.aload_n 0, 1) := dk_42 (dk_at dksX7_fade_0 0 rfl rfl)
theorem dX7_fade_1 : decode cX7_fade 1 = .ok (.aload_n 0, 1) := dk_42 (dk_at dksX7_fade_0 1 rfl rfl)
theorem dX7_fade_2 : decode cX7_fade 2 = .ok (.ldc 88, 2) := dk_18 88 (dk_at dksX7_fade_0 2 rfl rfl)
theorem dX7_fade_4 : decode cX7_fade 4 = .ok (.invokevirtual 38, 3) := dk_182 0 38 (dk_at dksX7_fade_0 4 rfl rfl)
theorem dX7_fade_7 : decode cX7_fade 7 = .ok (.iconst 1, 1) := dk_4 (dk_at dksX7_fade_0 7 rfl rfl)
theorem dX7_fade_8 : decode cX7_fade 8 = .ok (.invokevirtual 70, 3) := dk_182 0 70 (dk_at dksX7_fade_0 8 rfl rfl)
theorem dX7_fade_11 : decode cX7_fade 11 = .ok (.aload_n 0, 1) := dk_42 (dk_at dksX7_fade_0 11 rfl rfl)
theorem dX7_fade_12 : decode cX7_fade 12 = .ok (.iconst 1, 1) := dk_4 (dk_at dksX7_fade_0 12 rfl rfl)
theorem dX7_fade_13 : decode cX7_fade 13 = .ok (.invokevirtual 74, 3) := dk_182 0 74 (dk_at dksX7_fade_0 13 rfl rfl)
theorem dX7_fade_16 : decode cX7_fade 16 = .ok (.aload_n 0, 1) := dk_42 (dk_at dksX7_fade_0 16 rfl rfl)
theorem dX7_fade_17 : decode cX7_fade 17 = .ok (.getfield 14, 3) := dk_180 0 14 (dk_at dksX7_fade_0 17 rfl rfl)
theorem dX7_fade_20 : decode cX7_fade 20 = .ok (.aload_n 0, 1) := dk_42 (dk_at dksX7_fade_0 20 rfl rfl)
theorem dX7_fade_21 : decode cX7_fade 21 = .ok (.iconst 1, 1) := dk_4 (dk_at dksX7_fade_0 21 rfl rfl)
theorem dX7_fade_22 : decode cX7_fade 22 = .ok (.bipush 9, 2) := dk_16 9 (dk_at dksX7_fade_0 22 rfl rfl)
theorem dX7_fade_24 : decode cX7_fade 24 = .ok (.invokevirtual 78, 3) := dk_182 0 78 (dk_at dksX7_fade_1 0 rfl rfl)
theorem dX7_fade_27 : decode cX7_fade 27 = .ok (.putfield 89, 3) := dk_181 0 89 (dk_at dksX7_fade_1 3 rfl rfl)
theorem dX7_fade_30 : decode cX7_fade 30 = .ok (.return_, 1) := dk_177 (dk_at dksX7_fade_1 6 rfl rfl)
theorem q113 : (Jvm.Cond.initialized "RugReader$HouseReader") ∈ lw_all := lw_g (lw_at lw_m1 11 rfl) rfl
theorem q184 : (Jvm.Cond.fieldLinkNest "RugReader$HouseReader" (82 : Nat) "RugReader$House" "wide" "I" "RugReader") ∈ lw_tbl := lw_at lw_m1 82 rfl
theorem q188 : (Jvm.Cond.fieldLinkNest "RugReader$HouseReader" (85 : Nat) "RugReader$House" "high" "I" "RugReader") ∈ lw_tbl := lw_at lw_m1 86 rfl
theorem q192 : (Jvm.Cond.fieldLinkNest "RugReader$HouseReader" (89 : Nat) "RugReader$House" "fade" "I" "RugReader") ∈ lw_tbl := lw_at lw_m1 90 rfl
theorem q195 : (Jvm.Cond.fieldLinkNest "RugReader$HouseReader" (33 : Nat) "RugReader$House" "lines" "I" "RugReader") ∈ lw_tbl := lw_at lw_m1 93 rfl
theorem q197 : (Jvm.Cond.fieldLinkNest "RugReader$HouseReader" (129 : Nat) "RugReader$House" "walls" "I" "RugReader") ∈ lw_tbl := lw_at lw_m1 95 rfl
theorem q202 : (Jvm.Cond.fieldLinkNest "RugReader$HouseReader" (95 : Nat) "RugReader$House" "people" "Ljava/util/ArrayList;" "RugReader") ∈ lw_tbl := lw_at lw_m1 100 rfl
theorem q209 : (Jvm.Cond.fieldLinkNest "RugReader$HouseReader" (103 : Nat) "RugReader$House" "ways" "Ljava/util/ArrayList;" "RugReader") ∈ lw_tbl := lw_at lw_m1 107 rfl
theorem q212 : (Jvm.Cond.fieldLinkNest "RugReader$HouseReader" (139 : Nat) "RugReader$House" "doors" "Ljava/util/ArrayList;" "RugReader") ∈ lw_tbl := lw_at lw_m1 110 rfl
theorem q216 : (Jvm.Cond.fieldLinkNest "RugReader$HouseReader" (136 : Nat) "RugReader$House" "wall" "[Z" "RugReader") ∈ lw_tbl := lw_at lw_m1 114 rfl
theorem q219 : (Jvm.Cond.fieldLinkNest "RugReader$HouseReader" (142 : Nat) "RugReader$House" "door" "[Z" "RugReader") ∈ lw_tbl := lw_at lw_m1 117 rfl
theorem q443 : (Jvm.Cond.instantiable "RugReader$HouseReader" (11 : Nat)) ∈ lw_all := lw_g (lw_at lw_m2 101 rfl) rfl
theorem q445 : (Jvm.Cond.instanceMethod ({ cls := "RugReader$HouseReader", name := "<init>", desc := "([BI)V" } : Jvm.MethodName)) ∈ lw_all := lw_g (lw_at lw_m2 103 rfl) rfl
theorem q446 : (Jvm.Cond.code ({ cls := "RugReader$HouseReader", name := "<init>", desc := "([BI)V" } : Jvm.MethodName) prog_5_method_1_code (3 : Nat) (Option.none : Option Jvm.ClassFile.FieldType)) ∈ lw_all := lw_g (lw_at lw_m2 104 rfl) rfl
theorem q447 : (Jvm.Cond.methodLink "RugReader$HouseReader" (3 : Nat) ({ cls := "RugReader$Reader", name := "<init>", desc := "([BII)V" } : Jvm.MethodName)) ∈ lw_all := lw_g (lw_at lw_m2 105 rfl) rfl
theorem q452 : (Jvm.Cond.classLink "RugReader$HouseReader" (9 : Nat) "RugReader$House") ∈ lw_all := lw_g (lw_at lw_m2 110 rfl) rfl
theorem q453 : (Jvm.Cond.methodLinkNest "RugReader$HouseReader" (11 : Nat) ({ cls := "RugReader$House", name := "<init>", desc := "()V" } : Jvm.MethodName) "RugReader") ∈ lw_tbl := lw_at lw_m2 111 rfl
theorem q454 : (Jvm.Cond.fieldLink "RugReader$HouseReader" (14 : Nat) "RugReader$HouseReader" "h" "LRugReader$House;") ∈ lw_all := lw_g (lw_at lw_m2 112 rfl) rfl
theorem q455 : (Jvm.Cond.fieldLink "RugReader$HouseReader" (63 : Nat) "RugReader$HouseReader" "onces" "I") ∈ lw_all := lw_g (lw_at lw_m2 113 rfl) rfl
theorem q460 : (Jvm.Cond.fieldLink "RugReader$HouseReader" (23 : Nat) "RugReader$HouseReader" "kind" "I") ∈ lw_all := lw_g (lw_at lw_m2 118 rfl) rfl
theorem q461 : (Jvm.Cond.sameField "RugReader$HouseReader" "RugReader$Reader" "kind" "I") ∈ lw_all := lw_g (lw_at lw_m2 119 rfl) rfl
theorem q473 : (Jvm.Cond.fieldLink "RugReader$HouseReader" (106 : Nat) "RugReader$HouseReader" "word" "Ljava/lang/String;") ∈ lw_all := lw_g (lw_at lw_m2 131 rfl) rfl
theorem q474 : (Jvm.Cond.sameField "RugReader$HouseReader" "RugReader$Reader" "word" "Ljava/lang/String;") ∈ lw_all := lw_g (lw_at lw_m2 132 rfl) rfl
theorem q475 : (Jvm.Cond.laysFinal "RugReader$HouseReader" "RugReader$HouseReader" "h" "LRugReader$House;") ∈ lw_all := lw_g (lw_at lw_m2 133 rfl) rfl
theorem q476 : (Jvm.Cond.soleField "RugReader$HouseReader" "h") ∈ lw_all := lw_g (lw_at lw_m2 134 rfl) rfl
theorem q477 : (Jvm.Cond.lays "RugReader$HouseReader" "RugReader$HouseReader" "onces" "I") ∈ lw_all := lw_g (lw_at lw_m2 135 rfl) rfl
theorem q478 : (Jvm.Cond.soleField "RugReader$HouseReader" "onces") ∈ lw_all := lw_g (lw_at lw_m2 136 rfl) rfl
theorem q479 : (Jvm.Cond.laysFinal "RugReader$HouseReader" "RugReader$Reader" "tape" "[B") ∈ lw_all := lw_g (lw_at lw_m2 137 rfl) rfl
theorem q481 : (Jvm.Cond.laysFinal "RugReader$HouseReader" "RugReader$Reader" "size" "I") ∈ lw_all := lw_g (lw_at lw_m2 139 rfl) rfl
theorem q483 : (Jvm.Cond.laysFinal "RugReader$HouseReader" "RugReader$Reader" "limit" "I") ∈ lw_all := lw_g (lw_at lw_m2 141 rfl) rfl
theorem q485 : (Jvm.Cond.lays "RugReader$HouseReader" "RugReader$Reader" "to" "I") ∈ lw_all := lw_g (lw_at lw_m2 143 rfl) rfl
theorem q487 : (Jvm.Cond.lays "RugReader$HouseReader" "RugReader$Reader" "kind" "I") ∈ lw_all := lw_g (lw_at lw_m2 145 rfl) rfl
theorem q489 : (Jvm.Cond.lays "RugReader$HouseReader" "RugReader$Reader" "from" "I") ∈ lw_all := lw_g (lw_at lw_m2 147 rfl) rfl
theorem q491 : (Jvm.Cond.lays "RugReader$HouseReader" "RugReader$Reader" "number" "I") ∈ lw_all := lw_g (lw_at lw_m2 149 rfl) rfl
theorem q493 : (Jvm.Cond.lays "RugReader$HouseReader" "RugReader$Reader" "sign" "I") ∈ lw_all := lw_g (lw_at lw_m2 151 rfl) rfl
theorem q495 : (Jvm.Cond.lays "RugReader$HouseReader" "RugReader$Reader" "word" "Ljava/lang/String;") ∈ lw_all := lw_g (lw_at lw_m2 153 rfl) rfl
theorem q497 : (Jvm.Cond.superclass "RugReader$HouseReader" "RugReader$Reader") ∈ lw_all := lw_g (lw_at lw_m2 155 rfl) rfl
theorem q499 : (Jvm.Cond.instanceMethod ({ cls := "RugReader$HouseReader", name := "read", desc := "()LRugReader$House;" } : Jvm.MethodName)) ∈ lw_all := lw_g (lw_at lw_m2 157 rfl) rfl
theorem q500 : (Jvm.Cond.selects "RugReader$HouseReader" ({ cls := "RugReader$HouseReader", name := "read", desc := "()LRugReader$House;" } : Jvm.MethodName) ({ cls := "RugReader$HouseReader", name := "read", desc := "()LRugReader$House;" } : Jvm.MethodName)) ∈ lw_all := lw_g (lw_at lw_m2 158 rfl) rfl
theorem q501 : (Jvm.Cond.code ({ cls := "RugReader$HouseReader", name := "read", desc := "()LRugReader$House;" } : Jvm.MethodName) prog_5_method_2_code (1 : Nat) (Option.some (Jvm.ClassFile.FieldType.object "RugReader$House"))) ∈ lw_all := lw_g (lw_at lw_m2 159 rfl) rfl
theorem q502 : (Jvm.Cond.methodLink "RugReader$HouseReader" (20 : Nat) ({ cls := "RugReader$HouseReader", name := "go", desc := "()V" } : Jvm.MethodName)) ∈ lw_all := lw_g (lw_at lw_m2 160 rfl) rfl
theorem q503 : (Jvm.Cond.sameMethod "RugReader$HouseReader" "RugReader$Reader" "go" "()V") ∈ lw_all := lw_g (lw_at lw_m2 161 rfl) rfl
theorem q505 : (Jvm.Cond.selects "RugReader$HouseReader" ({ cls := "RugReader$HouseReader", name := "go", desc := "()V" } : Jvm.MethodName) ({ cls := "RugReader$Reader", name := "go", desc := "()V" } : Jvm.MethodName)) ∈ lw_all := lw_g (lw_at lw_m2 163 rfl) rfl
theorem q705 : (Jvm.Cond.methodLink "RugReader$HouseReader" (27 : Nat) ({ cls := "RugReader$HouseReader", name := "line", desc := "()V" } : Jvm.MethodName)) ∈ lw_all := lw_g (lw_at lw_m3 123 rfl) rfl
theorem q706 : (Jvm.Cond.privateMethod ({ cls := "RugReader$HouseReader", name := "line", desc := "()V" } : Jvm.MethodName)) ∈ lw_tbl := lw_at lw_m3 124 rfl
theorem q707 : (Jvm.Cond.instanceMethod ({ cls := "RugReader$HouseReader", name := "line", desc := "()V" } : Jvm.MethodName)) ∈ lw_all := lw_g (lw_at lw_m3 125 rfl) rfl
theorem q708 : (Jvm.Cond.code ({ cls := "RugReader$HouseReader", name := "line", desc := "()V" } : Jvm.MethodName) prog_5_method_3_code (1 : Nat) (Option.none : Option Jvm.ClassFile.FieldType)) ∈ lw_all := lw_g (lw_at lw_m3 126 rfl) rfl
theorem q709 : (Jvm.Cond.stringRef "RugReader$HouseReader" (36 : Nat) "rug") ∈ lw_tbl := lw_at lw_m3 127 rfl
theorem q710 : (Jvm.Cond.methodLink "RugReader$HouseReader" (38 : Nat) ({ cls := "RugReader$HouseReader", name := "is", desc := "(Ljava/lang/String;)Z" } : Jvm.MethodName)) ∈ lw_all := lw_g (lw_at lw_m3 128 rfl) rfl
theorem q711 : (Jvm.Cond.sameMethod "RugReader$HouseReader" "RugReader$Reader" "is" "(Ljava/lang/String;)Z") ∈ lw_all := lw_g (lw_at lw_m3 129 rfl) rfl
theorem q713 : (Jvm.Cond.selects "RugReader$HouseReader" ({ cls := "RugReader$HouseReader", name := "is", desc := "(Ljava/lang/String;)Z" } : Jvm.MethodName) ({ cls := "RugReader$Reader", name := "is", desc := "(Ljava/lang/String;)Z" } : Jvm.MethodName)) ∈ lw_all := lw_g (lw_at lw_m3 131 rfl) rfl
theorem q724 : (Jvm.Cond.methodLink "RugReader$HouseReader" (42 : Nat) ({ cls := "RugReader$HouseReader", name := "rug", desc := "()V" } : Jvm.MethodName)) ∈ lw_all := lw_g (lw_at lw_m3 142 rfl) rfl
theorem q725 : (Jvm.Cond.privateMethod ({ cls := "RugReader$HouseReader", name := "rug", desc := "()V" } : Jvm.MethodName)) ∈ lw_tbl := lw_at lw_m3 143 rfl
theorem q726 : (Jvm.Cond.instanceMethod ({ cls := "RugReader$HouseReader", name := "rug", desc := "()V" } : Jvm.MethodName)) ∈ lw_all := lw_g (lw_at lw_m3 144 rfl) rfl
theorem q727 : (Jvm.Cond.code ({ cls := "RugReader$HouseReader", name := "rug", desc := "()V" } : Jvm.MethodName) prog_5_method_5_code (1 : Nat) (Option.none : Option Jvm.ClassFile.FieldType)) ∈ lw_all := lw_g (lw_at lw_m3 145 rfl) rfl
theorem q728 : (Jvm.Cond.methodLink "RugReader$HouseReader" (74 : Nat) ({ cls := "RugReader$HouseReader", name := "once", desc := "(I)V" } : Jvm.MethodName)) ∈ lw_all := lw_g (lw_at lw_m3 146 rfl) rfl
theorem q729 : (Jvm.Cond.privateMethod ({ cls := "RugReader$HouseReader", name := "once", desc := "(I)V" } : Jvm.MethodName)) ∈ lw_tbl := lw_at lw_m3 147 rfl
theorem q730 : (Jvm.Cond.instanceMethod ({ cls := "RugReader$HouseReader", name := "once", desc := "(I)V" } : Jvm.MethodName)) ∈ lw_all := lw_g (lw_at lw_m3 148 rfl) rfl
theorem q731 : (Jvm.Cond.code ({ cls := "RugReader$HouseReader", name := "once", desc := "(I)V" } : Jvm.MethodName) prog_5_method_4_code (2 : Nat) (Option.none : Option Jvm.ClassFile.FieldType)) ∈ lw_all := lw_g (lw_at lw_m3 149 rfl) rfl
theorem q732 : (Jvm.Cond.methodLinkNest "RugReader$HouseReader" (66 : Nat) ({ cls := "RugReader", name := "isOf", desc := "(II)Z" } : Jvm.MethodName) "RugReader") ∈ lw_tbl := lw_at lw_m3 150 rfl
theorem q735 : (Jvm.Cond.methodLink "RugReader$HouseReader" (70 : Nat) ({ cls := "RugReader$HouseReader", name := "need", desc := "(ZI)V" } : Jvm.MethodName)) ∈ lw_all := lw_g (lw_at lw_m3 153 rfl) rfl
theorem q736 : (Jvm.Cond.sameMethod "RugReader$HouseReader" "RugReader$Reader" "need" "(ZI)V") ∈ lw_all := lw_g (lw_at lw_m3 154 rfl) rfl
theorem q738 : (Jvm.Cond.selects "RugReader$HouseReader" ({ cls := "RugReader$HouseReader", name := "need", desc := "(ZI)V" } : Jvm.MethodName) ({ cls := "RugReader$Reader", name := "need", desc := "(ZI)V" } : Jvm.MethodName)) ∈ lw_all := lw_g (lw_at lw_m3 156 rfl) rfl
theorem q806 : (Jvm.Cond.methodLink "RugReader$HouseReader" (78 : Nat) ({ cls := "RugReader$HouseReader", name := "number", desc := "(II)I" } : Jvm.MethodName)) ∈ lw_all := lw_g (lw_at lw_m3 224 rfl) rfl
theorem q807 : (Jvm.Cond.sameMethod "RugReader$HouseReader" "RugReader$Reader" "number" "(II)I") ∈ lw_all := lw_g (lw_at lw_m3 225 rfl) rfl
theorem q809 : (Jvm.Cond.selects "RugReader$HouseReader" ({ cls := "RugReader$HouseReader", name := "number", desc := "(II)I" } : Jvm.MethodName) ({ cls := "RugReader$Reader", name := "number", desc := "(II)I" } : Jvm.MethodName)) ∈ lw_all := lw_g (lw_at lw_m3 227 rfl) rfl
theorem q815 : (Jvm.Cond.selects "RugReader$HouseReader" ({ cls := "RugReader$Reader", name := "hold", desc := "(II)I" } : Jvm.MethodName) ({ cls := "RugReader$Reader", name := "hold", desc := "(II)I" } : Jvm.MethodName)) ∈ lw_all := lw_g (lw_at lw_m3 233 rfl) rfl
theorem q824 : (Jvm.Cond.stringRef "RugReader$HouseReader" (44 : Nat) "person") ∈ lw_tbl := lw_at lw_m4 2 rfl
theorem q825 : (Jvm.Cond.methodLink "RugReader$HouseReader" (46 : Nat) ({ cls := "RugReader$HouseReader", name := "person", desc := "()V" } : Jvm.MethodName)) ∈ lw_all := lw_g (lw_at lw_m4 3 rfl) rfl
theorem q826 : (Jvm.Cond.privateMethod ({ cls := "RugReader$HouseReader", name := "person", desc := "()V" } : Jvm.MethodName)) ∈ lw_tbl := lw_at lw_m4 4 rfl
theorem q827 : (Jvm.Cond.instanceMethod ({ cls := "RugReader$HouseReader", name := "person", desc := "()V" } : Jvm.MethodName)) ∈ lw_all := lw_g (lw_at lw_m4 5 rfl) rfl
theorem q828 : (Jvm.Cond.code ({ cls := "RugReader$HouseReader", name := "person", desc := "()V" } : Jvm.MethodName) prog_5_method_8_code (4 : Nat) (Option.none : Option Jvm.ClassFile.FieldType)) ∈ lw_all := lw_g (lw_at lw_m4 6 rfl) rfl
theorem q829 : (Jvm.Cond.methodLink "RugReader$HouseReader" (110 : Nat) ({ cls := "java/util/ArrayList", name := "size", desc := "()I" } : Jvm.MethodName)) ∈ lw_all := lw_g (lw_at lw_m4 7 rfl) rfl
theorem q833 : (Jvm.Cond.methodLink "RugReader$HouseReader" (116 : Nat) ({ cls := "RugReader$HouseReader", name := "fresh", desc := "()Ljava/lang/String;" } : Jvm.MethodName)) ∈ lw_all := lw_g (lw_at lw_m4 11 rfl) rfl
theorem q834 : (Jvm.Cond.privateMethod ({ cls := "RugReader$HouseReader", name := "fresh", desc := "()Ljava/lang/String;" } : Jvm.MethodName)) ∈ lw_tbl := lw_at lw_m4 12 rfl
theorem q835 : (Jvm.Cond.instanceMethod ({ cls := "RugReader$HouseReader", name := "fresh", desc := "()Ljava/lang/String;" } : Jvm.MethodName)) ∈ lw_all := lw_g (lw_at lw_m4 13 rfl) rfl
theorem q836 : (Jvm.Cond.code ({ cls := "RugReader$HouseReader", name := "fresh", desc := "()Ljava/lang/String;" } : Jvm.MethodName) prog_5_method_7_code (2 : Nat) (Option.some (Jvm.ClassFile.FieldType.object "java/lang/String"))) ∈ lw_all := lw_g (lw_at lw_m4 14 rfl) rfl
theorem q837 : (Jvm.Cond.methodLink "RugReader$HouseReader" (91 : Nat) ({ cls := "RugReader$HouseReader", name := "isName", desc := "()Z" } : Jvm.MethodName)) ∈ lw_all := lw_g (lw_at lw_m4 15 rfl) rfl
theorem q838 : (Jvm.Cond.sameMethod "RugReader$HouseReader" "RugReader$Reader" "isName" "()Z") ∈ lw_all := lw_g (lw_at lw_m4 16 rfl) rfl
theorem q840 : (Jvm.Cond.selects "RugReader$HouseReader" ({ cls := "RugReader$HouseReader", name := "isName", desc := "()Z" } : Jvm.MethodName) ({ cls := "RugReader$Reader", name := "isName", desc := "()Z" } : Jvm.MethodName)) ∈ lw_all := lw_g (lw_at lw_m4 18 rfl) rfl
theorem q917 : (Jvm.Cond.methodLink "RugReader$HouseReader" (99 : Nat) ({ cls := "RugReader$HouseReader", name := "find", desc := "(Ljava/util/ArrayList;)I" } : Jvm.MethodName)) ∈ lw_all := lw_g (lw_at lw_m4 95 rfl) rfl
theorem q918 : (Jvm.Cond.sameMethod "RugReader$HouseReader" "RugReader$Reader" "find" "(Ljava/util/ArrayList;)I") ∈ lw_all := lw_g (lw_at lw_m4 96 rfl) rfl
theorem q920 : (Jvm.Cond.selects "RugReader$HouseReader" ({ cls := "RugReader$HouseReader", name := "find", desc := "(Ljava/util/ArrayList;)I" } : Jvm.MethodName) ({ cls := "RugReader$Reader", name := "find", desc := "(Ljava/util/ArrayList;)I" } : Jvm.MethodName)) ∈ lw_all := lw_g (lw_at lw_m4 98 rfl) rfl
theorem q937 : (Jvm.Cond.classLink "RugReader$HouseReader" (120 : Nat) "RugReader$Person") ∈ lw_all := lw_g (lw_at lw_m4 115 rfl) rfl
theorem q939 : (Jvm.Cond.methodLink "RugReader$HouseReader" (122 : Nat) ({ cls := "RugReader$Person", name := "<init>", desc := "(Ljava/lang/String;III)V" } : Jvm.MethodName)) ∈ lw_all := lw_g (lw_at lw_m4 117 rfl) rfl
theorem q969 : (Jvm.Cond.methodLink "RugReader$HouseReader" (125 : Nat) ({ cls := "java/util/ArrayList", name := "add", desc := "(Ljava/lang/Object;)Z" } : Jvm.MethodName)) ∈ lw_all := lw_g (lw_at lw_m4 147 rfl) rfl
theorem q995 : (Jvm.Cond.selects "RugReader$HouseReader" ({ cls := "java/lang/Object", name := "getClass", desc := "()Ljava/lang/Class;" } : Jvm.MethodName) ({ cls := "java/lang/Object", name := "getClass", desc := "()Ljava/lang/Class;" } : Jvm.MethodName)) ∈ lw_all := lw_g (lw_at lw_m4 173 rfl) rfl
theorem q1021 : (Jvm.Cond.stringRef "RugReader$HouseReader" (48 : Nat) "wall") ∈ lw_tbl := lw_at lw_m4 199 rfl
theorem q1022 : (Jvm.Cond.methodLink "RugReader$HouseReader" (50 : Nat) ({ cls := "RugReader$HouseReader", name := "wall", desc := "()V" } : Jvm.MethodName)) ∈ lw_all := lw_g (lw_at lw_m4 200 rfl) rfl
theorem q1023 : (Jvm.Cond.privateMethod ({ cls := "RugReader$HouseReader", name := "wall", desc := "()V" } : Jvm.MethodName)) ∈ lw_tbl := lw_at lw_m4 201 rfl
theorem q1024 : (Jvm.Cond.instanceMethod ({ cls := "RugReader$HouseReader", name := "wall", desc := "()V" } : Jvm.MethodName)) ∈ lw_all := lw_g (lw_at lw_m4 202 rfl) rfl
theorem q1025 : (Jvm.Cond.code ({ cls := "RugReader$HouseReader", name := "wall", desc := "()V" } : Jvm.MethodName) prog_5_method_9_code (2 : Nat) (Option.none : Option Jvm.ClassFile.FieldType)) ∈ lw_all := lw_g (lw_at lw_m4 203 rfl) rfl
theorem q1026 : (Jvm.Cond.methodLink "RugReader$HouseReader" (132 : Nat) ({ cls := "RugReader$HouseReader", name := "holdTuft", desc := "(LRugReader$House;)I" } : Jvm.MethodName)) ∈ lw_all := lw_g (lw_at lw_m4 204 rfl) rfl
theorem q1027 : (Jvm.Cond.sameMethod "RugReader$HouseReader" "RugReader$Reader" "holdTuft" "(LRugReader$House;)I") ∈ lw_all := lw_g (lw_at lw_m4 205 rfl) rfl
theorem q1029 : (Jvm.Cond.selects "RugReader$HouseReader" ({ cls := "RugReader$HouseReader", name := "holdTuft", desc := "(LRugReader$House;)I" } : Jvm.MethodName) ({ cls := "RugReader$Reader", name := "holdTuft", desc := "(LRugReader$House;)I" } : Jvm.MethodName)) ∈ lw_all := lw_g (lw_at lw_m4 207 rfl) rfl
theorem q1033 : (Jvm.Cond.stringRef "RugReader$HouseReader" (52 : Nat) "door") ∈ lw_tbl := lw_at lw_m4 211 rfl
theorem q1034 : (Jvm.Cond.methodLink "RugReader$HouseReader" (54 : Nat) ({ cls := "RugReader$HouseReader", name := "door", desc := "()V" } : Jvm.MethodName)) ∈ lw_all := lw_g (lw_at lw_m4 212 rfl) rfl
theorem q1035 : (Jvm.Cond.privateMethod ({ cls := "RugReader$HouseReader", name := "door", desc := "()V" } : Jvm.MethodName)) ∈ lw_tbl := lw_at lw_m4 213 rfl
theorem q1036 : (Jvm.Cond.instanceMethod ({ cls := "RugReader$HouseReader", name := "door", desc := "()V" } : Jvm.MethodName)) ∈ lw_all := lw_g (lw_at lw_m4 214 rfl) rfl
theorem q1037 : (Jvm.Cond.code ({ cls := "RugReader$HouseReader", name := "door", desc := "()V" } : Jvm.MethodName) prog_5_method_10_code (2 : Nat) (Option.none : Option Jvm.ClassFile.FieldType)) ∈ lw_all := lw_g (lw_at lw_m4 215 rfl) rfl
theorem q1038 : (Jvm.Cond.methodLink "RugReader$HouseReader" (144 : Nat) ({ cls := "java/lang/Integer", name := "valueOf", desc := "(I)Ljava/lang/Integer;" } : Jvm.MethodName)) ∈ lw_all := lw_g (lw_at lw_m4 216 rfl) rfl
theorem q1058 : (Jvm.Cond.stringRef "RugReader$HouseReader" (56 : Nat) "way") ∈ lw_tbl := lw_at lw_m4 236 rfl
theorem q1059 : (Jvm.Cond.methodLink "RugReader$HouseReader" (58 : Nat) ({ cls := "RugReader$HouseReader", name := "way", desc := "()V" } : Jvm.MethodName)) ∈ lw_all := lw_g (lw_at lw_m4 237 rfl) rfl
theorem q1060 : (Jvm.Cond.privateMethod ({ cls := "RugReader$HouseReader", name := "way", desc := "()V" } : Jvm.MethodName)) ∈ lw_tbl := lw_at lw_m4 238 rfl
theorem q1061 : (Jvm.Cond.instanceMethod ({ cls := "RugReader$HouseReader", name := "way", desc := "()V" } : Jvm.MethodName)) ∈ lw_all := lw_g (lw_at lw_m4 239 rfl) rfl
theorem q1062 : (Jvm.Cond.code ({ cls := "RugReader$HouseReader", name := "way", desc := "()V" } : Jvm.MethodName) prog_5_method_11_code (8 : Nat) (Option.none : Option Jvm.ClassFile.FieldType)) ∈ lw_all := lw_g (lw_at lw_m5 0 rfl) rfl
theorem q1063 : (Jvm.Cond.classLink "RugReader$HouseReader" (150 : Nat) "RugReader$Way") ∈ lw_all := lw_g (lw_at lw_m5 1 rfl) rfl
theorem q1065 : (Jvm.Cond.methodLink "RugReader$HouseReader" (152 : Nat) ({ cls := "RugReader$Way", name := "<init>", desc := "(Ljava/lang/String;I)V" } : Jvm.MethodName)) ∈ lw_all := lw_g (lw_at lw_m5 3 rfl) rfl
theorem q1076 : (Jvm.Cond.fieldLinkNest "RugReader$HouseReader" (161 : Nat) "RugReader$Way" "steps" "I" "RugReader") ∈ lw_tbl := lw_at lw_m5 14 rfl
theorem q1086 : (Jvm.Cond.methodLink "RugReader$HouseReader" (155 : Nat) ({ cls := "RugReader$HouseReader", name := "direction", desc := "()I" } : Jvm.MethodName)) ∈ lw_all := lw_g (lw_at lw_m5 24 rfl) rfl
theorem q1087 : (Jvm.Cond.sameMethod "RugReader$HouseReader" "RugReader$Reader" "direction" "()I") ∈ lw_all := lw_g (lw_at lw_m5 25 rfl) rfl
theorem q1089 : (Jvm.Cond.selects "RugReader$HouseReader" ({ cls := "RugReader$HouseReader", name := "direction", desc := "()I" } : Jvm.MethodName) ({ cls := "RugReader$Reader", name := "direction", desc := "()I" } : Jvm.MethodName)) ∈ lw_all := lw_g (lw_at lw_m5 27 rfl) rfl
theorem q1097 : (Jvm.Cond.methodLink "RugReader$HouseReader" (158 : Nat) ({ cls := "RugReader$HouseReader", name := "hold", desc := "(II)I" } : Jvm.MethodName)) ∈ lw_all := lw_g (lw_at lw_m5 35 rfl) rfl
theorem q1098 : (Jvm.Cond.sameMethod "RugReader$HouseReader" "RugReader$Reader" "hold" "(II)I") ∈ lw_all := lw_g (lw_at lw_m5 36 rfl) rfl
theorem q1100 : (Jvm.Cond.selects "RugReader$HouseReader" ({ cls := "RugReader$HouseReader", name := "hold", desc := "(II)I" } : Jvm.MethodName) ({ cls := "RugReader$Reader", name := "hold", desc := "(II)I" } : Jvm.MethodName)) ∈ lw_all := lw_g (lw_at lw_m5 38 rfl) rfl
theorem q1101 : (Jvm.Cond.methodLink "RugReader$HouseReader" (164 : Nat) ({ cls := "RugReader$Way", name := "last", desc := "()I" } : Jvm.MethodName)) ∈ lw_all := lw_g (lw_at lw_m5 39 rfl) rfl
theorem q1105 : (Jvm.Cond.methodLink "RugReader$HouseReader" (167 : Nat) ({ cls := "RugReader$House", name := "open", desc := "(II)I" } : Jvm.MethodName)) ∈ lw_all := lw_g (lw_at lw_m5 43 rfl) rfl
theorem q1122 : (Jvm.Cond.methodLink "RugReader$HouseReader" (170 : Nat) ({ cls := "RugReader$Way", name := "on", desc := "(II)V" } : Jvm.MethodName)) ∈ lw_all := lw_g (lw_at lw_m5 60 rfl) rfl
theorem q1126 : (Jvm.Cond.methodLink "RugReader$HouseReader" (60 : Nat) ({ cls := "RugReader$HouseReader", name := "fade", desc := "()V" } : Jvm.MethodName)) ∈ lw_all := lw_g (lw_at lw_m5 64 rfl) rfl
theorem q1127 : (Jvm.Cond.privateMethod ({ cls := "RugReader$HouseReader", name := "fade", desc := "()V" } : Jvm.MethodName)) ∈ lw_tbl := lw_at lw_m5 65 rfl
theorem q1128 : (Jvm.Cond.instanceMethod ({ cls := "RugReader$HouseReader", name := "fade", desc := "()V" } : Jvm.MethodName)) ∈ lw_all := lw_g (lw_at lw_m5 66 rfl) rfl
theorem q1129 : (Jvm.Cond.code ({ cls := "RugReader$HouseReader", name := "fade", desc := "()V" } : Jvm.MethodName) prog_5_method_6_code (1 : Nat) (Option.none : Option Jvm.ClassFile.FieldType)) ∈ lw_all := lw_g (lw_at lw_m5 67 rfl) rfl
theorem q1130 : (Jvm.Cond.stringRef "RugReader$HouseReader" (88 : Nat) "fade") ∈ lw_tbl := lw_at lw_m5 68 rfl
theorem q1131 : (Jvm.Cond.methodLink "RugReader$HouseReader" (30 : Nat) ({ cls := "RugReader$HouseReader", name := "end", desc := "()V" } : Jvm.MethodName)) ∈ lw_all := lw_g (lw_at lw_m5 69 rfl) rfl
theorem q1132 : (Jvm.Cond.sameMethod "RugReader$HouseReader" "RugReader$Reader" "end" "()V") ∈ lw_all := lw_g (lw_at lw_m5 70 rfl) rfl
theorem q1134 : (Jvm.Cond.selects "RugReader$HouseReader" ({ cls := "RugReader$HouseReader", name := "end", desc := "()V" } : Jvm.MethodName) ({ cls := "RugReader$Reader", name := "end", desc := "()V" } : Jvm.MethodName)) ∈ lw_all := lw_g (lw_at lw_m5 72 rfl) rfl
theorem q2327 : (Jvm.Cond.selects "RugReader$HouseReader" ({ cls := "RugReader$Reader", name := "need", desc := "(ZI)V" } : Jvm.MethodName) ({ cls := "RugReader$Reader", name := "need", desc := "(ZI)V" } : Jvm.MethodName)) ∈ lw_all := lw_g (lw_at lw_m10 65 rfl) rfl
theorem q2331 : (Jvm.Cond.selects "RugReader$HouseReader" ({ cls := "RugReader$Reader", name := "go", desc := "()V" } : Jvm.MethodName) ({ cls := "RugReader$Reader", name := "go", desc := "()V" } : Jvm.MethodName)) ∈ lw_all := lw_g (lw_at lw_m10 69 rfl) rfl
theorem q2339 : (Jvm.Cond.selects "RugReader$HouseReader" ({ cls := "RugReader$Reader", name := "number", desc := "(II)I" } : Jvm.MethodName) ({ cls := "RugReader$Reader", name := "number", desc := "(II)I" } : Jvm.MethodName)) ∈ lw_all := lw_g (lw_at lw_m10 77 rfl) rfl
theorem q2343 : (Jvm.Cond.selects "RugReader$HouseReader" ({ cls := "RugReader$Reader", name := "is", desc := "(Ljava/lang/String;)Z" } : Jvm.MethodName) ({ cls := "RugReader$Reader", name := "is", desc := "(Ljava/lang/String;)Z" } : Jvm.MethodName)) ∈ lw_all := lw_g (lw_at lw_m10 81 rfl) rfl
theorem q2347 : (Jvm.Cond.selects "RugReader$HouseReader" ({ cls := "RugReader$Reader", name := "isName", desc := "()Z" } : Jvm.MethodName) ({ cls := "RugReader$Reader", name := "isName", desc := "()Z" } : Jvm.MethodName)) ∈ lw_all := lw_g (lw_at lw_m10 85 rfl) rfl
theorem q2351 : (Jvm.Cond.selects "RugReader$HouseReader" ({ cls := "RugReader$Reader", name := "find", desc := "(Ljava/util/ArrayList;)I" } : Jvm.MethodName) ({ cls := "RugReader$Reader", name := "find", desc := "(Ljava/util/ArrayList;)I" } : Jvm.MethodName)) ∈ lw_all := lw_g (lw_at lw_m10 89 rfl) rfl
theorem q2363 : (Jvm.Cond.castable "RugReader$HouseReader" "java/lang/Object") ∈ lw_tbl := lw_at lw_m10 101 rfl
theorem in_X7 : ∀ w ∈ wsX70, w ∈ lw_all := lw_in wsX70 [479, 481, 483, 485, 487, 489, 491, 493, 495, 475, 477] (by decide +kernel) (by decide +kernel)
/-! RugReader$Fault -/
set_option maxRecDepth 100000
def RX8 : String := "RugReader$Fault"
def TX8 : u_T := fun k => match k with
  | 0 => ("java/lang/Throwable", "cause", "Ljava/lang/Throwable;", false)
  | 1 => ("java/lang/Throwable", "stackTrace", "[Ljava/lang/StackTraceElement;", false)
  | 2 => ("java/lang/Throwable", "suppressedExceptions", "Ljava/util/List;", false)
  | 3 => ("java/lang/Throwable", "detailMessage", "Ljava/lang/String;", false)
  | 4 => ("java/lang/Throwable", "backtrace", "Ljava/lang/Object;", false)
  | 5 => ("java/lang/Throwable", "depth", "I", false)
  | 6 => ("RugReader$Fault", "kind", "I", true)
  | _ => ("RugReader$Fault", "place", "I", true)
def tyX8 : Nat → FieldType := fun k => match k with
  | 0 => .object "java/lang/Throwable"
  | 1 => .array (.object "java/lang/StackTraceElement")
  | 2 => .object "java/util/List"
  | 3 => .object "java/lang/String"
  | 4 => .object "java/lang/Object"
  | 5 => .int
  | 6 => .int
  | _ => .int
abbrev wsX80 : List Cond := u_ws RX8 TX8 8
theorem nmX8 : ∀ a, a < 8 → ∀ b, b < 8 → a ≠ b → (TX8 a).2.1 ≠ (TX8 b).2.1 := by decide +kernel
theorem tyX8_ok : ∀ k, k < 8 → parseFieldDescriptor (TX8 k).2.2.1 = some (tyX8 k) := by decide +kernel
abbrev cX8_init : ByteArray := prog_3_method_1_code
def yX8_init : MethodName := ⟨RX8, "<init>", "(II)V"⟩
def dkwX8_init_0 : List UInt8 := [42, 183, 0, 1, 42, 27, 181, 0, 7, 42, 28, 181, 0, 13, 177]
abbrev dktX8_init_0 : List UInt8 := dkwX8_init_0 ++ []
theorem dksX8_init_0 : cX8_init.data.toList.drop 0 = dktX8_init_0 := by decide +kernel
theorem dX8_init_0 : decode cX8_init 0 = .ok (.aload_n 0, 1) := dk_42 (dk_at dksX8_init_0 0 rfl rfl)
theorem dX8_init_1 : decode cX8_init 1 = .ok (.invokespecial 1, 3) := dk_183 0 1 (dk_at dksX8_init_0 1 rfl rfl)
theorem dX8_init_4 : decode cX8_init 4 = .ok (.aload_n 0, 1) := dk_42 (dk_at dksX8_init_0 4 rfl rfl)
theorem dX8_init_5 : decode cX8_init 5 = .ok (.iload_n 1, 1) := dk_27 (dk_at dksX8_init_0 5 rfl rfl)
theorem dX8_init_6 : decode cX8_init 6 = .ok (.putfield 7, 3) := dk_181 0 7 (dk_at dksX8_init_0 6 rfl rfl)
theorem dX8_init_9 : decode cX8_init 9 = .ok (.aload_n 0, 1) := dk_42 (dk_at dksX8_init_0 9 rfl rfl)
theorem dX8_init_10 : decode cX8_init 10 = .ok (.iload_n 2, 1) := dk_28 (dk_at dksX8_init_0 10 rfl rfl)
theorem dX8_init_11 : decode cX8_init 11 = .ok (.putfield 13, 3) := dk_181 0 13 (dk_at dksX8_init_0 11 rfl rfl)
theorem dX8_init_14 : decode cX8_init 14 = .ok (.return_, 1) := dk_177 (dk_at dksX8_init_0 14 rfl rfl)
theorem q125 : (Jvm.Cond.initialized "RugReader$Fault") ∈ lw_all := lw_g (lw_at lw_m1 23 rfl) rfl
theorem q742 : (Jvm.Cond.instantiable "RugReader$Fault" (8 : Nat)) ∈ lw_all := lw_g (lw_at lw_m3 160 rfl) rfl
theorem q743 : (Jvm.Cond.castable "RugReader$Fault" "RugReader$Fault") ∈ lw_tbl := lw_at lw_m3 161 rfl
theorem q748 : (Jvm.Cond.selects "RugReader$Fault" ({ cls := "java/lang/Throwable", name := "fillInStackTrace", desc := "(I)Ljava/lang/Throwable;" } : Jvm.MethodName) ({ cls := "java/lang/Throwable", name := "fillInStackTrace", desc := "(I)Ljava/lang/Throwable;" } : Jvm.MethodName)) ∈ lw_all := lw_g (lw_at lw_m3 166 rfl) rfl
theorem q749 : (Jvm.Cond.selects "RugReader$Fault" ({ cls := "java/lang/Throwable", name := "fillInStackTrace", desc := "()Ljava/lang/Throwable;" } : Jvm.MethodName) ({ cls := "java/lang/Throwable", name := "fillInStackTrace", desc := "()Ljava/lang/Throwable;" } : Jvm.MethodName)) ∈ lw_all := lw_g (lw_at lw_m3 167 rfl) rfl
theorem q750 : (Jvm.Cond.lays "RugReader$Fault" "java/lang/Throwable" "cause" "Ljava/lang/Throwable;") ∈ lw_all := lw_g (lw_at lw_m3 168 rfl) rfl
theorem q752 : (Jvm.Cond.lays "RugReader$Fault" "java/lang/Throwable" "stackTrace" "[Ljava/lang/StackTraceElement;") ∈ lw_all := lw_g (lw_at lw_m3 170 rfl) rfl
theorem q754 : (Jvm.Cond.lays "RugReader$Fault" "java/lang/Throwable" "suppressedExceptions" "Ljava/util/List;") ∈ lw_all := lw_g (lw_at lw_m3 172 rfl) rfl
theorem q756 : (Jvm.Cond.lays "RugReader$Fault" "java/lang/Throwable" "detailMessage" "Ljava/lang/String;") ∈ lw_all := lw_g (lw_at lw_m3 174 rfl) rfl
theorem q758 : (Jvm.Cond.lays "RugReader$Fault" "java/lang/Throwable" "backtrace" "Ljava/lang/Object;") ∈ lw_all := lw_g (lw_at lw_m3 176 rfl) rfl
theorem q780 : (Jvm.Cond.instanceMethod ({ cls := "RugReader$Fault", name := "<init>", desc := "(II)V" } : Jvm.MethodName)) ∈ lw_all := lw_g (lw_at lw_m3 198 rfl) rfl
theorem q781 : (Jvm.Cond.code ({ cls := "RugReader$Fault", name := "<init>", desc := "(II)V" } : Jvm.MethodName) prog_3_method_1_code (3 : Nat) (Option.none : Option Jvm.ClassFile.FieldType)) ∈ lw_all := lw_g (lw_at lw_m3 199 rfl) rfl
theorem q782 : (Jvm.Cond.methodLink "RugReader$Fault" (1 : Nat) ({ cls := "java/lang/Exception", name := "<init>", desc := "()V" } : Jvm.MethodName)) ∈ lw_all := lw_g (lw_at lw_m3 200 rfl) rfl
theorem q786 : (Jvm.Cond.fieldLink "RugReader$Fault" (7 : Nat) "RugReader$Fault" "kind" "I") ∈ lw_all := lw_g (lw_at lw_m3 204 rfl) rfl
theorem q788 : (Jvm.Cond.fieldLink "RugReader$Fault" (13 : Nat) "RugReader$Fault" "place" "I") ∈ lw_all := lw_g (lw_at lw_m3 206 rfl) rfl
theorem q794 : (Jvm.Cond.laysFinal "RugReader$Fault" "RugReader$Fault" "kind" "I") ∈ lw_all := lw_g (lw_at lw_m3 212 rfl) rfl
theorem q795 : (Jvm.Cond.soleField "RugReader$Fault" "kind") ∈ lw_all := lw_g (lw_at lw_m3 213 rfl) rfl
theorem q796 : (Jvm.Cond.laysFinal "RugReader$Fault" "RugReader$Fault" "place" "I") ∈ lw_all := lw_g (lw_at lw_m3 214 rfl) rfl
theorem q797 : (Jvm.Cond.soleField "RugReader$Fault" "place") ∈ lw_all := lw_g (lw_at lw_m3 215 rfl) rfl
theorem q802 : (Jvm.Cond.lays "RugReader$Fault" "java/lang/Throwable" "depth" "I") ∈ lw_all := lw_g (lw_at lw_m3 220 rfl) rfl
theorem q805 : (Jvm.Cond.superclass "RugReader$Fault" "java/lang/Exception") ∈ lw_all := lw_g (lw_at lw_m3 223 rfl) rfl
theorem q993 : (Jvm.Cond.selects "RugReader$Fault" ({ cls := "java/lang/Object", name := "getClass", desc := "()Ljava/lang/Class;" } : Jvm.MethodName) ({ cls := "java/lang/Object", name := "getClass", desc := "()Ljava/lang/Class;" } : Jvm.MethodName)) ∈ lw_all := lw_g (lw_at lw_m4 171 rfl) rfl
theorem q2366 : (Jvm.Cond.castable "RugReader$Fault" "java/lang/Object") ∈ lw_tbl := lw_at lw_m10 104 rfl
theorem in_X8 : ∀ w ∈ wsX80, w ∈ lw_all := lw_in wsX80 [750, 752, 754, 756, 758, 802, 794, 796] (by decide +kernel) (by decide +kernel)
/-! RugReader$Named -/
set_option maxRecDepth 100000
def RX9 : String := "RugReader$Named"
abbrev cX9_init : ByteArray := prog_7_method_1_code
def yX9_init : MethodName := ⟨RX9, "<init>", "(Ljava/lang/String;)V"⟩
def dkwX9_init_0 : List UInt8 := [42, 183, 0, 1, 42, 43, 181, 0, 7, 177]
abbrev dktX9_init_0 : List UInt8 := dkwX9_init_0 ++ []
theorem dksX9_init_0 : cX9_init.data.toList.drop 0 = dktX9_init_0 := by decide +kernel
theorem dX9_init_0 : decode cX9_init 0 = .ok (.aload_n 0, 1) := dk_42 (dk_at dksX9_init_0 0 rfl rfl)
theorem dX9_init_1 : decode cX9_init 1 = .ok (.invokespecial 1, 3) := dk_183 0 1 (dk_at dksX9_init_0 1 rfl rfl)
theorem dX9_init_4 : decode cX9_init 4 = .ok (.aload_n 0, 1) := dk_42 (dk_at dksX9_init_0 4 rfl rfl)
theorem dX9_init_5 : decode cX9_init 5 = .ok (.aload_n 1, 1) := dk_43 (dk_at dksX9_init_0 5 rfl rfl)
theorem dX9_init_6 : decode cX9_init 6 = .ok (.putfield 7, 3) := dk_181 0 7 (dk_at dksX9_init_0 6 rfl rfl)
theorem dX9_init_9 : decode cX9_init 9 = .ok (.return_, 1) := dk_177 (dk_at dksX9_init_0 9 rfl rfl)
theorem q127 : (Jvm.Cond.initialized "RugReader$Named") ∈ lw_all := lw_g (lw_at lw_m1 25 rfl) rfl
theorem q943 : (Jvm.Cond.instanceMethod ({ cls := "RugReader$Named", name := "<init>", desc := "(Ljava/lang/String;)V" } : Jvm.MethodName)) ∈ lw_all := lw_g (lw_at lw_m4 121 rfl) rfl
theorem q944 : (Jvm.Cond.code ({ cls := "RugReader$Named", name := "<init>", desc := "(Ljava/lang/String;)V" } : Jvm.MethodName) prog_7_method_1_code (2 : Nat) (Option.none : Option Jvm.ClassFile.FieldType)) ∈ lw_all := lw_g (lw_at lw_m4 122 rfl) rfl
theorem q945 : (Jvm.Cond.methodLink "RugReader$Named" (1 : Nat) ({ cls := "java/lang/Object", name := "<init>", desc := "()V" } : Jvm.MethodName)) ∈ lw_all := lw_g (lw_at lw_m4 123 rfl) rfl
theorem q958 : (Jvm.Cond.fieldLink "RugReader$Named" (7 : Nat) "RugReader$Named" "name" "Ljava/lang/String;") ∈ lw_all := lw_g (lw_at lw_m4 136 rfl) rfl
theorem q967 : (Jvm.Cond.soleField "RugReader$Named" "name") ∈ lw_all := lw_g (lw_at lw_m4 145 rfl) rfl
/-! RugReader$Person -/
set_option maxRecDepth 100000
def RX10 : String := "RugReader$Person"
def TX10 : u_T := fun k => match k with
  | 0 => ("RugReader$Named", "name", "Ljava/lang/String;", true)
  | 1 => ("RugReader$Person", "weight", "I", true)
  | 2 => ("RugReader$Person", "sole", "I", true)
  | _ => ("RugReader$Person", "pace", "I", true)
def tyX10 : Nat → FieldType := fun k => match k with
  | 0 => .object "java/lang/String"
  | 1 => .int
  | 2 => .int
  | _ => .int
abbrev wsX100 : List Cond := u_ws RX10 TX10 4
theorem nmX10 : ∀ a, a < 4 → ∀ b, b < 4 → a ≠ b → (TX10 a).2.1 ≠ (TX10 b).2.1 := by decide +kernel
theorem tyX10_ok : ∀ k, k < 4 → parseFieldDescriptor (TX10 k).2.2.1 = some (tyX10 k) := by decide +kernel
abbrev cX10_init : ByteArray := prog_9_method_1_code
def yX10_init : MethodName := ⟨RX10, "<init>", "(Ljava/lang/String;III)V"⟩
def dkwX10_init_0 : List UInt8 := [42, 43, 183, 0, 1, 42, 28, 181, 0, 7, 42, 29, 181, 0, 13, 42, 21, 4, 181, 0, 16, 177]
abbrev dktX10_init_0 : List UInt8 := dkwX10_init_0 ++ []
theorem dksX10_init_0 : cX10_init.data.toList.drop 0 = dktX10_init_0 := by decide +kernel
theorem dX10_init_0 : decode cX10_init 0 = .ok (.aload_n 0, 1) := dk_42 (dk_at dksX10_init_0 0 rfl rfl)
theorem dX10_init_1 : decode cX10_init 1 = .ok (.aload_n 1, 1) := dk_43 (dk_at dksX10_init_0 1 rfl rfl)
theorem dX10_init_2 : decode cX10_init 2 = .ok (.invokespecial 1, 3) := dk_183 0 1 (dk_at dksX10_init_0 2 rfl rfl)
theorem dX10_init_5 : decode cX10_init 5 = .ok (.aload_n 0, 1) := dk_42 (dk_at dksX10_init_0 5 rfl rfl)
theorem dX10_init_6 : decode cX10_init 6 = .ok (.iload_n 2, 1) := dk_28 (dk_at dksX10_init_0 6 rfl rfl)
theorem dX10_init_7 : decode cX10_init 7 = .ok (.putfield 7, 3) := dk_181 0 7 (dk_at dksX10_init_0 7 rfl rfl)
theorem dX10_init_10 : decode cX10_init 10 = .ok (.aload_n 0, 1) := dk_42 (dk_at dksX10_init_0 10 rfl rfl)
theorem dX10_init_11 : decode cX10_init 11 = .ok (.iload_n 3, 1) := dk_29 (dk_at dksX10_init_0 11 rfl rfl)
theorem dX10_init_12 : decode cX10_init 12 = .ok (.putfield 13, 3) := dk_181 0 13 (dk_at dksX10_init_0 12 rfl rfl)
theorem dX10_init_15 : decode cX10_init 15 = .ok (.aload_n 0, 1) := dk_42 (dk_at dksX10_init_0 15 rfl rfl)
theorem dX10_init_16 : decode cX10_init 16 = .ok (.iload 4, 2) := dk_21 4 (dk_at dksX10_init_0 16 rfl rfl)
theorem dX10_init_18 : decode cX10_init 18 = .ok (.putfield 16, 3) := dk_181 0 16 (dk_at dksX10_init_0 18 rfl rfl)
theorem dX10_init_21 : decode cX10_init 21 = .ok (.return_, 1) := dk_177 (dk_at dksX10_init_0 21 rfl rfl)
theorem q128 : (Jvm.Cond.initialized "RugReader$Person") ∈ lw_all := lw_g (lw_at lw_m1 26 rfl) rfl
theorem q938 : (Jvm.Cond.instantiable "RugReader$Person" (4 : Nat)) ∈ lw_all := lw_g (lw_at lw_m4 116 rfl) rfl
theorem q940 : (Jvm.Cond.instanceMethod ({ cls := "RugReader$Person", name := "<init>", desc := "(Ljava/lang/String;III)V" } : Jvm.MethodName)) ∈ lw_all := lw_g (lw_at lw_m4 118 rfl) rfl
theorem q941 : (Jvm.Cond.code ({ cls := "RugReader$Person", name := "<init>", desc := "(Ljava/lang/String;III)V" } : Jvm.MethodName) prog_9_method_1_code (5 : Nat) (Option.none : Option Jvm.ClassFile.FieldType)) ∈ lw_all := lw_g (lw_at lw_m4 119 rfl) rfl
theorem q942 : (Jvm.Cond.methodLink "RugReader$Person" (1 : Nat) ({ cls := "RugReader$Named", name := "<init>", desc := "(Ljava/lang/String;)V" } : Jvm.MethodName)) ∈ lw_all := lw_g (lw_at lw_m4 120 rfl) rfl
theorem q946 : (Jvm.Cond.fieldLink "RugReader$Person" (7 : Nat) "RugReader$Person" "weight" "I") ∈ lw_all := lw_g (lw_at lw_m4 124 rfl) rfl
theorem q950 : (Jvm.Cond.fieldLink "RugReader$Person" (13 : Nat) "RugReader$Person" "sole" "I") ∈ lw_all := lw_g (lw_at lw_m4 128 rfl) rfl
theorem q954 : (Jvm.Cond.fieldLink "RugReader$Person" (16 : Nat) "RugReader$Person" "pace" "I") ∈ lw_all := lw_g (lw_at lw_m4 132 rfl) rfl
theorem q960 : (Jvm.Cond.laysFinal "RugReader$Person" "RugReader$Person" "weight" "I") ∈ lw_all := lw_g (lw_at lw_m4 138 rfl) rfl
theorem q961 : (Jvm.Cond.soleField "RugReader$Person" "weight") ∈ lw_all := lw_g (lw_at lw_m4 139 rfl) rfl
theorem q962 : (Jvm.Cond.laysFinal "RugReader$Person" "RugReader$Person" "sole" "I") ∈ lw_all := lw_g (lw_at lw_m4 140 rfl) rfl
theorem q963 : (Jvm.Cond.soleField "RugReader$Person" "sole") ∈ lw_all := lw_g (lw_at lw_m4 141 rfl) rfl
theorem q964 : (Jvm.Cond.laysFinal "RugReader$Person" "RugReader$Person" "pace" "I") ∈ lw_all := lw_g (lw_at lw_m4 142 rfl) rfl
theorem q965 : (Jvm.Cond.soleField "RugReader$Person" "pace") ∈ lw_all := lw_g (lw_at lw_m4 143 rfl) rfl
theorem q966 : (Jvm.Cond.laysFinal "RugReader$Person" "RugReader$Named" "name" "Ljava/lang/String;") ∈ lw_all := lw_g (lw_at lw_m4 144 rfl) rfl
theorem q968 : (Jvm.Cond.superclass "RugReader$Person" "RugReader$Named") ∈ lw_all := lw_g (lw_at lw_m4 146 rfl) rfl
theorem q998 : (Jvm.Cond.selects "RugReader$Person" ({ cls := "java/lang/Object", name := "getClass", desc := "()Ljava/lang/Class;" } : Jvm.MethodName) ({ cls := "java/lang/Object", name := "getClass", desc := "()Ljava/lang/Class;" } : Jvm.MethodName)) ∈ lw_all := lw_g (lw_at lw_m4 176 rfl) rfl
theorem q2355 : (Jvm.Cond.castable "RugReader$Person" "RugReader$Named") ∈ lw_tbl := lw_at lw_m10 93 rfl
theorem q2367 : (Jvm.Cond.castable "RugReader$Person" "java/lang/Object") ∈ lw_tbl := lw_at lw_m10 105 rfl
theorem in_X10 : ∀ w ∈ wsX100, w ∈ lw_all := lw_in wsX100 [966, 960, 962, 964] (by decide +kernel) (by decide +kernel)
/-! RugReader$Way -/
set_option maxRecDepth 100000
def RX11 : String := "RugReader$Way"
def TX11 : u_T := fun k => match k with
  | 0 => ("RugReader$Named", "name", "Ljava/lang/String;", true)
  | 1 => ("RugReader$Way", "tuft", "[I", true)
  | 2 => ("RugReader$Way", "dir", "[I", true)
  | _ => ("RugReader$Way", "steps", "I", false)
def tyX11 : Nat → FieldType := fun k => match k with
  | 0 => .object "java/lang/String"
  | 1 => .array .int
  | 2 => .array .int
  | _ => .int
abbrev wsX110 : List Cond := u_ws RX11 TX11 4
theorem nmX11 : ∀ a, a < 4 → ∀ b, b < 4 → a ≠ b → (TX11 a).2.1 ≠ (TX11 b).2.1 := by decide +kernel
theorem tyX11_ok : ∀ k, k < 4 → parseFieldDescriptor (TX11 k).2.2.1 = some (tyX11 k) := by decide +kernel
abbrev cX11_init : ByteArray := prog_17_method_1_code
def yX11_init : MethodName := ⟨RX11, "<init>", "(Ljava/lang/String;I)V"⟩
def dkwX11_init_1 : List UInt8 := [180, 0, 9, 3, 28, 79, 177]
abbrev dktX11_init_1 : List UInt8 := dkwX11_init_1 ++ []
def dkwX11_init_0 : List UInt8 := [42, 43, 183, 0, 3, 42, 16, 41, 188, 10, 181, 0, 9, 42, 16, 41, 188, 10, 181, 0, 15, 42]
abbrev dktX11_init_0 : List UInt8 := dkwX11_init_0 ++ dktX11_init_1
theorem dksX11_init_0 : cX11_init.data.toList.drop 0 = dktX11_init_0 := by decide +kernel
theorem dksX11_init_1 : cX11_init.data.toList.drop 22 = dktX11_init_1 := dk_seg dksX11_init_0 22 rfl rfl
theorem dX11_init_0 : decode cX11_init 0 = .ok (.aload_n 0, 1) := dk_42 (dk_at dksX11_init_0 0 rfl rfl)
theorem dX11_init_1 : decode cX11_init 1 = .ok (.aload_n 1, 1) := dk_43 (dk_at dksX11_init_0 1 rfl rfl)
theorem dX11_init_2 : decode cX11_init 2 = .ok (.invokespecial 3, 3) := dk_183 0 3 (dk_at dksX11_init_0 2 rfl rfl)
theorem dX11_init_5 : decode cX11_init 5 = .ok (.aload_n 0, 1) := dk_42 (dk_at dksX11_init_0 5 rfl rfl)
theorem dX11_init_6 : decode cX11_init 6 = .ok (.bipush 41, 2) := dk_16 41 (dk_at dksX11_init_0 6 rfl rfl)
theorem dX11_init_8 : decode cX11_init 8 = .ok (.newarray .int, 2) := dk_188_10 (dk_at dksX11_init_0 8 rfl rfl)
theorem dX11_init_10 : decode cX11_init 10 = .ok (.putfield 9, 3) := dk_181 0 9 (dk_at dksX11_init_0 10 rfl rfl)
theorem dX11_init_13 : decode cX11_init 13 = .ok (.aload_n 0, 1) := dk_42 (dk_at dksX11_init_0 13 rfl rfl)
theorem dX11_init_14 : decode cX11_init 14 = .ok (.bipush 41, 2) := dk_16 41 (dk_at dksX11_init_0 14 rfl rfl)
theorem dX11_init_16 : decode cX11_init 16 = .ok (.newarray .int, 2) := dk_188_10 (dk_at dksX11_init_0 16 rfl rfl)
theorem dX11_init_18 : decode cX11_init 18 = .ok (.putfield 15, 3) := dk_181 0 15 (dk_at dksX11_init_0 18 rfl rfl)
theorem dX11_init_21 : decode cX11_init 21 = .ok (.aload_n 0, 1) := dk_42 (dk_at dksX11_init_0 21 rfl rfl)
theorem dX11_init_22 : decode cX11_init 22 = .ok (.getfield 9, 3) := dk_180 0 9 (dk_at dksX11_init_1 0 rfl rfl)
theorem dX11_init_25 : decode cX11_init 25 = .ok (.iconst 0, 1) := dk_3 (dk_at dksX11_init_1 3 rfl rfl)
theorem dX11_init_26 : decode cX11_init 26 = .ok (.iload_n 2, 1) := dk_28 (dk_at dksX11_init_1 4 rfl rfl)
theorem dX11_init_27 : decode cX11_init 27 = .ok (.iastore, 1) := dk_79 (dk_at dksX11_init_1 5 rfl rfl)
theorem dX11_init_28 : decode cX11_init 28 = .ok (.return_, 1) := dk_177 (dk_at dksX11_init_1 6 rfl rfl)
abbrev cX11_last : ByteArray := prog_17_method_3_code
def yX11_last : MethodName := ⟨RX11, "last", "()I"⟩
def dkwX11_last_0 : List UInt8 := [42, 180, 0, 9, 42, 180, 0, 18, 46, 172]
abbrev dktX11_last_0 : List UInt8 := dkwX11_last_0 ++ []
theorem dksX11_last_0 : cX11_last.data.toList.drop 0 = dktX11_last_0 := by decide +kernel
theorem dX11_last_0 : decode cX11_last 0 = .ok (.aload_n 0, 1) := dk_42 (dk_at dksX11_last_0 0 rfl rfl)
theorem dX11_last_1 : decode cX11_last 1 = .ok (.getfield 9, 3) := dk_180 0 9 (dk_at dksX11_last_0 1 rfl rfl)
theorem dX11_last_4 : decode cX11_last 4 = .ok (.aload_n 0, 1) := dk_42 (dk_at dksX11_last_0 4 rfl rfl)
theorem dX11_last_5 : decode cX11_last 5 = .ok (.getfield 18, 3) := dk_180 0 18 (dk_at dksX11_last_0 5 rfl rfl)
theorem dX11_last_8 : decode cX11_last 8 = .ok (.iaload, 1) := dk_46 (dk_at dksX11_last_0 8 rfl rfl)
theorem dX11_last_9 : decode cX11_last 9 = .ok (.ireturn, 1) := dk_172 (dk_at dksX11_last_0 9 rfl rfl)
abbrev cX11_on : ByteArray := prog_17_method_2_code
def yX11_on : MethodName := ⟨RX11, "on", "(II)V"⟩
def dkwX11_on_1 : List UInt8 := [42, 180, 0, 18, 28, 79, 42, 180, 0, 15, 42, 180, 0, 18, 27, 79, 177]
abbrev dktX11_on_1 : List UInt8 := dkwX11_on_1 ++ []
def dkwX11_on_0 : List UInt8 := [42, 180, 0, 15, 42, 180, 0, 18, 27, 79, 42, 89, 180, 0, 18, 4, 96, 181, 0, 18, 42, 180, 0, 9]
abbrev dktX11_on_0 : List UInt8 := dkwX11_on_0 ++ dktX11_on_1
theorem dksX11_on_0 : cX11_on.data.toList.drop 0 = dktX11_on_0 := by decide +kernel
theorem dksX11_on_1 : cX11_on.data.toList.drop 24 = dktX11_on_1 := dk_seg dksX11_on_0 24 rfl rfl
theorem dX11_on_0 : decode cX11_on 0 = .ok (.aload_n 0, 1) := dk_42 (dk_at dksX11_on_0 0 rfl rfl)
theorem dX11_on_1 : decode cX11_on 1 = .ok (.getfield 15, 3) := dk_180 0 15 (dk_at dksX11_on_0 1 rfl rfl)
theorem dX11_on_4 : decode cX11_on 4 = .ok (.aload_n 0, 1) := dk_42 (dk_at dksX11_on_0 4 rfl rfl)
theorem dX11_on_5 : decode cX11_on 5 = .ok (.getfield 18, 3) := dk_180 0 18 (dk_at dksX11_on_0 5 rfl rfl)
theorem dX11_on_8 : decode cX11_on 8 = .ok (.iload_n 1, 1) := dk_27 (dk_at dksX11_on_0 8 rfl rfl)
theorem dX11_on_9 : decode cX11_on 9 = .ok (.iastore, 1) := dk_79 (dk_at dksX11_on_0 9 rfl rfl)
theorem dX11_on_10 : decode cX11_on 10 = .ok (.aload_n 0, 1) := dk_42 (dk_at dksX11_on_0 10 rfl rfl)
theorem dX11_on_11 : decode cX11_on 11 = .ok (.dup, 1) := dk_89 (dk_at dksX11_on_0 11 rfl rfl)
theorem dX11_on_12 : decode cX11_on 12 = .ok (.getfield 18, 3) := dk_180 0 18 (dk_at dksX11_on_0 12 rfl rfl)
theorem dX11_on_15 : decode cX11_on 15 = .ok (.iconst 1, 1) := dk_4 (dk_at dksX11_on_0 15 rfl rfl)
theorem dX11_on_16 : decode cX11_on 16 = .ok (.iadd, 1) := dk_96 (dk_at dksX11_on_0 16 rfl rfl)
theorem dX11_on_17 : decode cX11_on 17 = .ok (.putfield 18, 3) := dk_181 0 18 (dk_at dksX11_on_0 17 rfl rfl)
theorem dX11_on_20 : decode cX11_on 20 = .ok (.aload_n 0, 1) := dk_42 (dk_at dksX11_on_0 20 rfl rfl)
theorem dX11_on_21 : decode cX11_on 21 = .ok (.getfield 9, 3) := dk_180 0 9 (dk_at dksX11_on_0 21 rfl rfl)
theorem dX11_on_24 : decode cX11_on 24 = .ok (.aload_n 0, 1) := dk_42 (dk_at dksX11_on_1 0 rfl rfl)
theorem dX11_on_25 : decode cX11_on 25 = .ok (.getfield 18, 3) := dk_180 0 18 (dk_at dksX11_on_1 1 rfl rfl)
theorem dX11_on_28 : decode cX11_on 28 = .ok (.iload_n 2, 1) := dk_28 (dk_at dksX11_on_1 4 rfl rfl)
theorem dX11_on_29 : decode cX11_on 29 = .ok (.iastore, 1) := dk_79 (dk_at dksX11_on_1 5 rfl rfl)
theorem dX11_on_30 : decode cX11_on 30 = .ok (.aload_n 0, 1) := dk_42 (dk_at dksX11_on_1 6 rfl rfl)
theorem dX11_on_31 : decode cX11_on 31 = .ok (.getfield 15, 3) := dk_180 0 15 (dk_at dksX11_on_1 7 rfl rfl)
theorem dX11_on_34 : decode cX11_on 34 = .ok (.aload_n 0, 1) := dk_42 (dk_at dksX11_on_1 10 rfl rfl)
theorem dX11_on_35 : decode cX11_on 35 = .ok (.getfield 18, 3) := dk_180 0 18 (dk_at dksX11_on_1 11 rfl rfl)
theorem dX11_on_38 : decode cX11_on 38 = .ok (.iload_n 1, 1) := dk_27 (dk_at dksX11_on_1 14 rfl rfl)
theorem dX11_on_39 : decode cX11_on 39 = .ok (.iastore, 1) := dk_79 (dk_at dksX11_on_1 15 rfl rfl)
theorem dX11_on_40 : decode cX11_on 40 = .ok (.return_, 1) := dk_177 (dk_at dksX11_on_1 16 rfl rfl)
abbrev cX11_times : ByteArray := prog_17_method_4_code
def yX11_times : MethodName := ⟨RX11, "times", "(I)I"⟩
def dkwX11_times_1 : List UInt8 := [132, 2, 1, 132, 3, 1, 167, 255, 232, 28, 172]
abbrev dktX11_times_1 : List UInt8 := dkwX11_times_1 ++ []
def dkwX11_times_0 : List UInt8 := [3, 61, 3, 62, 29, 42, 180, 0, 18, 163, 0, 22, 42, 180, 0, 9, 29, 46, 27, 160, 0, 6]
abbrev dktX11_times_0 : List UInt8 := dkwX11_times_0 ++ dktX11_times_1
theorem dksX11_times_0 : cX11_times.data.toList.drop 0 = dktX11_times_0 := by decide +kernel
theorem dksX11_times_1 : cX11_times.data.toList.drop 22 = dktX11_times_1 := dk_seg dksX11_times_0 22 rfl rfl
theorem dX11_times_0 : decode cX11_times 0 = .ok (.iconst 0, 1) := dk_3 (dk_at dksX11_times_0 0 rfl rfl)
theorem dX11_times_1 : decode cX11_times 1 = .ok (.istore_n 2, 1) := dk_61 (dk_at dksX11_times_0 1 rfl rfl)
theorem dX11_times_2 : decode cX11_times 2 = .ok (.iconst 0, 1) := dk_3 (dk_at dksX11_times_0 2 rfl rfl)
theorem dX11_times_3 : decode cX11_times 3 = .ok (.istore_n 3, 1) := dk_62 (dk_at dksX11_times_0 3 rfl rfl)
theorem dX11_times_4 : decode cX11_times 4 = .ok (.iload_n 3, 1) := dk_29 (dk_at dksX11_times_0 4 rfl rfl)
theorem dX11_times_5 : decode cX11_times 5 = .ok (.aload_n 0, 1) := dk_42 (dk_at dksX11_times_0 5 rfl rfl)
theorem dX11_times_6 : decode cX11_times 6 = .ok (.getfield 18, 3) := dk_180 0 18 (dk_at dksX11_times_0 6 rfl rfl)
theorem dX11_times_9 : decode cX11_times 9 = .ok (.if_icmp .gt 22, 3) := dk_163 0 22 (dk_at dksX11_times_0 9 rfl rfl)
theorem dX11_times_12 : decode cX11_times 12 = .ok (.aload_n 0, 1) := dk_42 (dk_at dksX11_times_0 12 rfl rfl)
theorem dX11_times_13 : decode cX11_times 13 = .ok (.getfield 9, 3) := dk_180 0 9 (dk_at dksX11_times_0 13 rfl rfl)
theorem dX11_times_16 : decode cX11_times 16 = .ok (.iload_n 3, 1) := dk_29 (dk_at dksX11_times_0 16 rfl rfl)
theorem dX11_times_17 : decode cX11_times 17 = .ok (.iaload, 1) := dk_46 (dk_at dksX11_times_0 17 rfl rfl)
theorem dX11_times_18 : decode cX11_times 18 = .ok (.iload_n 1, 1) := dk_27 (dk_at dksX11_times_0 18 rfl rfl)
theorem dX11_times_19 : decode cX11_times 19 = .ok (.if_icmp .ne 6, 3) := dk_160 0 6 (dk_at dksX11_times_0 19 rfl rfl)
theorem dX11_times_22 : decode cX11_times 22 = .ok (.iinc 2 1, 3) := dk_132 2 1 (dk_at dksX11_times_1 0 rfl rfl)
theorem dX11_times_25 : decode cX11_times 25 = .ok (.iinc 3 1, 3) := dk_132 3 1 (dk_at dksX11_times_1 3 rfl rfl)
theorem dX11_times_28 : decode cX11_times 28 = .ok (.goto (-24), 3) := dk_167 255 232 (dk_at dksX11_times_1 6 rfl rfl)
theorem dX11_times_31 : decode cX11_times 31 = .ok (.iload_n 2, 1) := dk_28 (dk_at dksX11_times_1 9 rfl rfl)
theorem dX11_times_32 : decode cX11_times 32 = .ok (.ireturn, 1) := dk_172 (dk_at dksX11_times_1 10 rfl rfl)
abbrev cX11_isOver : ByteArray := prog_17_method_5_code
def yX11_isOver : MethodName := ⟨RX11, "isOver", "(I)Z"⟩
def dkwX11_isOver_0 : List UInt8 := [42, 27, 182, 0, 22, 158, 0, 7, 4, 167, 0, 4, 3, 172]
abbrev dktX11_isOver_0 : List UInt8 := dkwX11_isOver_0 ++ []
theorem dksX11_isOver_0 : cX11_isOver.data.toList.drop 0 = dktX11_isOver_0 := by decide +kernel
theorem dX11_isOver_0 : decode cX11_isOver 0 = .ok (.aload_n 0, 1) := dk_42 (dk_at dksX11_isOver_0 0 rfl rfl)
theorem dX11_isOver_1 : decode cX11_isOver 1 = .ok (.iload_n 1, 1) := dk_27 (dk_at dksX11_isOver_0 1 rfl rfl)
theorem dX11_isOver_2 : decode cX11_isOver 2 = .ok (.invokevirtual 22, 3) := dk_182 0 22 (dk_at dksX11_isOver_0 2 rfl rfl)
theorem dX11_isOver_5 : decode cX11_isOver 5 = .ok (.ifCond .le 7, 3) := dk_158 0 7 (dk_at dksX11_isOver_0 5 rfl rfl)
theorem dX11_isOver_8 : decode cX11_isOver 8 = .ok (.iconst 1, 1) := dk_4 (dk_at dksX11_isOver_0 8 rfl rfl)
theorem dX11_isOver_9 : decode cX11_isOver 9 = .ok (.goto 4, 3) := dk_167 0 4 (dk_at dksX11_isOver_0 9 rfl rfl)
theorem dX11_isOver_12 : decode cX11_isOver 12 = .ok (.iconst 0, 1) := dk_3 (dk_at dksX11_isOver_0 12 rfl rfl)
theorem dX11_isOver_13 : decode cX11_isOver 13 = .ok (.ireturn, 1) := dk_172 (dk_at dksX11_isOver_0 13 rfl rfl)
theorem q132 : (Jvm.Cond.initialized "RugReader$Way") ∈ lw_all := lw_g (lw_at lw_m1 30 rfl) rfl
theorem q1005 : (Jvm.Cond.selects "RugReader$Way" ({ cls := "java/lang/Object", name := "getClass", desc := "()Ljava/lang/Class;" } : Jvm.MethodName) ({ cls := "java/lang/Object", name := "getClass", desc := "()Ljava/lang/Class;" } : Jvm.MethodName)) ∈ lw_all := lw_g (lw_at lw_m4 183 rfl) rfl
theorem q1064 : (Jvm.Cond.instantiable "RugReader$Way" (4 : Nat)) ∈ lw_all := lw_g (lw_at lw_m5 2 rfl) rfl
theorem q1066 : (Jvm.Cond.instanceMethod ({ cls := "RugReader$Way", name := "<init>", desc := "(Ljava/lang/String;I)V" } : Jvm.MethodName)) ∈ lw_all := lw_g (lw_at lw_m5 4 rfl) rfl
theorem q1067 : (Jvm.Cond.code ({ cls := "RugReader$Way", name := "<init>", desc := "(Ljava/lang/String;I)V" } : Jvm.MethodName) prog_17_method_1_code (3 : Nat) (Option.none : Option Jvm.ClassFile.FieldType)) ∈ lw_all := lw_g (lw_at lw_m5 5 rfl) rfl
theorem q1068 : (Jvm.Cond.methodLink "RugReader$Way" (3 : Nat) ({ cls := "RugReader$Named", name := "<init>", desc := "(Ljava/lang/String;)V" } : Jvm.MethodName)) ∈ lw_all := lw_g (lw_at lw_m5 6 rfl) rfl
theorem q1069 : (Jvm.Cond.fieldLink "RugReader$Way" (9 : Nat) "RugReader$Way" "tuft" "[I") ∈ lw_all := lw_g (lw_at lw_m5 7 rfl) rfl
theorem q1072 : (Jvm.Cond.fieldLink "RugReader$Way" (15 : Nat) "RugReader$Way" "dir" "[I") ∈ lw_all := lw_g (lw_at lw_m5 10 rfl) rfl
theorem q1074 : (Jvm.Cond.fieldLink "RugReader$Way" (18 : Nat) "RugReader$Way" "steps" "I") ∈ lw_all := lw_g (lw_at lw_m5 12 rfl) rfl
theorem q1078 : (Jvm.Cond.laysFinal "RugReader$Way" "RugReader$Way" "tuft" "[I") ∈ lw_all := lw_g (lw_at lw_m5 16 rfl) rfl
theorem q1079 : (Jvm.Cond.soleField "RugReader$Way" "tuft") ∈ lw_all := lw_g (lw_at lw_m5 17 rfl) rfl
theorem q1080 : (Jvm.Cond.laysFinal "RugReader$Way" "RugReader$Way" "dir" "[I") ∈ lw_all := lw_g (lw_at lw_m5 18 rfl) rfl
theorem q1081 : (Jvm.Cond.soleField "RugReader$Way" "dir") ∈ lw_all := lw_g (lw_at lw_m5 19 rfl) rfl
theorem q1082 : (Jvm.Cond.lays "RugReader$Way" "RugReader$Way" "steps" "I") ∈ lw_all := lw_g (lw_at lw_m5 20 rfl) rfl
theorem q1083 : (Jvm.Cond.soleField "RugReader$Way" "steps") ∈ lw_all := lw_g (lw_at lw_m5 21 rfl) rfl
theorem q1084 : (Jvm.Cond.laysFinal "RugReader$Way" "RugReader$Named" "name" "Ljava/lang/String;") ∈ lw_all := lw_g (lw_at lw_m5 22 rfl) rfl
theorem q1085 : (Jvm.Cond.superclass "RugReader$Way" "RugReader$Named") ∈ lw_all := lw_g (lw_at lw_m5 23 rfl) rfl
theorem q1102 : (Jvm.Cond.instanceMethod ({ cls := "RugReader$Way", name := "last", desc := "()I" } : Jvm.MethodName)) ∈ lw_all := lw_g (lw_at lw_m5 40 rfl) rfl
theorem q1103 : (Jvm.Cond.selects "RugReader$Way" ({ cls := "RugReader$Way", name := "last", desc := "()I" } : Jvm.MethodName) ({ cls := "RugReader$Way", name := "last", desc := "()I" } : Jvm.MethodName)) ∈ lw_all := lw_g (lw_at lw_m5 41 rfl) rfl
theorem q1104 : (Jvm.Cond.code ({ cls := "RugReader$Way", name := "last", desc := "()I" } : Jvm.MethodName) prog_17_method_3_code (1 : Nat) (Option.some Jvm.ClassFile.FieldType.int)) ∈ lw_all := lw_g (lw_at lw_m5 42 rfl) rfl
theorem q1123 : (Jvm.Cond.instanceMethod ({ cls := "RugReader$Way", name := "on", desc := "(II)V" } : Jvm.MethodName)) ∈ lw_all := lw_g (lw_at lw_m5 61 rfl) rfl
theorem q1124 : (Jvm.Cond.selects "RugReader$Way" ({ cls := "RugReader$Way", name := "on", desc := "(II)V" } : Jvm.MethodName) ({ cls := "RugReader$Way", name := "on", desc := "(II)V" } : Jvm.MethodName)) ∈ lw_all := lw_g (lw_at lw_m5 62 rfl) rfl
theorem q1125 : (Jvm.Cond.code ({ cls := "RugReader$Way", name := "on", desc := "(II)V" } : Jvm.MethodName) prog_17_method_2_code (3 : Nat) (Option.none : Option Jvm.ClassFile.FieldType)) ∈ lw_all := lw_g (lw_at lw_m5 63 rfl) rfl
theorem q1268 : (Jvm.Cond.instanceMethod ({ cls := "RugReader$Way", name := "times", desc := "(I)I" } : Jvm.MethodName)) ∈ lw_all := lw_g (lw_at lw_m5 206 rfl) rfl
theorem q1269 : (Jvm.Cond.selects "RugReader$Way" ({ cls := "RugReader$Way", name := "times", desc := "(I)I" } : Jvm.MethodName) ({ cls := "RugReader$Way", name := "times", desc := "(I)I" } : Jvm.MethodName)) ∈ lw_all := lw_g (lw_at lw_m5 207 rfl) rfl
theorem q1270 : (Jvm.Cond.code ({ cls := "RugReader$Way", name := "times", desc := "(I)I" } : Jvm.MethodName) prog_17_method_4_code (4 : Nat) (Option.some Jvm.ClassFile.FieldType.int)) ∈ lw_all := lw_g (lw_at lw_m5 208 rfl) rfl
theorem q1456 : (Jvm.Cond.instanceMethod ({ cls := "RugReader$Way", name := "isOver", desc := "(I)Z" } : Jvm.MethodName)) ∈ lw_all := lw_g (lw_at lw_m6 154 rfl) rfl
theorem q1457 : (Jvm.Cond.selects "RugReader$Way" ({ cls := "RugReader$Way", name := "isOver", desc := "(I)Z" } : Jvm.MethodName) ({ cls := "RugReader$Way", name := "isOver", desc := "(I)Z" } : Jvm.MethodName)) ∈ lw_all := lw_g (lw_at lw_m6 155 rfl) rfl
theorem q1458 : (Jvm.Cond.code ({ cls := "RugReader$Way", name := "isOver", desc := "(I)Z" } : Jvm.MethodName) prog_17_method_5_code (2 : Nat) (Option.some Jvm.ClassFile.FieldType.boolean)) ∈ lw_all := lw_g (lw_at lw_m6 156 rfl) rfl
theorem q1459 : (Jvm.Cond.methodLink "RugReader$Way" (22 : Nat) ({ cls := "RugReader$Way", name := "times", desc := "(I)I" } : Jvm.MethodName)) ∈ lw_all := lw_g (lw_at lw_m6 157 rfl) rfl
theorem q2356 : (Jvm.Cond.castable "RugReader$Way" "RugReader$Named") ∈ lw_tbl := lw_at lw_m10 94 rfl
theorem q2369 : (Jvm.Cond.castable "RugReader$Way" "java/lang/Object") ∈ lw_tbl := lw_at lw_m10 107 rfl
theorem in_X11 : ∀ w ∈ wsX110, w ∈ lw_all := lw_in wsX110 [1084, 1078, 1080, 1082] (by decide +kernel) (by decide +kernel)
/-! RugReader$WalkReader -/
set_option maxRecDepth 100000
def RX12 : String := "RugReader$WalkReader"
def TX12 : u_T := fun k => match k with
  | 0 => ("RugReader$Reader", "tape", "[B", true)
  | 1 => ("RugReader$Reader", "size", "I", true)
  | 2 => ("RugReader$Reader", "limit", "I", true)
  | 3 => ("RugReader$Reader", "to", "I", false)
  | 4 => ("RugReader$Reader", "kind", "I", false)
  | 5 => ("RugReader$Reader", "from", "I", false)
  | 6 => ("RugReader$Reader", "number", "I", false)
  | 7 => ("RugReader$Reader", "sign", "I", false)
  | 8 => ("RugReader$Reader", "word", "Ljava/lang/String;", false)
  | 9 => ("RugReader$WalkReader", "h", "LRugReader$House;", true)
  | 10 => ("RugReader$WalkReader", "why", "I", false)
  | 11 => ("RugReader$WalkReader", "wrong", "I", false)
  | 12 => ("RugReader$WalkReader", "lines", "I", false)
  | 13 => ("RugReader$WalkReader", "tuft", "I", false)
  | 14 => ("RugReader$WalkReader", "tufts", "I", false)
  | 15 => ("RugReader$WalkReader", "minutes", "I", false)
  | _ => ("RugReader$WalkReader", "came", "I", false)
def tyX12 : Nat → FieldType := fun k => match k with
  | 0 => .array .byte
  | 1 => .int
  | 2 => .int
  | 3 => .int
  | 4 => .int
  | 5 => .int
  | 6 => .int
  | 7 => .int
  | 8 => .object "java/lang/String"
  | 9 => .object "RugReader$House"
  | 10 => .int
  | 11 => .int
  | 12 => .int
  | 13 => .int
  | 14 => .int
  | 15 => .int
  | _ => .int
abbrev wsX120 : List Cond := u_ws RX12 TX12 17
set_option maxRecDepth 100000 in
theorem nmX12 : ∀ a, a < 17 → ∀ b, b < 17 → a ≠ b → (TX12 a).2.1 ≠ (TX12 b).2.1 := by decide +kernel
set_option maxRecDepth 100000 in
theorem tyX12_ok : ∀ k, k < 17 → parseFieldDescriptor (TX12 k).2.2.1 = some (tyX12 k) := by decide +kernel
abbrev cX12_init : ByteArray := prog_16_method_1_code
def yX12_init : MethodName := ⟨RX12, "<init>", "([BILRugReader$House;)V"⟩
def dkwX12_init_1 : List UInt8 := [42, 45, 181, 0, 21, 177]
abbrev dktX12_init_1 : List UInt8 := dkwX12_init_1 ++ []
def dkwX12_init_0 : List UInt8 := [42, 43, 28, 17, 1, 44, 183, 0, 3, 42, 2, 181, 0, 9, 42, 2, 181, 0, 15, 42, 2, 181, 0, 18]
abbrev dktX12_init_0 : List UInt8 := dkwX12_init_0 ++ dktX12_init_1
theorem dksX12_init_0 : cX12_init.data.toList.drop 0 = dktX12_init_0 := by decide +kernel
theorem dksX12_init_1 : cX12_init.data.toList.drop 24 = dktX12_init_1 := dk_seg dksX12_init_0 24 rfl rfl
theorem dX12_init_0 : decode cX12_init 0 = .ok (.aload_n 0, 1) := dk_42 (dk_at dksX12_init_0 0 rfl rfl)
theorem dX12_init_1 : decode cX12_init 1 = .ok (.aload_n 1, 1) := dk_43 (dk_at dksX12_init_0 1 rfl rfl)
theorem dX12_init_2 : decode cX12_init 2 = .ok (.iload_n 2, 1) := dk_28 (dk_at dksX12_init_0 2 rfl rfl)
theorem dX12_init_3 : decode cX12_init 3 = .ok (.sipush 300, 3) := dk_17 1 44 (dk_at dksX12_init_0 3 rfl rfl)
theorem dX12_init_6 : decode cX12_init 6 = .ok (.invokespecial 3, 3) := dk_183 0 3 (dk_at dksX12_init_0 6 rfl rfl)
theorem dX12_init_9 : decode cX12_init 9 = .ok (.aload_n 0, 1) := dk_42 (dk_at dksX12_init_0 9 rfl rfl)
theorem dX12_init_10 : decode cX12_init 10 = .ok (.iconst (-1), 1) := dk_2 (dk_at dksX12_init_0 10 rfl rfl)
theorem dX12_init_11 : decode cX12_init 11 = .ok (.putfield 9, 3) := dk_181 0 9 (dk_at dksX12_init_0 11 rfl rfl)
theorem dX12_init_14 : decode cX12_init 14 = .ok (.aload_n 0, 1) := dk_42 (dk_at dksX12_init_0 14 rfl rfl)
theorem dX12_init_15 : decode cX12_init 15 = .ok (.iconst (-1), 1) := dk_2 (dk_at dksX12_init_0 15 rfl rfl)
theorem dX12_init_16 : decode cX12_init 16 = .ok (.putfield 15, 3) := dk_181 0 15 (dk_at dksX12_init_0 16 rfl rfl)
theorem dX12_init_19 : decode cX12_init 19 = .ok (.aload_n 0, 1) := dk_42 (dk_at dksX12_init_0 19 rfl rfl)
theorem dX12_init_20 : decode cX12_init 20 = .ok (.iconst (-1), 1) := dk_2 (dk_at dksX12_init_0 20 rfl rfl)
theorem dX12_init_21 : decode cX12_init 21 = .ok (.putfield 18, 3) := dk_181 0 18 (dk_at dksX12_init_0 21 rfl rfl)
theorem dX12_init_24 : decode cX12_init 24 = .ok (.aload_n 0, 1) := dk_42 (dk_at dksX12_init_1 0 rfl rfl)
theorem dX12_init_25 : decode cX12_init 25 = .ok (.aload_n 3, 1) := dk_45 (dk_at dksX12_init_1 1 rfl rfl)
theorem dX12_init_26 : decode cX12_init 26 = .ok (.putfield 21, 3) := dk_181 0 21 (dk_at dksX12_init_1 2 rfl rfl)
theorem dX12_init_29 : decode cX12_init 29 = .ok (.return_, 1) := dk_177 (dk_at dksX12_init_1 5 rfl rfl)
abbrev cX12_read : ByteArray := prog_16_method_2_code
def yX12_read : MethodName := ⟨RX12, "read", "()LRugReader$WalkReader;"⟩
def dkwX12_read_8 : List UInt8 := [167, 255, 157, 42, 176]
abbrev dktX12_read_8 : List UInt8 := dkwX12_read_8 ++ []
def dkwX12_read_7 : List UInt8 := [154, 0, 13, 42, 43, 29, 21, 4, 21, 5, 182, 0, 83, 42, 89, 180, 0, 62, 4, 96, 181, 0, 62]
abbrev dktX12_read_7 : List UInt8 := dkwX12_read_7 ++ dktX12_read_8
def dkwX12_read_6 : List UInt8 := [182, 0, 76, 54, 4, 42, 4, 16, 99, 182, 0, 76, 54, 5, 42, 182, 0, 51, 42, 180, 0, 80]
abbrev dktX12_read_6 : List UInt8 := dkwX12_read_6 ++ dktX12_read_7
def dkwX12_read_5 : List UInt8 := [16, 30, 163, 0, 7, 4, 167, 0, 4, 3, 7, 182, 0, 72, 42, 182, 0, 25, 42, 4, 16, 11]
abbrev dktX12_read_5 : List UInt8 := dkwX12_read_5 ++ dktX12_read_6
def dkwX12_read_4 : List UInt8 := [182, 0, 68, 62, 42, 29, 2, 159, 0, 7, 4, 167, 0, 4, 3, 4, 182, 0, 72, 42, 42, 180, 0, 62]
abbrev dktX12_read_4 : List UInt8 := dkwX12_read_4 ++ dktX12_read_5
def dkwX12_read_3 : List UInt8 := [42, 28, 181, 0, 15, 42, 89, 180, 0, 62, 4, 96, 181, 0, 62, 42, 180, 0, 65, 153, 0, 98, 42]
abbrev dktX12_read_3 : List UInt8 := dkwX12_read_3 ++ dktX12_read_4
def dkwX12_read_2 : List UInt8 := [42, 182, 0, 51, 42, 180, 0, 21, 180, 0, 54, 28, 51, 153, 0, 11, 42, 4, 182, 0, 58, 167, 0, 8]
abbrev dktX12_read_2 : List UInt8 := dkwX12_read_2 ++ dktX12_read_3
def dkwX12_read_1 : List UInt8 := [182, 0, 39, 192, 0, 45, 76, 42, 182, 0, 25, 42, 42, 180, 0, 21, 182, 0, 47, 61, 42, 182, 0, 25]
abbrev dktX12_read_1 : List UInt8 := dkwX12_read_1 ++ dktX12_read_2
def dkwX12_read_0 : List UInt8 := [42, 182, 0, 25, 42, 180, 0, 21, 180, 0, 29, 42, 42, 180, 0, 21, 180, 0, 29, 182, 0, 35]
abbrev dktX12_read_0 : List UInt8 := dkwX12_read_0 ++ dktX12_read_1
theorem dksX12_read_0 : cX12_read.data.toList.drop 0 = dktX12_read_0 := by decide +kernel
theorem dksX12_read_1 : cX12_read.data.toList.drop 22 = dktX12_read_1 := dk_seg dksX12_read_0 22 rfl rfl
theorem dksX12_read_2 : cX12_read.data.toList.drop 46 = dktX12_read_2 := dk_seg dksX12_read_1 24 rfl rfl
theorem dksX12_read_3 : cX12_read.data.toList.drop 70 = dktX12_read_3 := dk_seg dksX12_read_2 24 rfl rfl
theorem dksX12_read_4 : cX12_read.data.toList.drop 93 = dktX12_read_4 := dk_seg dksX12_read_3 23 rfl rfl
theorem dksX12_read_5 : cX12_read.data.toList.drop 117 = dktX12_read_5 := dk_seg dksX12_read_4 24 rfl rfl
theorem dksX12_read_6 : cX12_read.data.toList.drop 139 = dktX12_read_6 := dk_seg dksX12_read_5 22 rfl rfl
theorem dksX12_read_7 : cX12_read.data.toList.drop 161 = dktX12_read_7 := dk_seg dksX12_read_6 22 rfl rfl
theorem dksX12_read_8 : cX12_read.data.toList.drop 184 = dktX12_read_8 := dk_seg dksX12_read_7 23 rfl rfl
theorem dX12_read_0 : decode cX12_read 0 = .ok (.aload_n 0, 1) := dk_42 (dk_at dksX12_read_0 0 rfl rfl)
theorem dX12_read_1 : decode cX12_read 1 = .ok (.invokevirtual 25, 3) := dk_182 0 25 (dk_at dksX12_read_0 1 rfl rfl)
theorem dX12_read_4 : decode cX12_read 4 = .ok (.aload_n 0, 1) := dk_42 (dk_at dksX12_read_0 4 rfl rfl)
theorem dX12_read_5 : decode cX12_read 5 = .ok (.getfield 21, 3) := dk_180 0 21 (dk_at dksX12_read_0 5 rfl rfl)
theorem dX12_read_8 : decode cX12_read 8 = .ok (.getfield 29, 3) := dk_180 0 29 (dk_at dksX12_read_0 8 rfl rfl)
theorem dX12_read_11 : decode cX12_read 11 = .ok (.aload_n 0, 1) := dk_42 (dk_at dksX12_read_0 11 rfl rfl)
theorem dX12_read_12 : decode cX12_read 12 = .ok (.aload_n 0, 1) := dk_42 (dk_at dksX12_read_0 12 rfl rfl)
theorem dX12_read_13 : decode cX12_read 13 = .ok (.getfield 21, 3) := dk_180 0 21 (dk_at dksX12_read_0 13 rfl rfl)
theorem dX12_read_16 : decode cX12_read 16 = .ok (.getfield 29, 3) := dk_180 0 29 (dk_at dksX12_read_0 16 rfl rfl)
theorem dX12_read_19 : decode cX12_read 19 = .ok (.invokevirtual 35, 3) := dk_182 0 35 (dk_at dksX12_read_0 19 rfl rfl)
theorem dX12_read_22 : decode cX12_read 22 = .ok (.invokevirtual 39, 3) := dk_182 0 39 (dk_at dksX12_read_1 0 rfl rfl)
theorem dX12_read_25 : decode cX12_read 25 = .ok (.checkcast 45, 3) := dk_192 0 45 (dk_at dksX12_read_1 3 rfl rfl)
theorem dX12_read_28 : decode cX12_read 28 = .ok (.astore_n 1, 1) := dk_76 (dk_at dksX12_read_1 6 rfl rfl)
theorem dX12_read_29 : decode cX12_read 29 = .ok (.aload_n 0, 1) := dk_42 (dk_at dksX12_read_1 7 rfl rfl)
theorem dX12_read_30 : decode cX12_read 30 = .ok (.invokevirtual 25, 3) := dk_182 0 25 (dk_at dksX12_read_1 8 rfl rfl)
theorem dX12_read_33 : decode cX12_read 33 = .ok (.aload_n 0, 1) := dk_42 (dk_at dksX12_read_1 11 rfl rfl)
theorem dX12_read_34 : decode cX12_read 34 = .ok (.aload_n 0, 1) := dk_42 (dk_at dksX12_read_1 12 rfl rfl)
theorem dX12_read_35 : decode cX12_read 35 = .ok (.getfield 21, 3) := dk_180 0 21 (dk_at dksX12_read_1 13 rfl rfl)
theorem dX12_read_38 : decode cX12_read 38 = .ok (.invokevirtual 47, 3) := dk_182 0 47 (dk_at dksX12_read_1 16 rfl rfl)
theorem dX12_read_41 : decode cX12_read 41 = .ok (.istore_n 2, 1) := dk_61 (dk_at dksX12_read_1 19 rfl rfl)
theorem dX12_read_42 : decode cX12_read 42 = .ok (.aload_n 0, 1) := dk_42 (dk_at dksX12_read_1 20 rfl rfl)
theorem dX12_read_43 : decode cX12_read 43 = .ok (.invokevirtual 25, 3) := dk_182 0 25 (dk_at dksX12_read_1 21 rfl rfl)
theorem dX12_read_46 : decode cX12_read 46 = .ok (.aload_n 0, 1) := dk_42 (dk_at dksX12_read_2 0 rfl rfl)
theorem dX12_read_47 : decode cX12_read 47 = .ok (.invokevirtual 51, 3) := dk_182 0 51 (dk_at dksX12_read_2 1 rfl rfl)
theorem dX12_read_50 : decode cX12_read 50 = .ok (.aload_n 0, 1) := dk_42 (dk_at dksX12_read_2 4 rfl rfl)
theorem dX12_read_51 : decode cX12_read 51 = .ok (.getfield 21, 3) := dk_180 0 21 (dk_at dksX12_read_2 5 rfl rfl)
theorem dX12_read_54 : decode cX12_read 54 = .ok (.getfield 54, 3) := dk_180 0 54 (dk_at dksX12_read_2 8 rfl rfl)
theorem dX12_read_57 : decode cX12_read 57 = .ok (.iload_n 2, 1) := dk_28 (dk_at dksX12_read_2 11 rfl rfl)
theorem dX12_read_58 : decode cX12_read 58 = .ok (.baload, 1) := dk_51 (dk_at dksX12_read_2 12 rfl rfl)
theorem dX12_read_59 : decode cX12_read 59 = .ok (.ifCond .eq 11, 3) := dk_153 0 11 (dk_at dksX12_read_2 13 rfl rfl)
theorem dX12_read_62 : decode cX12_read 62 = .ok (.aload_n 0, 1) := dk_42 (dk_at dksX12_read_2 16 rfl rfl)
theorem dX12_read_63 : decode cX12_read 63 = .ok (.iconst 1, 1) := dk_4 (dk_at dksX12_read_2 17 rfl rfl)
theorem dX12_read_64 : decode cX12_read 64 = .ok (.invokevirtual 58, 3) := dk_182 0 58 (dk_at dksX12_read_2 18 rfl rfl)
theorem dX12_read_67 : decode cX12_read 67 = .ok (.goto 8, 3) := dk_167 0 8 (dk_at dksX12_read_2 21 rfl rfl)
theorem dX12_read_70 : decode cX12_read 70 = .ok (.aload_n 0, 1) := dk_42 (dk_at dksX12_read_3 0 rfl rfl)
theorem dX12_read_71 : decode cX12_read 71 = .ok (.iload_n 2, 1) := dk_28 (dk_at dksX12_read_3 1 rfl rfl)
theorem dX12_read_72 : decode cX12_read 72 = .ok (.putfield 15, 3) := dk_181 0 15 (dk_at dksX12_read_3 2 rfl rfl)
theorem dX12_read_75 : decode cX12_read 75 = .ok (.aload_n 0, 1) := dk_42 (dk_at dksX12_read_3 5 rfl rfl)
theorem dX12_read_76 : decode cX12_read 76 = .ok (.dup, 1) := dk_89 (dk_at dksX12_read_3 6 rfl rfl)
theorem dX12_read_77 : decode cX12_read 77 = .ok (.getfield 62, 3) := dk_180 0 62 (dk_at dksX12_read_3 7 rfl rfl)
theorem dX12_read_80 : decode cX12_read 80 = .ok (.iconst 1, 1) := dk_4 (dk_at dksX12_read_3 10 rfl rfl)
theorem dX12_read_81 : decode cX12_read 81 = .ok (.iadd, 1) := dk_96 (dk_at dksX12_read_3 11 rfl rfl)
theorem dX12_read_82 : decode cX12_read 82 = .ok (.putfield 62, 3) := dk_181 0 62 (dk_at dksX12_read_3 12 rfl rfl)
theorem dX12_read_85 : decode cX12_read 85 = .ok (.aload_n 0, 1) := dk_42 (dk_at dksX12_read_3 15 rfl rfl)
theorem dX12_read_86 : decode cX12_read 86 = .ok (.getfield 65, 3) := dk_180 0 65 (dk_at dksX12_read_3 16 rfl rfl)
theorem dX12_read_89 : decode cX12_read 89 = .ok (.ifCond .eq 98, 3) := dk_153 0 98 (dk_at dksX12_read_3 19 rfl rfl)
theorem dX12_read_92 : decode cX12_read 92 = .ok (.aload_n 0, 1) := dk_42 (dk_at dksX12_read_3 22 rfl rfl)
theorem dX12_read_93 : decode cX12_read 93 = .ok (.invokevirtual 68, 3) := dk_182 0 68 (dk_at dksX12_read_4 0 rfl rfl)
theorem dX12_read_96 : decode cX12_read 96 = .ok (.istore_n 3, 1) := dk_62 (dk_at dksX12_read_4 3 rfl rfl)
theorem dX12_read_97 : decode cX12_read 97 = .ok (.aload_n 0, 1) := dk_42 (dk_at dksX12_read_4 4 rfl rfl)
theorem dX12_read_98 : decode cX12_read 98 = .ok (.iload_n 3, 1) := dk_29 (dk_at dksX12_read_4 5 rfl rfl)
theorem dX12_read_99 : decode cX12_read 99 = .ok (.iconst (-1), 1) := dk_2 (dk_at dksX12_read_4 6 rfl rfl)
theorem dX12_read_100 : decode cX12_read 100 = .ok (.if_icmp .eq 7, 3) := dk_159 0 7 (dk_at dksX12_read_4 7 rfl rfl)
theorem dX12_read_103 : decode cX12_read 103 = .ok (.iconst 1, 1) := dk_4 (dk_at dksX12_read_4 10 rfl rfl)
theorem dX12_read_104 : decode cX12_read 104 = .ok (.goto 4, 3) := dk_167 0 4 (dk_at dksX12_read_4 11 rfl rfl)
theorem dX12_read_107 : decode cX12_read 107 = .ok (.iconst 0, 1) := dk_3 (dk_at dksX12_read_4 14 rfl rfl)
theorem dX12_read_108 : decode cX12_read 108 = .ok (.iconst 1, 1) := dk_4 (dk_at dksX12_read_4 15 rfl rfl)
theorem dX12_read_109 : decode cX12_read 109 = .ok (.invokevirtual 72, 3) := dk_182 0 72 (dk_at dksX12_read_4 16 rfl rfl)
theorem dX12_read_112 : decode cX12_read 112 = .ok (.aload_n 0, 1) := dk_42 (dk_at dksX12_read_4 19 rfl rfl)
theorem dX12_read_113 : decode cX12_read 113 = .ok (.aload_n 0, 1) := dk_42 (dk_at dksX12_read_4 20 rfl rfl)
theorem dX12_read_114 : decode cX12_read 114 = .ok (.getfield 62, 3) := dk_180 0 62 (dk_at dksX12_read_4 21 rfl rfl)
theorem dX12_read_117 : decode cX12_read 117 = .ok (.bipush 30, 2) := dk_16 30 (dk_at dksX12_read_5 0 rfl rfl)
theorem dX12_read_119 : decode cX12_read 119 = .ok (.if_icmp .gt 7, 3) := dk_163 0 7 (dk_at dksX12_read_5 2 rfl rfl)
theorem dX12_read_122 : decode cX12_read 122 = .ok (.iconst 1, 1) := dk_4 (dk_at dksX12_read_5 5 rfl rfl)
theorem dX12_read_123 : decode cX12_read 123 = .ok (.goto 4, 3) := dk_167 0 4 (dk_at dksX12_read_5 6 rfl rfl)
theorem dX12_read_126 : decode cX12_read 126 = .ok (.iconst 0, 1) := dk_3 (dk_at dksX12_read_5 9 rfl rfl)
theorem dX12_read_127 : decode cX12_read 127 = .ok (.iconst 4, 1) := dk_7 (dk_at dksX12_read_5 10 rfl rfl)
theorem dX12_read_128 : decode cX12_read 128 = .ok (.invokevirtual 72, 3) := dk_182 0 72 (dk_at dksX12_read_5 11 rfl rfl)
theorem dX12_read_131 : decode cX12_read 131 = .ok (.aload_n 0, 1) := dk_42 (dk_at dksX12_read_5 14 rfl rfl)
theorem dX12_read_132 : decode cX12_read 132 = .ok (.invokevirtual 25, 3) := dk_182 0 25 (dk_at dksX12_read_5 15 rfl rfl)
theorem dX12_read_135 : decode cX12_read 135 = .ok (.aload_n 0, 1) := dk_42 (dk_at dksX12_read_5 18 rfl rfl)
theorem dX12_read_136 : decode cX12_read 136 = .ok (.iconst 1, 1) := dk_4 (dk_at dksX12_read_5 19 rfl rfl)
theorem dX12_read_137 : decode cX12_read 137 = .ok (.bipush 11, 2) := dk_16 11 (dk_at dksX12_read_5 20 rfl rfl)
theorem dX12_read_139 : decode cX12_read 139 = .ok (.invokevirtual 76, 3) := dk_182 0 76 (dk_at dksX12_read_6 0 rfl rfl)
theorem dX12_read_142 : decode cX12_read 142 = .ok (.istore 4, 2) := dk_54 4 (dk_at dksX12_read_6 3 rfl rfl)
theorem dX12_read_144 : decode cX12_read 144 = .ok (.aload_n 0, 1) := dk_42 (dk_at dksX12_read_6 5 rfl rfl)
theorem dX12_read_145 : decode cX12_read 145 = .ok (.iconst 1, 1) := dk_4 (dk_at dksX12_read_6 6 rfl rfl)
theorem dX12_read_146 : decode cX12_read 146 = .ok (.bipush 99, 2) := dk_16 99 (dk_at dksX12_read_6 7 rfl rfl)
theorem dX12_read_148 : decode cX12_read 148 = .ok (.invokevirtual 76, 3) := dk_182 0 76 (dk_at dksX12_read_6 9 rfl rfl)
theorem dX12_read_151 : decode cX12_read 151 = .ok (.istore 5, 2) := dk_54 5 (dk_at dksX12_read_6 12 rfl rfl)
theorem dX12_read_153 : decode cX12_read 153 = .ok (.aload_n 0, 1) := dk_42 (dk_at dksX12_read_6 14 rfl rfl)
theorem dX12_read_154 : decode cX12_read 154 = .ok (.invokevirtual 51, 3) := dk_182 0 51 (dk_at dksX12_read_6 15 rfl rfl)
theorem dX12_read_157 : decode cX12_read 157 = .ok (.aload_n 0, 1) := dk_42 (dk_at dksX12_read_6 18 rfl rfl)
theorem dX12_read_158 : decode cX12_read 158 = .ok (.getfield 80, 3) := dk_180 0 80 (dk_at dksX12_read_6 19 rfl rfl)
theorem dX12_read_161 : decode cX12_read 161 = .ok (.ifCond .ne 13, 3) := dk_154 0 13 (dk_at dksX12_read_7 0 rfl rfl)
theorem dX12_read_164 : decode cX12_read 164 = .ok (.aload_n 0, 1) := dk_42 (dk_at dksX12_read_7 3 rfl rfl)
theorem dX12_read_165 : decode cX12_read 165 = .ok (.aload_n 1, 1) := dk_43 (dk_at dksX12_read_7 4 rfl rfl)
theorem dX12_read_166 : decode cX12_read 166 = .ok (.iload_n 3, 1) := dk_29 (dk_at dksX12_read_7 5 rfl rfl)
theorem dX12_read_167 : decode cX12_read 167 = .ok (.iload 4, 2) := dk_21 4 (dk_at dksX12_read_7 6 rfl rfl)
theorem dX12_read_169 : decode cX12_read 169 = .ok (.iload 5, 2) := dk_21 5 (dk_at dksX12_read_7 8 rfl rfl)
theorem dX12_read_171 : decode cX12_read 171 = .ok (.invokevirtual 83, 3) := dk_182 0 83 (dk_at dksX12_read_7 10 rfl rfl)
theorem dX12_read_174 : decode cX12_read 174 = .ok (.aload_n 0, 1) := dk_42 (dk_at dksX12_read_7 13 rfl rfl)
theorem dX12_read_175 : decode cX12_read 175 = .ok (.dup, 1) := dk_89 (dk_at dksX12_read_7 14 rfl rfl)
theorem dX12_read_176 : decode cX12_read 176 = .ok (.getfield 62, 3) := dk_180 0 62 (dk_at dksX12_read_7 15 rfl rfl)
theorem dX12_read_179 : decode cX12_read 179 = .ok (.iconst 1, 1) := dk_4 (dk_at dksX12_read_7 18 rfl rfl)
theorem dX12_read_180 : decode cX12_read 180 = .ok (.iadd, 1) := dk_96 (dk_at dksX12_read_7 19 rfl rfl)
theorem dX12_read_181 : decode cX12_read 181 = .ok (.putfield 62, 3) := dk_181 0 62 (dk_at dksX12_read_7 20 rfl rfl)
theorem dX12_read_184 : decode cX12_read 184 = .ok (.goto (-99), 3) := dk_167 255 157 (dk_at dksX12_read_8 0 rfl rfl)
theorem dX12_read_187 : decode cX12_read 187 = .ok (.aload_n 0, 1) := dk_42 (dk_at dksX12_read_8 3 rfl rfl)
theorem dX12_read_188 : decode cX12_read 188 = .ok (.areturn, 1) := dk_176 (dk_at dksX12_read_8 4 rfl rfl)
abbrev cX12_judge : ByteArray := prog_16_method_3_code
def yX12_judge : MethodName := ⟨RX12, "judge", "(I)V"⟩
def dkwX12_judge_0 : List UInt8 := [42, 27, 181, 0, 80, 42, 42, 180, 0, 62, 181, 0, 9, 177]
abbrev dktX12_judge_0 : List UInt8 := dkwX12_judge_0 ++ []
theorem dksX12_judge_0 : cX12_judge.data.toList.drop 0 = dktX12_judge_0 := by decide +kernel
theorem dX12_judge_0 : decode cX12_judge 0 = .ok (.aload_n 0, 1) := dk_42 (dk_at dksX12_judge_0 0 rfl rfl)
theorem dX12_judge_1 : decode cX12_judge 1 = .ok (.iload_n 1, 1) := dk_27 (dk_at dksX12_judge_0 1 rfl rfl)
theorem dX12_judge_2 : decode cX12_judge 2 = .ok (.putfield 80, 3) := dk_181 0 80 (dk_at dksX12_judge_0 2 rfl rfl)
theorem dX12_judge_5 : decode cX12_judge 5 = .ok (.aload_n 0, 1) := dk_42 (dk_at dksX12_judge_0 5 rfl rfl)
theorem dX12_judge_6 : decode cX12_judge 6 = .ok (.aload_n 0, 1) := dk_42 (dk_at dksX12_judge_0 6 rfl rfl)
theorem dX12_judge_7 : decode cX12_judge 7 = .ok (.getfield 62, 3) := dk_180 0 62 (dk_at dksX12_judge_0 7 rfl rfl)
theorem dX12_judge_10 : decode cX12_judge 10 = .ok (.putfield 9, 3) := dk_181 0 9 (dk_at dksX12_judge_0 10 rfl rfl)
theorem dX12_judge_13 : decode cX12_judge 13 = .ok (.return_, 1) := dk_177 (dk_at dksX12_judge_0 13 rfl rfl)
abbrev cX12_goes : ByteArray := prog_16_method_4_code
def yX12_goes : MethodName := ⟨RX12, "goes", "(LRugReader$Person;III)V"⟩
def dkwX12_goes_6 : List UInt8 := [42, 28, 181, 0, 18, 177]
abbrev dktX12_goes_6 : List UInt8 := dkwX12_goes_6 ++ []
def dkwX12_goes_5 : List UInt8 := [181, 0, 15, 42, 89, 180, 0, 93, 29, 96, 181, 0, 93, 42, 89, 180, 0, 96, 21, 4, 96, 181, 0, 96]
abbrev dktX12_goes_5 : List UInt8 := dkwX12_goes_5 ++ dktX12_goes_6
def dkwX12_goes_4 : List UInt8 := [21, 4, 4, 160, 0, 8, 42, 6, 182, 0, 58, 42, 180, 0, 80, 153, 0, 4, 177, 42, 21, 5]
abbrev dktX12_goes_4 : List UInt8 := dkwX12_goes_4 ++ dktX12_goes_5
def dkwX12_goes_3 : List UInt8 := [167, 0, 34, 42, 180, 0, 18, 2, 159, 0, 26, 28, 42, 180, 0, 18, 5, 96, 7, 112, 160, 0, 14]
abbrev dktX12_goes_3 : List UInt8 := dkwX12_goes_3 ++ dktX12_goes_4
def dkwX12_goes_2 : List UInt8 := [4, 182, 0, 58, 167, 0, 53, 29, 43, 180, 0, 90, 21, 4, 104, 164, 0, 11, 42, 5, 182, 0, 58]
abbrev dktX12_goes_2 : List UInt8 := dkwX12_goes_2 ++ dktX12_goes_3
def dkwX12_goes_1 : List UInt8 := [180, 0, 21, 21, 5, 28, 182, 0, 87, 54, 5, 132, 6, 1, 167, 255, 229, 21, 5, 2, 160, 0, 11, 42]
abbrev dktX12_goes_1 : List UInt8 := dkwX12_goes_1 ++ dktX12_goes_2
def dkwX12_goes_0 : List UInt8 := [42, 180, 0, 15, 54, 5, 3, 54, 6, 21, 6, 29, 162, 0, 27, 21, 5, 2, 159, 0, 21, 42]
abbrev dktX12_goes_0 : List UInt8 := dkwX12_goes_0 ++ dktX12_goes_1
theorem dksX12_goes_0 : cX12_goes.data.toList.drop 0 = dktX12_goes_0 := by decide +kernel
theorem dksX12_goes_1 : cX12_goes.data.toList.drop 22 = dktX12_goes_1 := dk_seg dksX12_goes_0 22 rfl rfl
theorem dksX12_goes_2 : cX12_goes.data.toList.drop 46 = dktX12_goes_2 := dk_seg dksX12_goes_1 24 rfl rfl
theorem dksX12_goes_3 : cX12_goes.data.toList.drop 69 = dktX12_goes_3 := dk_seg dksX12_goes_2 23 rfl rfl
theorem dksX12_goes_4 : cX12_goes.data.toList.drop 92 = dktX12_goes_4 := dk_seg dksX12_goes_3 23 rfl rfl
theorem dksX12_goes_5 : cX12_goes.data.toList.drop 114 = dktX12_goes_5 := dk_seg dksX12_goes_4 22 rfl rfl
theorem dksX12_goes_6 : cX12_goes.data.toList.drop 138 = dktX12_goes_6 := dk_seg dksX12_goes_5 24 rfl rfl
theorem dX12_goes_0 : decode cX12_goes 0 = .ok (.aload_n 0, 1) := dk_42 (dk_at dksX12_goes_0 0 rfl rfl)
theorem dX12_goes_1 : decode cX12_goes 1 = .ok (.getfield 15, 3) := dk_180 0 15 (dk_at dksX12_goes_0 1 rfl rfl)
theorem dX12_goes_4 : decode cX12_goes 4 = .ok (.istore 5, 2) := dk_54 5 (dk_at dksX12_goes_0 4 rfl rfl)
theorem dX12_goes_6 : decode cX12_goes 6 = .ok (.iconst 0, 1) := dk_3 (dk_at dksX12_goes_0 6 rfl rfl)
theorem dX12_goes_7 : decode cX12_goes 7 = .ok (.istore 6, 2) := dk_54 6 (dk_at dksX12_goes_0 7 rfl rfl)
theorem dX12_goes_9 : decode cX12_goes 9 = .ok (.iload 6, 2) := dk_21 6 (dk_at dksX12_goes_0 9 rfl rfl)
theorem dX12_goes_11 : decode cX12_goes 11 = .ok (.iload_n 3, 1) := dk_29 (dk_at dksX12_goes_0 11 rfl rfl)
theorem dX12_goes_12 : decode cX12_goes 12 = .ok (.if_icmp .ge 27, 3) := dk_162 0 27 (dk_at dksX12_goes_0 12 rfl rfl)
theorem dX12_goes_15 : decode cX12_goes 15 = .ok (.iload 5, 2) := dk_21 5 (dk_at dksX12_goes_0 15 rfl rfl)
theorem dX12_goes_17 : decode cX12_goes 17 = .ok (.iconst (-1), 1) := dk_2 (dk_at dksX12_goes_0 17 rfl rfl)
theorem dX12_goes_18 : decode cX12_goes 18 = .ok (.if_icmp .eq 21, 3) := dk_159 0 21 (dk_at dksX12_goes_0 18 rfl rfl)
theorem dX12_goes_21 : decode cX12_goes 21 = .ok (.aload_n 0, 1) := dk_42 (dk_at dksX12_goes_0 21 rfl rfl)
theorem dX12_goes_22 : decode cX12_goes 22 = .ok (.getfield 21, 3) := dk_180 0 21 (dk_at dksX12_goes_1 0 rfl rfl)
theorem dX12_goes_25 : decode cX12_goes 25 = .ok (.iload 5, 2) := dk_21 5 (dk_at dksX12_goes_1 3 rfl rfl)
theorem dX12_goes_27 : decode cX12_goes 27 = .ok (.iload_n 2, 1) := dk_28 (dk_at dksX12_goes_1 5 rfl rfl)
theorem dX12_goes_28 : decode cX12_goes 28 = .ok (.invokevirtual 87, 3) := dk_182 0 87 (dk_at dksX12_goes_1 6 rfl rfl)
theorem dX12_goes_31 : decode cX12_goes 31 = .ok (.istore 5, 2) := dk_54 5 (dk_at dksX12_goes_1 9 rfl rfl)
theorem dX12_goes_33 : decode cX12_goes 33 = .ok (.iinc 6 1, 3) := dk_132 6 1 (dk_at dksX12_goes_1 11 rfl rfl)
theorem dX12_goes_36 : decode cX12_goes 36 = .ok (.goto (-27), 3) := dk_167 255 229 (dk_at dksX12_goes_1 14 rfl rfl)
theorem dX12_goes_39 : decode cX12_goes 39 = .ok (.iload 5, 2) := dk_21 5 (dk_at dksX12_goes_1 17 rfl rfl)
theorem dX12_goes_41 : decode cX12_goes 41 = .ok (.iconst (-1), 1) := dk_2 (dk_at dksX12_goes_1 19 rfl rfl)
theorem dX12_goes_42 : decode cX12_goes 42 = .ok (.if_icmp .ne 11, 3) := dk_160 0 11 (dk_at dksX12_goes_1 20 rfl rfl)
theorem dX12_goes_45 : decode cX12_goes 45 = .ok (.aload_n 0, 1) := dk_42 (dk_at dksX12_goes_1 23 rfl rfl)
theorem dX12_goes_46 : decode cX12_goes 46 = .ok (.iconst 1, 1) := dk_4 (dk_at dksX12_goes_2 0 rfl rfl)
theorem dX12_goes_47 : decode cX12_goes 47 = .ok (.invokevirtual 58, 3) := dk_182 0 58 (dk_at dksX12_goes_2 1 rfl rfl)
theorem dX12_goes_50 : decode cX12_goes 50 = .ok (.goto 53, 3) := dk_167 0 53 (dk_at dksX12_goes_2 4 rfl rfl)
theorem dX12_goes_53 : decode cX12_goes 53 = .ok (.iload_n 3, 1) := dk_29 (dk_at dksX12_goes_2 7 rfl rfl)
theorem dX12_goes_54 : decode cX12_goes 54 = .ok (.aload_n 1, 1) := dk_43 (dk_at dksX12_goes_2 8 rfl rfl)
theorem dX12_goes_55 : decode cX12_goes 55 = .ok (.getfield 90, 3) := dk_180 0 90 (dk_at dksX12_goes_2 9 rfl rfl)
theorem dX12_goes_58 : decode cX12_goes 58 = .ok (.iload 4, 2) := dk_21 4 (dk_at dksX12_goes_2 12 rfl rfl)
theorem dX12_goes_60 : decode cX12_goes 60 = .ok (.imul, 1) := dk_104 (dk_at dksX12_goes_2 14 rfl rfl)
theorem dX12_goes_61 : decode cX12_goes 61 = .ok (.if_icmp .le 11, 3) := dk_164 0 11 (dk_at dksX12_goes_2 15 rfl rfl)
theorem dX12_goes_64 : decode cX12_goes 64 = .ok (.aload_n 0, 1) := dk_42 (dk_at dksX12_goes_2 18 rfl rfl)
theorem dX12_goes_65 : decode cX12_goes 65 = .ok (.iconst 2, 1) := dk_5 (dk_at dksX12_goes_2 19 rfl rfl)
theorem dX12_goes_66 : decode cX12_goes 66 = .ok (.invokevirtual 58, 3) := dk_182 0 58 (dk_at dksX12_goes_2 20 rfl rfl)
theorem dX12_goes_69 : decode cX12_goes 69 = .ok (.goto 34, 3) := dk_167 0 34 (dk_at dksX12_goes_3 0 rfl rfl)
theorem dX12_goes_72 : decode cX12_goes 72 = .ok (.aload_n 0, 1) := dk_42 (dk_at dksX12_goes_3 3 rfl rfl)
theorem dX12_goes_73 : decode cX12_goes 73 = .ok (.getfield 18, 3) := dk_180 0 18 (dk_at dksX12_goes_3 4 rfl rfl)
theorem dX12_goes_76 : decode cX12_goes 76 = .ok (.iconst (-1), 1) := dk_2 (dk_at dksX12_goes_3 7 rfl rfl)
theorem dX12_goes_77 : decode cX12_goes 77 = .ok (.if_icmp .eq 26, 3) := dk_159 0 26 (dk_at dksX12_goes_3 8 rfl rfl)
theorem dX12_goes_80 : decode cX12_goes 80 = .ok (.iload_n 2, 1) := dk_28 (dk_at dksX12_goes_3 11 rfl rfl)
theorem dX12_goes_81 : decode cX12_goes 81 = .ok (.aload_n 0, 1) := dk_42 (dk_at dksX12_goes_3 12 rfl rfl)
theorem dX12_goes_82 : decode cX12_goes 82 = .ok (.getfield 18, 3) := dk_180 0 18 (dk_at dksX12_goes_3 13 rfl rfl)
theorem dX12_goes_85 : decode cX12_goes 85 = .ok (.iconst 2, 1) := dk_5 (dk_at dksX12_goes_3 16 rfl rfl)
theorem dX12_goes_86 : decode cX12_goes 86 = .ok (.iadd, 1) := dk_96 (dk_at dksX12_goes_3 17 rfl rfl)
theorem dX12_goes_87 : decode cX12_goes 87 = .ok (.iconst 4, 1) := dk_7 (dk_at dksX12_goes_3 18 rfl rfl)
theorem dX12_goes_88 : decode cX12_goes 88 = .ok (.irem, 1) := dk_112 (dk_at dksX12_goes_3 19 rfl rfl)
theorem dX12_goes_89 : decode cX12_goes 89 = .ok (.if_icmp .ne 14, 3) := dk_160 0 14 (dk_at dksX12_goes_3 20 rfl rfl)
theorem dX12_goes_92 : decode cX12_goes 92 = .ok (.iload 4, 2) := dk_21 4 (dk_at dksX12_goes_4 0 rfl rfl)
theorem dX12_goes_94 : decode cX12_goes 94 = .ok (.iconst 1, 1) := dk_4 (dk_at dksX12_goes_4 2 rfl rfl)
theorem dX12_goes_95 : decode cX12_goes 95 = .ok (.if_icmp .ne 8, 3) := dk_160 0 8 (dk_at dksX12_goes_4 3 rfl rfl)
theorem dX12_goes_98 : decode cX12_goes 98 = .ok (.aload_n 0, 1) := dk_42 (dk_at dksX12_goes_4 6 rfl rfl)
theorem dX12_goes_99 : decode cX12_goes 99 = .ok (.iconst 3, 1) := dk_6 (dk_at dksX12_goes_4 7 rfl rfl)
theorem dX12_goes_100 : decode cX12_goes 100 = .ok (.invokevirtual 58, 3) := dk_182 0 58 (dk_at dksX12_goes_4 8 rfl rfl)
theorem dX12_goes_103 : decode cX12_goes 103 = .ok (.aload_n 0, 1) := dk_42 (dk_at dksX12_goes_4 11 rfl rfl)
theorem dX12_goes_104 : decode cX12_goes 104 = .ok (.getfield 80, 3) := dk_180 0 80 (dk_at dksX12_goes_4 12 rfl rfl)
theorem dX12_goes_107 : decode cX12_goes 107 = .ok (.ifCond .eq 4, 3) := dk_153 0 4 (dk_at dksX12_goes_4 15 rfl rfl)
theorem dX12_goes_110 : decode cX12_goes 110 = .ok (.return_, 1) := dk_177 (dk_at dksX12_goes_4 18 rfl rfl)
theorem dX12_goes_111 : decode cX12_goes 111 = .ok (.aload_n 0, 1) := dk_42 (dk_at dksX12_goes_4 19 rfl rfl)
theorem dX12_goes_112 : decode cX12_goes 112 = .ok (.iload 5, 2) := dk_21 5 (dk_at dksX12_goes_4 20 rfl rfl)
theorem dX12_goes_114 : decode cX12_goes 114 = .ok (.putfield 15, 3) := dk_181 0 15 (dk_at dksX12_goes_5 0 rfl rfl)
theorem dX12_goes_117 : decode cX12_goes 117 = .ok (.aload_n 0, 1) := dk_42 (dk_at dksX12_goes_5 3 rfl rfl)
theorem dX12_goes_118 : decode cX12_goes 118 = .ok (.dup, 1) := dk_89 (dk_at dksX12_goes_5 4 rfl rfl)
theorem dX12_goes_119 : decode cX12_goes 119 = .ok (.getfield 93, 3) := dk_180 0 93 (dk_at dksX12_goes_5 5 rfl rfl)
theorem dX12_goes_122 : decode cX12_goes 122 = .ok (.iload_n 3, 1) := dk_29 (dk_at dksX12_goes_5 8 rfl rfl)
theorem dX12_goes_123 : decode cX12_goes 123 = .ok (.iadd, 1) := dk_96 (dk_at dksX12_goes_5 9 rfl rfl)
theorem dX12_goes_124 : decode cX12_goes 124 = .ok (.putfield 93, 3) := dk_181 0 93 (dk_at dksX12_goes_5 10 rfl rfl)
theorem dX12_goes_127 : decode cX12_goes 127 = .ok (.aload_n 0, 1) := dk_42 (dk_at dksX12_goes_5 13 rfl rfl)
theorem dX12_goes_128 : decode cX12_goes 128 = .ok (.dup, 1) := dk_89 (dk_at dksX12_goes_5 14 rfl rfl)
theorem dX12_goes_129 : decode cX12_goes 129 = .ok (.getfield 96, 3) := dk_180 0 96 (dk_at dksX12_goes_5 15 rfl rfl)
theorem dX12_goes_132 : decode cX12_goes 132 = .ok (.iload 4, 2) := dk_21 4 (dk_at dksX12_goes_5 18 rfl rfl)
theorem dX12_goes_134 : decode cX12_goes 134 = .ok (.iadd, 1) := dk_96 (dk_at dksX12_goes_5 20 rfl rfl)
theorem dX12_goes_135 : decode cX12_goes 135 = .ok (.putfield 96, 3) := dk_181 0 96 (dk_at dksX12_goes_5 21 rfl rfl)
theorem dX12_goes_138 : decode cX12_goes 138 = .ok (.aload_n 0, 1) := dk_42 (dk_at dksX12_goes_6 0 rfl rfl)
theorem dX12_goes_139 : decode cX12_goes 139 = .ok (.iload_n 2, 1) := dk_28 (dk_at dksX12_goes_6 1 rfl rfl)
theorem dX12_goes_140 : decode cX12_goes 140 = .ok (.putfield 18, 3) := dk_181 0 18 (dk_at dksX12_goes_6 2 rfl rfl)
theorem dX12_goes_143 : decode cX12_goes 143 = .ok (.return_, 1) := dk_177 (dk_at dksX12_goes_6 5 rfl rfl)
theorem q135 : (Jvm.Cond.initialized "RugReader$WalkReader") ∈ lw_all := lw_g (lw_at lw_m1 33 rfl) rfl
theorem q201 : (Jvm.Cond.fieldLinkNest "RugReader$WalkReader" (29 : Nat) "RugReader$House" "people" "Ljava/util/ArrayList;" "RugReader") ∈ lw_tbl := lw_at lw_m1 99 rfl
theorem q215 : (Jvm.Cond.fieldLinkNest "RugReader$WalkReader" (54 : Nat) "RugReader$House" "wall" "[Z" "RugReader") ∈ lw_tbl := lw_at lw_m1 113 rfl
theorem q464 : (Jvm.Cond.fieldLink "RugReader$WalkReader" (65 : Nat) "RugReader$WalkReader" "kind" "I") ∈ lw_all := lw_g (lw_at lw_m2 122 rfl) rfl
theorem q465 : (Jvm.Cond.sameField "RugReader$WalkReader" "RugReader$Reader" "kind" "I") ∈ lw_all := lw_g (lw_at lw_m2 123 rfl) rfl
theorem q817 : (Jvm.Cond.selects "RugReader$WalkReader" ({ cls := "RugReader$Reader", name := "hold", desc := "(II)I" } : Jvm.MethodName) ({ cls := "RugReader$Reader", name := "hold", desc := "(II)I" } : Jvm.MethodName)) ∈ lw_all := lw_g (lw_at lw_m3 235 rfl) rfl
theorem q956 : (Jvm.Cond.fieldLinkNest "RugReader$WalkReader" (90 : Nat) "RugReader$Person" "pace" "I" "RugReader") ∈ lw_tbl := lw_at lw_m4 134 rfl
theorem q1004 : (Jvm.Cond.selects "RugReader$WalkReader" ({ cls := "java/lang/Object", name := "getClass", desc := "()Ljava/lang/Class;" } : Jvm.MethodName) ({ cls := "java/lang/Object", name := "getClass", desc := "()Ljava/lang/Class;" } : Jvm.MethodName)) ∈ lw_all := lw_g (lw_at lw_m4 182 rfl) rfl
theorem q1324 : (Jvm.Cond.instantiable "RugReader$WalkReader" (17 : Nat)) ∈ lw_all := lw_g (lw_at lw_m6 22 rfl) rfl
theorem q1326 : (Jvm.Cond.instanceMethod ({ cls := "RugReader$WalkReader", name := "<init>", desc := "([BILRugReader$House;)V" } : Jvm.MethodName)) ∈ lw_all := lw_g (lw_at lw_m6 24 rfl) rfl
theorem q1327 : (Jvm.Cond.code ({ cls := "RugReader$WalkReader", name := "<init>", desc := "([BILRugReader$House;)V" } : Jvm.MethodName) prog_16_method_1_code (4 : Nat) (Option.none : Option Jvm.ClassFile.FieldType)) ∈ lw_all := lw_g (lw_at lw_m6 25 rfl) rfl
theorem q1328 : (Jvm.Cond.methodLink "RugReader$WalkReader" (3 : Nat) ({ cls := "RugReader$Reader", name := "<init>", desc := "([BII)V" } : Jvm.MethodName)) ∈ lw_all := lw_g (lw_at lw_m6 26 rfl) rfl
theorem q1329 : (Jvm.Cond.fieldLink "RugReader$WalkReader" (21 : Nat) "RugReader$WalkReader" "h" "LRugReader$House;") ∈ lw_all := lw_g (lw_at lw_m6 27 rfl) rfl
theorem q1330 : (Jvm.Cond.fieldLink "RugReader$WalkReader" (80 : Nat) "RugReader$WalkReader" "why" "I") ∈ lw_all := lw_g (lw_at lw_m6 28 rfl) rfl
theorem q1332 : (Jvm.Cond.fieldLink "RugReader$WalkReader" (9 : Nat) "RugReader$WalkReader" "wrong" "I") ∈ lw_all := lw_g (lw_at lw_m6 30 rfl) rfl
theorem q1334 : (Jvm.Cond.fieldLink "RugReader$WalkReader" (62 : Nat) "RugReader$WalkReader" "lines" "I") ∈ lw_all := lw_g (lw_at lw_m6 32 rfl) rfl
theorem q1335 : (Jvm.Cond.fieldLink "RugReader$WalkReader" (15 : Nat) "RugReader$WalkReader" "tuft" "I") ∈ lw_all := lw_g (lw_at lw_m6 33 rfl) rfl
theorem q1337 : (Jvm.Cond.fieldLink "RugReader$WalkReader" (93 : Nat) "RugReader$WalkReader" "tufts" "I") ∈ lw_all := lw_g (lw_at lw_m6 35 rfl) rfl
theorem q1339 : (Jvm.Cond.fieldLink "RugReader$WalkReader" (96 : Nat) "RugReader$WalkReader" "minutes" "I") ∈ lw_all := lw_g (lw_at lw_m6 37 rfl) rfl
theorem q1341 : (Jvm.Cond.fieldLink "RugReader$WalkReader" (18 : Nat) "RugReader$WalkReader" "came" "I") ∈ lw_all := lw_g (lw_at lw_m6 39 rfl) rfl
theorem q1342 : (Jvm.Cond.laysFinal "RugReader$WalkReader" "RugReader$WalkReader" "h" "LRugReader$House;") ∈ lw_all := lw_g (lw_at lw_m6 40 rfl) rfl
theorem q1343 : (Jvm.Cond.soleField "RugReader$WalkReader" "h") ∈ lw_all := lw_g (lw_at lw_m6 41 rfl) rfl
theorem q1344 : (Jvm.Cond.lays "RugReader$WalkReader" "RugReader$WalkReader" "why" "I") ∈ lw_all := lw_g (lw_at lw_m6 42 rfl) rfl
theorem q1345 : (Jvm.Cond.soleField "RugReader$WalkReader" "why") ∈ lw_all := lw_g (lw_at lw_m6 43 rfl) rfl
theorem q1346 : (Jvm.Cond.lays "RugReader$WalkReader" "RugReader$WalkReader" "wrong" "I") ∈ lw_all := lw_g (lw_at lw_m6 44 rfl) rfl
theorem q1347 : (Jvm.Cond.soleField "RugReader$WalkReader" "wrong") ∈ lw_all := lw_g (lw_at lw_m6 45 rfl) rfl
theorem q1348 : (Jvm.Cond.lays "RugReader$WalkReader" "RugReader$WalkReader" "lines" "I") ∈ lw_all := lw_g (lw_at lw_m6 46 rfl) rfl
theorem q1349 : (Jvm.Cond.soleField "RugReader$WalkReader" "lines") ∈ lw_all := lw_g (lw_at lw_m6 47 rfl) rfl
theorem q1350 : (Jvm.Cond.lays "RugReader$WalkReader" "RugReader$WalkReader" "tuft" "I") ∈ lw_all := lw_g (lw_at lw_m6 48 rfl) rfl
theorem q1351 : (Jvm.Cond.soleField "RugReader$WalkReader" "tuft") ∈ lw_all := lw_g (lw_at lw_m6 49 rfl) rfl
theorem q1352 : (Jvm.Cond.lays "RugReader$WalkReader" "RugReader$WalkReader" "tufts" "I") ∈ lw_all := lw_g (lw_at lw_m6 50 rfl) rfl
theorem q1353 : (Jvm.Cond.soleField "RugReader$WalkReader" "tufts") ∈ lw_all := lw_g (lw_at lw_m6 51 rfl) rfl
theorem q1354 : (Jvm.Cond.lays "RugReader$WalkReader" "RugReader$WalkReader" "minutes" "I") ∈ lw_all := lw_g (lw_at lw_m6 52 rfl) rfl
theorem q1355 : (Jvm.Cond.soleField "RugReader$WalkReader" "minutes") ∈ lw_all := lw_g (lw_at lw_m6 53 rfl) rfl
theorem q1356 : (Jvm.Cond.lays "RugReader$WalkReader" "RugReader$WalkReader" "came" "I") ∈ lw_all := lw_g (lw_at lw_m6 54 rfl) rfl
theorem q1357 : (Jvm.Cond.soleField "RugReader$WalkReader" "came") ∈ lw_all := lw_g (lw_at lw_m6 55 rfl) rfl
theorem q1358 : (Jvm.Cond.laysFinal "RugReader$WalkReader" "RugReader$Reader" "tape" "[B") ∈ lw_all := lw_g (lw_at lw_m6 56 rfl) rfl
theorem q1359 : (Jvm.Cond.laysFinal "RugReader$WalkReader" "RugReader$Reader" "size" "I") ∈ lw_all := lw_g (lw_at lw_m6 57 rfl) rfl
theorem q1360 : (Jvm.Cond.laysFinal "RugReader$WalkReader" "RugReader$Reader" "limit" "I") ∈ lw_all := lw_g (lw_at lw_m6 58 rfl) rfl
theorem q1361 : (Jvm.Cond.lays "RugReader$WalkReader" "RugReader$Reader" "to" "I") ∈ lw_all := lw_g (lw_at lw_m6 59 rfl) rfl
theorem q1362 : (Jvm.Cond.lays "RugReader$WalkReader" "RugReader$Reader" "kind" "I") ∈ lw_all := lw_g (lw_at lw_m6 60 rfl) rfl
theorem q1363 : (Jvm.Cond.lays "RugReader$WalkReader" "RugReader$Reader" "from" "I") ∈ lw_all := lw_g (lw_at lw_m6 61 rfl) rfl
theorem q1364 : (Jvm.Cond.lays "RugReader$WalkReader" "RugReader$Reader" "number" "I") ∈ lw_all := lw_g (lw_at lw_m6 62 rfl) rfl
theorem q1365 : (Jvm.Cond.lays "RugReader$WalkReader" "RugReader$Reader" "sign" "I") ∈ lw_all := lw_g (lw_at lw_m6 63 rfl) rfl
theorem q1366 : (Jvm.Cond.lays "RugReader$WalkReader" "RugReader$Reader" "word" "Ljava/lang/String;") ∈ lw_all := lw_g (lw_at lw_m6 64 rfl) rfl
theorem q1367 : (Jvm.Cond.superclass "RugReader$WalkReader" "RugReader$Reader") ∈ lw_all := lw_g (lw_at lw_m6 65 rfl) rfl
theorem q1369 : (Jvm.Cond.instanceMethod ({ cls := "RugReader$WalkReader", name := "read", desc := "()LRugReader$WalkReader;" } : Jvm.MethodName)) ∈ lw_all := lw_g (lw_at lw_m6 67 rfl) rfl
theorem q1370 : (Jvm.Cond.selects "RugReader$WalkReader" ({ cls := "RugReader$WalkReader", name := "read", desc := "()LRugReader$WalkReader;" } : Jvm.MethodName) ({ cls := "RugReader$WalkReader", name := "read", desc := "()LRugReader$WalkReader;" } : Jvm.MethodName)) ∈ lw_all := lw_g (lw_at lw_m6 68 rfl) rfl
theorem q1371 : (Jvm.Cond.code ({ cls := "RugReader$WalkReader", name := "read", desc := "()LRugReader$WalkReader;" } : Jvm.MethodName) prog_16_method_2_code (6 : Nat) (Option.some (Jvm.ClassFile.FieldType.object "RugReader$WalkReader"))) ∈ lw_all := lw_g (lw_at lw_m6 69 rfl) rfl
theorem q1372 : (Jvm.Cond.methodLink "RugReader$WalkReader" (25 : Nat) ({ cls := "RugReader$WalkReader", name := "go", desc := "()V" } : Jvm.MethodName)) ∈ lw_all := lw_g (lw_at lw_m6 70 rfl) rfl
theorem q1373 : (Jvm.Cond.sameMethod "RugReader$WalkReader" "RugReader$Reader" "go" "()V") ∈ lw_all := lw_g (lw_at lw_m6 71 rfl) rfl
theorem q1374 : (Jvm.Cond.selects "RugReader$WalkReader" ({ cls := "RugReader$WalkReader", name := "go", desc := "()V" } : Jvm.MethodName) ({ cls := "RugReader$Reader", name := "go", desc := "()V" } : Jvm.MethodName)) ∈ lw_all := lw_g (lw_at lw_m6 72 rfl) rfl
theorem q1375 : (Jvm.Cond.methodLink "RugReader$WalkReader" (35 : Nat) ({ cls := "RugReader$WalkReader", name := "holdOne", desc := "(Ljava/util/ArrayList;)I" } : Jvm.MethodName)) ∈ lw_all := lw_g (lw_at lw_m6 73 rfl) rfl
theorem q1376 : (Jvm.Cond.sameMethod "RugReader$WalkReader" "RugReader$Reader" "holdOne" "(Ljava/util/ArrayList;)I") ∈ lw_all := lw_g (lw_at lw_m6 74 rfl) rfl
theorem q1378 : (Jvm.Cond.selects "RugReader$WalkReader" ({ cls := "RugReader$WalkReader", name := "holdOne", desc := "(Ljava/util/ArrayList;)I" } : Jvm.MethodName) ({ cls := "RugReader$Reader", name := "holdOne", desc := "(Ljava/util/ArrayList;)I" } : Jvm.MethodName)) ∈ lw_all := lw_g (lw_at lw_m6 76 rfl) rfl
theorem q1383 : (Jvm.Cond.methodLink "RugReader$WalkReader" (39 : Nat) ({ cls := "java/util/ArrayList", name := "get", desc := "(I)Ljava/lang/Object;" } : Jvm.MethodName)) ∈ lw_all := lw_g (lw_at lw_m6 81 rfl) rfl
theorem q1384 : (Jvm.Cond.classLink "RugReader$WalkReader" (45 : Nat) "RugReader$Person") ∈ lw_all := lw_g (lw_at lw_m6 82 rfl) rfl
theorem q1385 : (Jvm.Cond.methodLink "RugReader$WalkReader" (47 : Nat) ({ cls := "RugReader$WalkReader", name := "holdTuft", desc := "(LRugReader$House;)I" } : Jvm.MethodName)) ∈ lw_all := lw_g (lw_at lw_m6 83 rfl) rfl
theorem q1386 : (Jvm.Cond.sameMethod "RugReader$WalkReader" "RugReader$Reader" "holdTuft" "(LRugReader$House;)I") ∈ lw_all := lw_g (lw_at lw_m6 84 rfl) rfl
theorem q1387 : (Jvm.Cond.selects "RugReader$WalkReader" ({ cls := "RugReader$WalkReader", name := "holdTuft", desc := "(LRugReader$House;)I" } : Jvm.MethodName) ({ cls := "RugReader$Reader", name := "holdTuft", desc := "(LRugReader$House;)I" } : Jvm.MethodName)) ∈ lw_all := lw_g (lw_at lw_m6 85 rfl) rfl
theorem q1388 : (Jvm.Cond.methodLink "RugReader$WalkReader" (51 : Nat) ({ cls := "RugReader$WalkReader", name := "end", desc := "()V" } : Jvm.MethodName)) ∈ lw_all := lw_g (lw_at lw_m6 86 rfl) rfl
theorem q1389 : (Jvm.Cond.sameMethod "RugReader$WalkReader" "RugReader$Reader" "end" "()V") ∈ lw_all := lw_g (lw_at lw_m6 87 rfl) rfl
theorem q1390 : (Jvm.Cond.selects "RugReader$WalkReader" ({ cls := "RugReader$WalkReader", name := "end", desc := "()V" } : Jvm.MethodName) ({ cls := "RugReader$Reader", name := "end", desc := "()V" } : Jvm.MethodName)) ∈ lw_all := lw_g (lw_at lw_m6 88 rfl) rfl
theorem q1391 : (Jvm.Cond.methodLink "RugReader$WalkReader" (58 : Nat) ({ cls := "RugReader$WalkReader", name := "judge", desc := "(I)V" } : Jvm.MethodName)) ∈ lw_all := lw_g (lw_at lw_m6 89 rfl) rfl
theorem q1392 : (Jvm.Cond.privateMethod ({ cls := "RugReader$WalkReader", name := "judge", desc := "(I)V" } : Jvm.MethodName)) ∈ lw_tbl := lw_at lw_m6 90 rfl
theorem q1393 : (Jvm.Cond.instanceMethod ({ cls := "RugReader$WalkReader", name := "judge", desc := "(I)V" } : Jvm.MethodName)) ∈ lw_all := lw_g (lw_at lw_m6 91 rfl) rfl
theorem q1394 : (Jvm.Cond.code ({ cls := "RugReader$WalkReader", name := "judge", desc := "(I)V" } : Jvm.MethodName) prog_16_method_3_code (2 : Nat) (Option.none : Option Jvm.ClassFile.FieldType)) ∈ lw_all := lw_g (lw_at lw_m6 92 rfl) rfl
theorem q1395 : (Jvm.Cond.methodLink "RugReader$WalkReader" (68 : Nat) ({ cls := "RugReader$WalkReader", name := "direction", desc := "()I" } : Jvm.MethodName)) ∈ lw_all := lw_g (lw_at lw_m6 93 rfl) rfl
theorem q1396 : (Jvm.Cond.sameMethod "RugReader$WalkReader" "RugReader$Reader" "direction" "()I") ∈ lw_all := lw_g (lw_at lw_m6 94 rfl) rfl
theorem q1397 : (Jvm.Cond.selects "RugReader$WalkReader" ({ cls := "RugReader$WalkReader", name := "direction", desc := "()I" } : Jvm.MethodName) ({ cls := "RugReader$Reader", name := "direction", desc := "()I" } : Jvm.MethodName)) ∈ lw_all := lw_g (lw_at lw_m6 95 rfl) rfl
theorem q1398 : (Jvm.Cond.methodLink "RugReader$WalkReader" (72 : Nat) ({ cls := "RugReader$WalkReader", name := "need", desc := "(ZI)V" } : Jvm.MethodName)) ∈ lw_all := lw_g (lw_at lw_m6 96 rfl) rfl
theorem q1399 : (Jvm.Cond.sameMethod "RugReader$WalkReader" "RugReader$Reader" "need" "(ZI)V") ∈ lw_all := lw_g (lw_at lw_m6 97 rfl) rfl
theorem q1400 : (Jvm.Cond.selects "RugReader$WalkReader" ({ cls := "RugReader$WalkReader", name := "need", desc := "(ZI)V" } : Jvm.MethodName) ({ cls := "RugReader$Reader", name := "need", desc := "(ZI)V" } : Jvm.MethodName)) ∈ lw_all := lw_g (lw_at lw_m6 98 rfl) rfl
theorem q1401 : (Jvm.Cond.methodLink "RugReader$WalkReader" (76 : Nat) ({ cls := "RugReader$WalkReader", name := "number", desc := "(II)I" } : Jvm.MethodName)) ∈ lw_all := lw_g (lw_at lw_m6 99 rfl) rfl
theorem q1402 : (Jvm.Cond.sameMethod "RugReader$WalkReader" "RugReader$Reader" "number" "(II)I") ∈ lw_all := lw_g (lw_at lw_m6 100 rfl) rfl
theorem q1403 : (Jvm.Cond.selects "RugReader$WalkReader" ({ cls := "RugReader$WalkReader", name := "number", desc := "(II)I" } : Jvm.MethodName) ({ cls := "RugReader$Reader", name := "number", desc := "(II)I" } : Jvm.MethodName)) ∈ lw_all := lw_g (lw_at lw_m6 101 rfl) rfl
theorem q1404 : (Jvm.Cond.methodLink "RugReader$WalkReader" (83 : Nat) ({ cls := "RugReader$WalkReader", name := "goes", desc := "(LRugReader$Person;III)V" } : Jvm.MethodName)) ∈ lw_all := lw_g (lw_at lw_m6 102 rfl) rfl
theorem q1405 : (Jvm.Cond.privateMethod ({ cls := "RugReader$WalkReader", name := "goes", desc := "(LRugReader$Person;III)V" } : Jvm.MethodName)) ∈ lw_tbl := lw_at lw_m6 103 rfl
theorem q1406 : (Jvm.Cond.instanceMethod ({ cls := "RugReader$WalkReader", name := "goes", desc := "(LRugReader$Person;III)V" } : Jvm.MethodName)) ∈ lw_all := lw_g (lw_at lw_m6 104 rfl) rfl
theorem q1407 : (Jvm.Cond.code ({ cls := "RugReader$WalkReader", name := "goes", desc := "(LRugReader$Person;III)V" } : Jvm.MethodName) prog_16_method_4_code (7 : Nat) (Option.none : Option Jvm.ClassFile.FieldType)) ∈ lw_all := lw_g (lw_at lw_m6 105 rfl) rfl
theorem q1408 : (Jvm.Cond.methodLink "RugReader$WalkReader" (87 : Nat) ({ cls := "RugReader$House", name := "open", desc := "(II)I" } : Jvm.MethodName)) ∈ lw_all := lw_g (lw_at lw_m6 106 rfl) rfl
theorem q2329 : (Jvm.Cond.selects "RugReader$WalkReader" ({ cls := "RugReader$Reader", name := "need", desc := "(ZI)V" } : Jvm.MethodName) ({ cls := "RugReader$Reader", name := "need", desc := "(ZI)V" } : Jvm.MethodName)) ∈ lw_all := lw_g (lw_at lw_m10 67 rfl) rfl
theorem q2333 : (Jvm.Cond.selects "RugReader$WalkReader" ({ cls := "RugReader$Reader", name := "go", desc := "()V" } : Jvm.MethodName) ({ cls := "RugReader$Reader", name := "go", desc := "()V" } : Jvm.MethodName)) ∈ lw_all := lw_g (lw_at lw_m10 71 rfl) rfl
theorem q2341 : (Jvm.Cond.selects "RugReader$WalkReader" ({ cls := "RugReader$Reader", name := "number", desc := "(II)I" } : Jvm.MethodName) ({ cls := "RugReader$Reader", name := "number", desc := "(II)I" } : Jvm.MethodName)) ∈ lw_all := lw_g (lw_at lw_m10 79 rfl) rfl
theorem q2345 : (Jvm.Cond.selects "RugReader$WalkReader" ({ cls := "RugReader$Reader", name := "is", desc := "(Ljava/lang/String;)Z" } : Jvm.MethodName) ({ cls := "RugReader$Reader", name := "is", desc := "(Ljava/lang/String;)Z" } : Jvm.MethodName)) ∈ lw_all := lw_g (lw_at lw_m10 83 rfl) rfl
theorem q2349 : (Jvm.Cond.selects "RugReader$WalkReader" ({ cls := "RugReader$Reader", name := "isName", desc := "()Z" } : Jvm.MethodName) ({ cls := "RugReader$Reader", name := "isName", desc := "()Z" } : Jvm.MethodName)) ∈ lw_all := lw_g (lw_at lw_m10 87 rfl) rfl
theorem q2353 : (Jvm.Cond.selects "RugReader$WalkReader" ({ cls := "RugReader$Reader", name := "find", desc := "(Ljava/util/ArrayList;)I" } : Jvm.MethodName) ({ cls := "RugReader$Reader", name := "find", desc := "(Ljava/util/ArrayList;)I" } : Jvm.MethodName)) ∈ lw_all := lw_g (lw_at lw_m10 91 rfl) rfl
theorem q2371 : (Jvm.Cond.castable "RugReader$WalkReader" "java/lang/Object") ∈ lw_tbl := lw_at lw_m10 109 rfl
theorem in_X12 : ∀ w ∈ wsX120, w ∈ lw_all := lw_in wsX120 [1358, 1359, 1360, 1361, 1362, 1363, 1364, 1365, 1366, 1342, 1344, 1346, 1348, 1350, 1352, 1354, 1356] (by decide +kernel) (by decide +kernel)
/-! RugReader$SentenceReader -/
set_option maxRecDepth 100000
def RX13 : String := "RugReader$SentenceReader"
def TX13 : u_T := fun k => match k with
  | 0 => ("RugReader$Reader", "tape", "[B", true)
  | 1 => ("RugReader$Reader", "size", "I", true)
  | 2 => ("RugReader$Reader", "limit", "I", true)
  | 3 => ("RugReader$Reader", "to", "I", false)
  | 4 => ("RugReader$Reader", "kind", "I", false)
  | 5 => ("RugReader$Reader", "from", "I", false)
  | 6 => ("RugReader$Reader", "number", "I", false)
  | 7 => ("RugReader$Reader", "sign", "I", false)
  | 8 => ("RugReader$Reader", "word", "Ljava/lang/String;", false)
  | 9 => ("RugReader$SentenceReader", "h", "LRugReader$House;", true)
  | 10 => ("RugReader$SentenceReader", "ones", "I", false)
  | _ => ("RugReader$SentenceReader", "within", "I", false)
def tyX13 : Nat → FieldType := fun k => match k with
  | 0 => .array .byte
  | 1 => .int
  | 2 => .int
  | 3 => .int
  | 4 => .int
  | 5 => .int
  | 6 => .int
  | 7 => .int
  | 8 => .object "java/lang/String"
  | 9 => .object "RugReader$House"
  | 10 => .int
  | _ => .int
abbrev wsX130 : List Cond := u_ws RX13 TX13 12
theorem nmX13 : ∀ a, a < 12 → ∀ b, b < 12 → a ≠ b → (TX13 a).2.1 ≠ (TX13 b).2.1 := by decide +kernel
theorem tyX13_ok : ∀ k, k < 12 → parseFieldDescriptor (TX13 k).2.2.1 = some (tyX13 k) := by decide +kernel
abbrev cX13_init : ByteArray := prog_12_method_1_code
def yX13_init : MethodName := ⟨RX13, "<init>", "([BILRugReader$House;)V"⟩
def dkwX13_init_0 : List UInt8 := [42, 43, 28, 17, 0, 200, 183, 0, 3, 42, 45, 181, 0, 9, 177]
abbrev dktX13_init_0 : List UInt8 := dkwX13_init_0 ++ []
theorem dksX13_init_0 : cX13_init.data.toList.drop 0 = dktX13_init_0 := by decide +kernel
theorem dX13_init_0 : decode cX13_init 0 = .ok (.aload_n 0, 1) := dk_42 (dk_at dksX13_init_0 0 rfl rfl)
theorem dX13_init_1 : decode cX13_init 1 = .ok (.aload_n 1, 1) := dk_43 (dk_at dksX13_init_0 1 rfl rfl)
theorem dX13_init_2 : decode cX13_init 2 = .ok (.iload_n 2, 1) := dk_28 (dk_at dksX13_init_0 2 rfl rfl)
theorem dX13_init_3 : decode cX13_init 3 = .ok (.sipush 200, 3) := dk_17 0 200 (dk_at dksX13_init_0 3 rfl rfl)
theorem dX13_init_6 : decode cX13_init 6 = .ok (.invokespecial 3, 3) := dk_183 0 3 (dk_at dksX13_init_0 6 rfl rfl)
theorem dX13_init_9 : decode cX13_init 9 = .ok (.aload_n 0, 1) := dk_42 (dk_at dksX13_init_0 9 rfl rfl)
theorem dX13_init_10 : decode cX13_init 10 = .ok (.aload_n 3, 1) := dk_45 (dk_at dksX13_init_0 10 rfl rfl)
theorem dX13_init_11 : decode cX13_init 11 = .ok (.putfield 9, 3) := dk_181 0 9 (dk_at dksX13_init_0 11 rfl rfl)
theorem dX13_init_14 : decode cX13_init 14 = .ok (.return_, 1) := dk_177 (dk_at dksX13_init_0 14 rfl rfl)
abbrev cX13_read : ByteArray := prog_12_method_2_code
def yX13_read : MethodName := ⟨RX13, "read", "()LRugReader$Cond;"⟩
def dkwX13_read_1 : List UInt8 := [182, 0, 27, 43, 176]
abbrev dktX13_read_1 : List UInt8 := dkwX13_read_1 ++ []
def dkwX13_read_0 : List UInt8 := [42, 182, 0, 15, 42, 182, 0, 19, 76, 42, 42, 180, 0, 23, 154, 0, 7, 4, 167, 0, 4, 3, 4]
abbrev dktX13_read_0 : List UInt8 := dkwX13_read_0 ++ dktX13_read_1
theorem dksX13_read_0 : cX13_read.data.toList.drop 0 = dktX13_read_0 := by decide +kernel
theorem dksX13_read_1 : cX13_read.data.toList.drop 23 = dktX13_read_1 := dk_seg dksX13_read_0 23 rfl rfl
theorem dX13_read_0 : decode cX13_read 0 = .ok (.aload_n 0, 1) := dk_42 (dk_at dksX13_read_0 0 rfl rfl)
theorem dX13_read_1 : decode cX13_read 1 = .ok (.invokevirtual 15, 3) := dk_182 0 15 (dk_at dksX13_read_0 1 rfl rfl)
theorem dX13_read_4 : decode cX13_read 4 = .ok (.aload_n 0, 1) := dk_42 (dk_at dksX13_read_0 4 rfl rfl)
theorem dX13_read_5 : decode cX13_read 5 = .ok (.invokevirtual 19, 3) := dk_182 0 19 (dk_at dksX13_read_0 5 rfl rfl)
theorem dX13_read_8 : decode cX13_read 8 = .ok (.astore_n 1, 1) := dk_76 (dk_at dksX13_read_0 8 rfl rfl)
theorem dX13_read_9 : decode cX13_read 9 = .ok (.aload_n 0, 1) := dk_42 (dk_at dksX13_read_0 9 rfl rfl)
theorem dX13_read_10 : decode cX13_read 10 = .ok (.aload_n 0, 1) := dk_42 (dk_at dksX13_read_0 10 rfl rfl)
theorem dX13_read_11 : decode cX13_read 11 = .ok (.getfield 23, 3) := dk_180 0 23 (dk_at dksX13_read_0 11 rfl rfl)
theorem dX13_read_14 : decode cX13_read 14 = .ok (.ifCond .ne 7, 3) := dk_154 0 7 (dk_at dksX13_read_0 14 rfl rfl)
theorem dX13_read_17 : decode cX13_read 17 = .ok (.iconst 1, 1) := dk_4 (dk_at dksX13_read_0 17 rfl rfl)
theorem dX13_read_18 : decode cX13_read 18 = .ok (.goto 4, 3) := dk_167 0 4 (dk_at dksX13_read_0 18 rfl rfl)
theorem dX13_read_21 : decode cX13_read 21 = .ok (.iconst 0, 1) := dk_3 (dk_at dksX13_read_0 21 rfl rfl)
theorem dX13_read_22 : decode cX13_read 22 = .ok (.iconst 1, 1) := dk_4 (dk_at dksX13_read_0 22 rfl rfl)
theorem dX13_read_23 : decode cX13_read 23 = .ok (.invokevirtual 27, 3) := dk_182 0 27 (dk_at dksX13_read_1 0 rfl rfl)
theorem dX13_read_26 : decode cX13_read 26 = .ok (.aload_n 1, 1) := dk_43 (dk_at dksX13_read_1 3 rfl rfl)
theorem dX13_read_27 : decode cX13_read 27 = .ok (.areturn, 1) := dk_176 (dk_at dksX13_read_1 4 rfl rfl)
abbrev cX13_or : ByteArray := prog_12_method_3_code
def yX13_or : MethodName := ⟨RX13, "or", "()LRugReader$Cond;"⟩
def dkwX13_or_1 : List UInt8 := [182, 0, 31, 3, 183, 0, 41, 76, 167, 255, 229, 43, 176]
abbrev dktX13_or_1 : List UInt8 := dkwX13_or_1 ++ []
def dkwX13_or_0 : List UInt8 := [42, 182, 0, 31, 76, 42, 18, 34, 182, 0, 35, 153, 0, 24, 42, 182, 0, 15, 187, 0, 39, 89, 43, 42]
abbrev dktX13_or_0 : List UInt8 := dkwX13_or_0 ++ dktX13_or_1
theorem dksX13_or_0 : cX13_or.data.toList.drop 0 = dktX13_or_0 := by decide +kernel
theorem dksX13_or_1 : cX13_or.data.toList.drop 24 = dktX13_or_1 := dk_seg dksX13_or_0 24 rfl rfl
theorem dX13_or_0 : decode cX13_or 0 = .ok (.aload_n 0, 1) := dk_42 (dk_at dksX13_or_0 0 rfl rfl)
theorem dX13_or_1 : decode cX13_or 1 = .ok (.invokevirtual 31, 3) := dk_182 0 31 (dk_at dksX13_or_0 1 rfl rfl)
theorem dX13_or_4 : decode cX13_or 4 = .ok (.astore_n 1, 1) := dk_76 (dk_at dksX13_or_0 4 rfl rfl)
theorem dX13_or_5 : decode cX13_or 5 = .ok (.aload_n 0, 1) := dk_42 (dk_at dksX13_or_0 5 rfl rfl)
theorem dX13_or_6 : decode cX13_or 6 = .ok (.ldc 34, 2) := dk_18 34 (dk_at dksX13_or_0 6 rfl rfl)
theorem dX13_or_8 : decode cX13_or 8 = .ok (.invokevirtual 35, 3) := dk_182 0 35 (dk_at dksX13_or_0 8 rfl rfl)
theorem dX13_or_11 : decode cX13_or 11 = .ok (.ifCond .eq 24, 3) := dk_153 0 24 (dk_at dksX13_or_0 11 rfl rfl)
theorem dX13_or_14 : decode cX13_or 14 = .ok (.aload_n 0, 1) := dk_42 (dk_at dksX13_or_0 14 rfl rfl)
theorem dX13_or_15 : decode cX13_or 15 = .ok (.invokevirtual 15, 3) := dk_182 0 15 (dk_at dksX13_or_0 15 rfl rfl)
theorem dX13_or_18 : decode cX13_or 18 = .ok (.new 39, 3) := dk_187 0 39 (dk_at dksX13_or_0 18 rfl rfl)
theorem dX13_or_21 : decode cX13_or 21 = .ok (.dup, 1) := dk_89 (dk_at dksX13_or_0 21 rfl rfl)
theorem dX13_or_22 : decode cX13_or 22 = .ok (.aload_n 1, 1) := dk_43 (dk_at dksX13_or_0 22 rfl rfl)
theorem dX13_or_23 : decode cX13_or 23 = .ok (.aload_n 0, 1) := dk_42 (dk_at dksX13_or_0 23 rfl rfl)
theorem dX13_or_24 : decode cX13_or 24 = .ok (.invokevirtual 31, 3) := dk_182 0 31 (dk_at dksX13_or_1 0 rfl rfl)
theorem dX13_or_27 : decode cX13_or 27 = .ok (.iconst 0, 1) := dk_3 (dk_at dksX13_or_1 3 rfl rfl)
theorem dX13_or_28 : decode cX13_or 28 = .ok (.invokespecial 41, 3) := dk_183 0 41 (dk_at dksX13_or_1 4 rfl rfl)
theorem dX13_or_31 : decode cX13_or 31 = .ok (.astore_n 1, 1) := dk_76 (dk_at dksX13_or_1 7 rfl rfl)
theorem dX13_or_32 : decode cX13_or 32 = .ok (.goto (-27), 3) := dk_167 255 229 (dk_at dksX13_or_1 8 rfl rfl)
theorem dX13_or_35 : decode cX13_or 35 = .ok (.aload_n 1, 1) := dk_43 (dk_at dksX13_or_1 11 rfl rfl)
theorem dX13_or_36 : decode cX13_or 36 = .ok (.areturn, 1) := dk_176 (dk_at dksX13_or_1 12 rfl rfl)
abbrev cX13_and : ByteArray := prog_12_method_4_code
def yX13_and : MethodName := ⟨RX13, "and", "()LRugReader$Cond;"⟩
def dkwX13_and_1 : List UInt8 := [182, 0, 44, 4, 183, 0, 41, 76, 167, 255, 229, 43, 176]
abbrev dktX13_and_1 : List UInt8 := dkwX13_and_1 ++ []
def dkwX13_and_0 : List UInt8 := [42, 182, 0, 44, 76, 42, 18, 47, 182, 0, 35, 153, 0, 24, 42, 182, 0, 15, 187, 0, 39, 89, 43, 42]
abbrev dktX13_and_0 : List UInt8 := dkwX13_and_0 ++ dktX13_and_1
theorem dksX13_and_0 : cX13_and.data.toList.drop 0 = dktX13_and_0 := by decide +kernel
theorem dksX13_and_1 : cX13_and.data.toList.drop 24 = dktX13_and_1 := dk_seg dksX13_and_0 24 rfl rfl
theorem dX13_and_0 : decode cX13_and 0 = .ok (.aload_n 0, 1) := dk_42 (dk_at dksX13_and_0 0 rfl rfl)
theorem dX13_and_1 : decode cX13_and 1 = .ok (.invokevirtual 44, 3) := dk_182 0 44 (dk_at dksX13_and_0 1 rfl rfl)
theorem dX13_and_4 : decode cX13_and 4 = .ok (.astore_n 1, 1) := dk_76 (dk_at dksX13_and_0 4 rfl rfl)
theorem dX13_and_5 : decode cX13_and 5 = .ok (.aload_n 0, 1) := dk_42 (dk_at dksX13_and_0 5 rfl rfl)
theorem dX13_and_6 : decode cX13_and 6 = .ok (.ldc 47, 2) := dk_18 47 (dk_at dksX13_and_0 6 rfl rfl)
theorem dX13_and_8 : decode cX13_and 8 = .ok (.invokevirtual 35, 3) := dk_182 0 35 (dk_at dksX13_and_0 8 rfl rfl)
theorem dX13_and_11 : decode cX13_and 11 = .ok (.ifCond .eq 24, 3) := dk_153 0 24 (dk_at dksX13_and_0 11 rfl rfl)
theorem dX13_and_14 : decode cX13_and 14 = .ok (.aload_n 0, 1) := dk_42 (dk_at dksX13_and_0 14 rfl rfl)
theorem dX13_and_15 : decode cX13_and 15 = .ok (.invokevirtual 15, 3) := dk_182 0 15 (dk_at dksX13_and_0 15 rfl rfl)
theorem dX13_and_18 : decode cX13_and 18 = .ok (.new 39, 3) := dk_187 0 39 (dk_at dksX13_and_0 18 rfl rfl)
theorem dX13_and_21 : decode cX13_and 21 = .ok (.dup, 1) := dk_89 (dk_at dksX13_and_0 21 rfl rfl)
theorem dX13_and_22 : decode cX13_and 22 = .ok (.aload_n 1, 1) := dk_43 (dk_at dksX13_and_0 22 rfl rfl)
theorem dX13_and_23 : decode cX13_and 23 = .ok (.aload_n 0, 1) := dk_42 (dk_at dksX13_and_0 23 rfl rfl)
theorem dX13_and_24 : decode cX13_and 24 = .ok (.invokevirtual 44, 3) := dk_182 0 44 (dk_at dksX13_and_1 0 rfl rfl)
theorem dX13_and_27 : decode cX13_and 27 = .ok (.iconst 1, 1) := dk_4 (dk_at dksX13_and_1 3 rfl rfl)
theorem dX13_and_28 : decode cX13_and 28 = .ok (.invokespecial 41, 3) := dk_183 0 41 (dk_at dksX13_and_1 4 rfl rfl)
theorem dX13_and_31 : decode cX13_and 31 = .ok (.astore_n 1, 1) := dk_76 (dk_at dksX13_and_1 7 rfl rfl)
theorem dX13_and_32 : decode cX13_and 32 = .ok (.goto (-27), 3) := dk_167 255 229 (dk_at dksX13_and_1 8 rfl rfl)
theorem dX13_and_35 : decode cX13_and 35 = .ok (.aload_n 1, 1) := dk_43 (dk_at dksX13_and_1 11 rfl rfl)
theorem dX13_and_36 : decode cX13_and 36 = .ok (.areturn, 1) := dk_176 (dk_at dksX13_and_1 12 rfl rfl)
abbrev cX13_one : ByteArray := prog_12_method_6_code
def yX13_one : MethodName := ⟨RX13, "one", "()LRugReader$Cond;"⟩
def dkwX13_one_7 : List UInt8 := [167, 0, 9, 42, 21, 4, 182, 0, 87, 58, 5, 42, 89, 180, 0, 74, 4, 100, 181, 0, 74, 25, 5, 176]
abbrev dktX13_one_7 : List UInt8 := dkwX13_one_7 ++ []
def dkwX13_one_6 : List UInt8 := [187, 0, 80, 89, 42, 182, 0, 44, 183, 0, 82, 167, 0, 20, 29, 153, 0, 10, 42, 182, 0, 85]
abbrev dktX13_one_6 : List UInt8 := dkwX13_one_6 ++ dktX13_one_7
def dkwX13_one_5 : List UInt8 := [96, 181, 0, 74, 42, 182, 0, 15, 27, 153, 0, 10, 42, 182, 0, 77, 167, 0, 38, 28, 153, 0, 17]
abbrev dktX13_one_5 : List UInt8 := dkwX13_one_5 ++ dktX13_one_6
def dkwX13_one_4 : List UInt8 := [167, 0, 4, 3, 7, 182, 0, 27, 42, 89, 180, 0, 71, 4, 96, 181, 0, 71, 42, 89, 180, 0, 74, 4]
abbrev dktX13_one_4 : List UInt8 := dkwX13_one_4 ++ dktX13_one_5
def dkwX13_one_3 : List UInt8 := [182, 0, 27, 42, 42, 180, 0, 71, 16, 20, 162, 0, 16, 42, 180, 0, 74, 16, 8, 162, 0, 7, 4]
abbrev dktX13_one_3 : List UInt8 := dkwX13_one_3 ++ dktX13_one_4
def dkwX13_one_2 : List UInt8 := [154, 0, 17, 28, 154, 0, 13, 29, 154, 0, 9, 21, 4, 2, 159, 0, 7, 4, 167, 0, 4, 3, 4]
abbrev dktX13_one_2 : List UInt8 := dkwX13_one_2 ++ dktX13_one_3
def dkwX13_one_1 : List UInt8 := [42, 18, 63, 182, 0, 35, 61, 42, 18, 65, 182, 0, 35, 62, 42, 182, 0, 67, 54, 4, 42, 27]
abbrev dktX13_one_1 : List UInt8 := dkwX13_one_1 ++ dktX13_one_2
def dkwX13_one_0 : List UInt8 := [42, 180, 0, 23, 16, 6, 160, 0, 16, 42, 180, 0, 60, 16, 40, 160, 0, 7, 4, 167, 0, 4, 3, 60]
abbrev dktX13_one_0 : List UInt8 := dkwX13_one_0 ++ dktX13_one_1
theorem dksX13_one_0 : cX13_one.data.toList.drop 0 = dktX13_one_0 := by decide +kernel
theorem dksX13_one_1 : cX13_one.data.toList.drop 24 = dktX13_one_1 := dk_seg dksX13_one_0 24 rfl rfl
theorem dksX13_one_2 : cX13_one.data.toList.drop 46 = dktX13_one_2 := dk_seg dksX13_one_1 22 rfl rfl
theorem dksX13_one_3 : cX13_one.data.toList.drop 69 = dktX13_one_3 := dk_seg dksX13_one_2 23 rfl rfl
theorem dksX13_one_4 : cX13_one.data.toList.drop 92 = dktX13_one_4 := dk_seg dksX13_one_3 23 rfl rfl
theorem dksX13_one_5 : cX13_one.data.toList.drop 116 = dktX13_one_5 := dk_seg dksX13_one_4 24 rfl rfl
theorem dksX13_one_6 : cX13_one.data.toList.drop 139 = dktX13_one_6 := dk_seg dksX13_one_5 23 rfl rfl
theorem dksX13_one_7 : cX13_one.data.toList.drop 161 = dktX13_one_7 := dk_seg dksX13_one_6 22 rfl rfl
theorem dX13_one_0 : decode cX13_one 0 = .ok (.aload_n 0, 1) := dk_42 (dk_at dksX13_one_0 0 rfl rfl)
theorem dX13_one_1 : decode cX13_one 1 = .ok (.getfield 23, 3) := dk_180 0 23 (dk_at dksX13_one_0 1 rfl rfl)
theorem dX13_one_4 : decode cX13_one 4 = .ok (.bipush 6, 2) := dk_16 6 (dk_at dksX13_one_0 4 rfl rfl)
theorem dX13_one_6 : decode cX13_one 6 = .ok (.if_icmp .ne 16, 3) := dk_160 0 16 (dk_at dksX13_one_0 6 rfl rfl)
theorem dX13_one_9 : decode cX13_one 9 = .ok (.aload_n 0, 1) := dk_42 (dk_at dksX13_one_0 9 rfl rfl)
theorem dX13_one_10 : decode cX13_one 10 = .ok (.getfield 60, 3) := dk_180 0 60 (dk_at dksX13_one_0 10 rfl rfl)
theorem dX13_one_13 : decode cX13_one 13 = .ok (.bipush 40, 2) := dk_16 40 (dk_at dksX13_one_0 13 rfl rfl)
theorem dX13_one_15 : decode cX13_one 15 = .ok (.if_icmp .ne 7, 3) := dk_160 0 7 (dk_at dksX13_one_0 15 rfl rfl)
theorem dX13_one_18 : decode cX13_one 18 = .ok (.iconst 1, 1) := dk_4 (dk_at dksX13_one_0 18 rfl rfl)
theorem dX13_one_19 : decode cX13_one 19 = .ok (.goto 4, 3) := dk_167 0 4 (dk_at dksX13_one_0 19 rfl rfl)
theorem dX13_one_22 : decode cX13_one 22 = .ok (.iconst 0, 1) := dk_3 (dk_at dksX13_one_0 22 rfl rfl)
theorem dX13_one_23 : decode cX13_one 23 = .ok (.istore_n 1, 1) := dk_60 (dk_at dksX13_one_0 23 rfl rfl)
theorem dX13_one_24 : decode cX13_one 24 = .ok (.aload_n 0, 1) := dk_42 (dk_at dksX13_one_1 0 rfl rfl)
theorem dX13_one_25 : decode cX13_one 25 = .ok (.ldc 63, 2) := dk_18 63 (dk_at dksX13_one_1 1 rfl rfl)
theorem dX13_one_27 : decode cX13_one 27 = .ok (.invokevirtual 35, 3) := dk_182 0 35 (dk_at dksX13_one_1 3 rfl rfl)
theorem dX13_one_30 : decode cX13_one 30 = .ok (.istore_n 2, 1) := dk_61 (dk_at dksX13_one_1 6 rfl rfl)
theorem dX13_one_31 : decode cX13_one 31 = .ok (.aload_n 0, 1) := dk_42 (dk_at dksX13_one_1 7 rfl rfl)
theorem dX13_one_32 : decode cX13_one 32 = .ok (.ldc 65, 2) := dk_18 65 (dk_at dksX13_one_1 8 rfl rfl)
theorem dX13_one_34 : decode cX13_one 34 = .ok (.invokevirtual 35, 3) := dk_182 0 35 (dk_at dksX13_one_1 10 rfl rfl)
theorem dX13_one_37 : decode cX13_one 37 = .ok (.istore_n 3, 1) := dk_62 (dk_at dksX13_one_1 13 rfl rfl)
theorem dX13_one_38 : decode cX13_one 38 = .ok (.aload_n 0, 1) := dk_42 (dk_at dksX13_one_1 14 rfl rfl)
theorem dX13_one_39 : decode cX13_one 39 = .ok (.invokevirtual 67, 3) := dk_182 0 67 (dk_at dksX13_one_1 15 rfl rfl)
theorem dX13_one_42 : decode cX13_one 42 = .ok (.istore 4, 2) := dk_54 4 (dk_at dksX13_one_1 18 rfl rfl)
theorem dX13_one_44 : decode cX13_one 44 = .ok (.aload_n 0, 1) := dk_42 (dk_at dksX13_one_1 20 rfl rfl)
theorem dX13_one_45 : decode cX13_one 45 = .ok (.iload_n 1, 1) := dk_27 (dk_at dksX13_one_1 21 rfl rfl)
theorem dX13_one_46 : decode cX13_one 46 = .ok (.ifCond .ne 17, 3) := dk_154 0 17 (dk_at dksX13_one_2 0 rfl rfl)
theorem dX13_one_49 : decode cX13_one 49 = .ok (.iload_n 2, 1) := dk_28 (dk_at dksX13_one_2 3 rfl rfl)
theorem dX13_one_50 : decode cX13_one 50 = .ok (.ifCond .ne 13, 3) := dk_154 0 13 (dk_at dksX13_one_2 4 rfl rfl)
theorem dX13_one_53 : decode cX13_one 53 = .ok (.iload_n 3, 1) := dk_29 (dk_at dksX13_one_2 7 rfl rfl)
theorem dX13_one_54 : decode cX13_one 54 = .ok (.ifCond .ne 9, 3) := dk_154 0 9 (dk_at dksX13_one_2 8 rfl rfl)
theorem dX13_one_57 : decode cX13_one 57 = .ok (.iload 4, 2) := dk_21 4 (dk_at dksX13_one_2 11 rfl rfl)
theorem dX13_one_59 : decode cX13_one 59 = .ok (.iconst (-1), 1) := dk_2 (dk_at dksX13_one_2 13 rfl rfl)
theorem dX13_one_60 : decode cX13_one 60 = .ok (.if_icmp .eq 7, 3) := dk_159 0 7 (dk_at dksX13_one_2 14 rfl rfl)
theorem dX13_one_63 : decode cX13_one 63 = .ok (.iconst 1, 1) := dk_4 (dk_at dksX13_one_2 17 rfl rfl)
theorem dX13_one_64 : decode cX13_one 64 = .ok (.goto 4, 3) := dk_167 0 4 (dk_at dksX13_one_2 18 rfl rfl)
theorem dX13_one_67 : decode cX13_one 67 = .ok (.iconst 0, 1) := dk_3 (dk_at dksX13_one_2 21 rfl rfl)
theorem dX13_one_68 : decode cX13_one 68 = .ok (.iconst 1, 1) := dk_4 (dk_at dksX13_one_2 22 rfl rfl)
theorem dX13_one_69 : decode cX13_one 69 = .ok (.invokevirtual 27, 3) := dk_182 0 27 (dk_at dksX13_one_3 0 rfl rfl)
theorem dX13_one_72 : decode cX13_one 72 = .ok (.aload_n 0, 1) := dk_42 (dk_at dksX13_one_3 3 rfl rfl)
theorem dX13_one_73 : decode cX13_one 73 = .ok (.aload_n 0, 1) := dk_42 (dk_at dksX13_one_3 4 rfl rfl)
theorem dX13_one_74 : decode cX13_one 74 = .ok (.getfield 71, 3) := dk_180 0 71 (dk_at dksX13_one_3 5 rfl rfl)
theorem dX13_one_77 : decode cX13_one 77 = .ok (.bipush 20, 2) := dk_16 20 (dk_at dksX13_one_3 8 rfl rfl)
theorem dX13_one_79 : decode cX13_one 79 = .ok (.if_icmp .ge 16, 3) := dk_162 0 16 (dk_at dksX13_one_3 10 rfl rfl)
theorem dX13_one_82 : decode cX13_one 82 = .ok (.aload_n 0, 1) := dk_42 (dk_at dksX13_one_3 13 rfl rfl)
theorem dX13_one_83 : decode cX13_one 83 = .ok (.getfield 74, 3) := dk_180 0 74 (dk_at dksX13_one_3 14 rfl rfl)
theorem dX13_one_86 : decode cX13_one 86 = .ok (.bipush 8, 2) := dk_16 8 (dk_at dksX13_one_3 17 rfl rfl)
theorem dX13_one_88 : decode cX13_one 88 = .ok (.if_icmp .ge 7, 3) := dk_162 0 7 (dk_at dksX13_one_3 19 rfl rfl)
theorem dX13_one_91 : decode cX13_one 91 = .ok (.iconst 1, 1) := dk_4 (dk_at dksX13_one_3 22 rfl rfl)
theorem dX13_one_92 : decode cX13_one 92 = .ok (.goto 4, 3) := dk_167 0 4 (dk_at dksX13_one_4 0 rfl rfl)
theorem dX13_one_95 : decode cX13_one 95 = .ok (.iconst 0, 1) := dk_3 (dk_at dksX13_one_4 3 rfl rfl)
theorem dX13_one_96 : decode cX13_one 96 = .ok (.iconst 4, 1) := dk_7 (dk_at dksX13_one_4 4 rfl rfl)
theorem dX13_one_97 : decode cX13_one 97 = .ok (.invokevirtual 27, 3) := dk_182 0 27 (dk_at dksX13_one_4 5 rfl rfl)
theorem dX13_one_100 : decode cX13_one 100 = .ok (.aload_n 0, 1) := dk_42 (dk_at dksX13_one_4 8 rfl rfl)
theorem dX13_one_101 : decode cX13_one 101 = .ok (.dup, 1) := dk_89 (dk_at dksX13_one_4 9 rfl rfl)
theorem dX13_one_102 : decode cX13_one 102 = .ok (.getfield 71, 3) := dk_180 0 71 (dk_at dksX13_one_4 10 rfl rfl)
theorem dX13_one_105 : decode cX13_one 105 = .ok (.iconst 1, 1) := dk_4 (dk_at dksX13_one_4 13 rfl rfl)
theorem dX13_one_106 : decode cX13_one 106 = .ok (.iadd, 1) := dk_96 (dk_at dksX13_one_4 14 rfl rfl)
theorem dX13_one_107 : decode cX13_one 107 = .ok (.putfield 71, 3) := dk_181 0 71 (dk_at dksX13_one_4 15 rfl rfl)
theorem dX13_one_110 : decode cX13_one 110 = .ok (.aload_n 0, 1) := dk_42 (dk_at dksX13_one_4 18 rfl rfl)
theorem dX13_one_111 : decode cX13_one 111 = .ok (.dup, 1) := dk_89 (dk_at dksX13_one_4 19 rfl rfl)
theorem dX13_one_112 : decode cX13_one 112 = .ok (.getfield 74, 3) := dk_180 0 74 (dk_at dksX13_one_4 20 rfl rfl)
theorem dX13_one_115 : decode cX13_one 115 = .ok (.iconst 1, 1) := dk_4 (dk_at dksX13_one_4 23 rfl rfl)
theorem dX13_one_116 : decode cX13_one 116 = .ok (.iadd, 1) := dk_96 (dk_at dksX13_one_5 0 rfl rfl)
theorem dX13_one_117 : decode cX13_one 117 = .ok (.putfield 74, 3) := dk_181 0 74 (dk_at dksX13_one_5 1 rfl rfl)
theorem dX13_one_120 : decode cX13_one 120 = .ok (.aload_n 0, 1) := dk_42 (dk_at dksX13_one_5 4 rfl rfl)
theorem dX13_one_121 : decode cX13_one 121 = .ok (.invokevirtual 15, 3) := dk_182 0 15 (dk_at dksX13_one_5 5 rfl rfl)
theorem dX13_one_124 : decode cX13_one 124 = .ok (.iload_n 1, 1) := dk_27 (dk_at dksX13_one_5 8 rfl rfl)
theorem dX13_one_125 : decode cX13_one 125 = .ok (.ifCond .eq 10, 3) := dk_153 0 10 (dk_at dksX13_one_5 9 rfl rfl)
theorem dX13_one_128 : decode cX13_one 128 = .ok (.aload_n 0, 1) := dk_42 (dk_at dksX13_one_5 12 rfl rfl)
theorem dX13_one_129 : decode cX13_one 129 = .ok (.invokevirtual 77, 3) := dk_182 0 77 (dk_at dksX13_one_5 13 rfl rfl)
theorem dX13_one_132 : decode cX13_one 132 = .ok (.goto 38, 3) := dk_167 0 38 (dk_at dksX13_one_5 16 rfl rfl)
theorem dX13_one_135 : decode cX13_one 135 = .ok (.iload_n 2, 1) := dk_28 (dk_at dksX13_one_5 19 rfl rfl)
theorem dX13_one_136 : decode cX13_one 136 = .ok (.ifCond .eq 17, 3) := dk_153 0 17 (dk_at dksX13_one_5 20 rfl rfl)
theorem dX13_one_139 : decode cX13_one 139 = .ok (.new 80, 3) := dk_187 0 80 (dk_at dksX13_one_6 0 rfl rfl)
theorem dX13_one_142 : decode cX13_one 142 = .ok (.dup, 1) := dk_89 (dk_at dksX13_one_6 3 rfl rfl)
theorem dX13_one_143 : decode cX13_one 143 = .ok (.aload_n 0, 1) := dk_42 (dk_at dksX13_one_6 4 rfl rfl)
theorem dX13_one_144 : decode cX13_one 144 = .ok (.invokevirtual 44, 3) := dk_182 0 44 (dk_at dksX13_one_6 5 rfl rfl)
theorem dX13_one_147 : decode cX13_one 147 = .ok (.invokespecial 82, 3) := dk_183 0 82 (dk_at dksX13_one_6 8 rfl rfl)
theorem dX13_one_150 : decode cX13_one 150 = .ok (.goto 20, 3) := dk_167 0 20 (dk_at dksX13_one_6 11 rfl rfl)
theorem dX13_one_153 : decode cX13_one 153 = .ok (.iload_n 3, 1) := dk_29 (dk_at dksX13_one_6 14 rfl rfl)
theorem dX13_one_154 : decode cX13_one 154 = .ok (.ifCond .eq 10, 3) := dk_153 0 10 (dk_at dksX13_one_6 15 rfl rfl)
theorem dX13_one_157 : decode cX13_one 157 = .ok (.aload_n 0, 1) := dk_42 (dk_at dksX13_one_6 18 rfl rfl)
theorem dX13_one_158 : decode cX13_one 158 = .ok (.invokevirtual 85, 3) := dk_182 0 85 (dk_at dksX13_one_6 19 rfl rfl)
theorem dX13_one_161 : decode cX13_one 161 = .ok (.goto 9, 3) := dk_167 0 9 (dk_at dksX13_one_7 0 rfl rfl)
theorem dX13_one_164 : decode cX13_one 164 = .ok (.aload_n 0, 1) := dk_42 (dk_at dksX13_one_7 3 rfl rfl)
theorem dX13_one_165 : decode cX13_one 165 = .ok (.iload 4, 2) := dk_21 4 (dk_at dksX13_one_7 4 rfl rfl)
theorem dX13_one_167 : decode cX13_one 167 = .ok (.invokevirtual 87, 3) := dk_182 0 87 (dk_at dksX13_one_7 6 rfl rfl)
theorem dX13_one_170 : decode cX13_one 170 = .ok (.astore 5, 2) := dk_58 5 (dk_at dksX13_one_7 9 rfl rfl)
theorem dX13_one_172 : decode cX13_one 172 = .ok (.aload_n 0, 1) := dk_42 (dk_at dksX13_one_7 11 rfl rfl)
theorem dX13_one_173 : decode cX13_one 173 = .ok (.dup, 1) := dk_89 (dk_at dksX13_one_7 12 rfl rfl)
theorem dX13_one_174 : decode cX13_one 174 = .ok (.getfield 74, 3) := dk_180 0 74 (dk_at dksX13_one_7 13 rfl rfl)
theorem dX13_one_177 : decode cX13_one 177 = .ok (.iconst 1, 1) := dk_4 (dk_at dksX13_one_7 16 rfl rfl)
theorem dX13_one_178 : decode cX13_one 178 = .ok (.isub, 1) := dk_100 (dk_at dksX13_one_7 17 rfl rfl)
theorem dX13_one_179 : decode cX13_one 179 = .ok (.putfield 74, 3) := dk_181 0 74 (dk_at dksX13_one_7 18 rfl rfl)
theorem dX13_one_182 : decode cX13_one 182 = .ok (.aload 5, 2) := dk_25 5 (dk_at dksX13_one_7 21 rfl rfl)
theorem dX13_one_184 : decode cX13_one 184 = .ok (.areturn, 1) := dk_176 (dk_at dksX13_one_7 23 rfl rfl)
abbrev cX13_numbered : ByteArray := prog_12_method_5_code
def yX13_numbered : MethodName := ⟨RX13, "numbered", "()I"⟩
def dkwX13_numbered_3 : List UInt8 := [182, 0, 35, 153, 0, 7, 8, 167, 0, 4, 2, 172]
abbrev dktX13_numbered_3 : List UInt8 := dkwX13_numbered_3 ++ []
def dkwX13_numbered_2 : List UInt8 := [153, 0, 7, 6, 167, 0, 30, 42, 18, 56, 182, 0, 35, 153, 0, 7, 7, 167, 0, 17, 42, 18, 58]
abbrev dktX13_numbered_2 : List UInt8 := dkwX13_numbered_2 ++ dktX13_numbered_3
def dkwX13_numbered_1 : List UInt8 := [167, 0, 56, 42, 18, 52, 182, 0, 35, 153, 0, 7, 5, 167, 0, 43, 42, 18, 54, 182, 0, 35]
abbrev dktX13_numbered_1 : List UInt8 := dkwX13_numbered_1 ++ dktX13_numbered_2
def dkwX13_numbered_0 : List UInt8 := [42, 18, 48, 182, 0, 35, 153, 0, 7, 3, 167, 0, 69, 42, 18, 50, 182, 0, 35, 153, 0, 7, 4]
abbrev dktX13_numbered_0 : List UInt8 := dkwX13_numbered_0 ++ dktX13_numbered_1
theorem dksX13_numbered_0 : cX13_numbered.data.toList.drop 0 = dktX13_numbered_0 := by decide +kernel
theorem dksX13_numbered_1 : cX13_numbered.data.toList.drop 23 = dktX13_numbered_1 := dk_seg dksX13_numbered_0 23 rfl rfl
theorem dksX13_numbered_2 : cX13_numbered.data.toList.drop 45 = dktX13_numbered_2 := dk_seg dksX13_numbered_1 22 rfl rfl
theorem dksX13_numbered_3 : cX13_numbered.data.toList.drop 68 = dktX13_numbered_3 := dk_seg dksX13_numbered_2 23 rfl rfl
theorem dX13_numbered_0 : decode cX13_numbered 0 = .ok (.aload_n 0, 1) := dk_42 (dk_at dksX13_numbered_0 0 rfl rfl)
theorem dX13_numbered_1 : decode cX13_numbered 1 = .ok (.ldc 48, 2) := dk_18 48 (dk_at dksX13_numbered_0 1 rfl rfl)
theorem dX13_numbered_3 : decode cX13_numbered 3 = .ok (.invokevirtual 35, 3) := dk_182 0 35 (dk_at dksX13_numbered_0 3 rfl rfl)
theorem dX13_numbered_6 : decode cX13_numbered 6 = .ok (.ifCond .eq 7, 3) := dk_153 0 7 (dk_at dksX13_numbered_0 6 rfl rfl)
theorem dX13_numbered_9 : decode cX13_numbered 9 = .ok (.iconst 0, 1) := dk_3 (dk_at dksX13_numbered_0 9 rfl rfl)
theorem dX13_numbered_10 : decode cX13_numbered 10 = .ok (.goto 69, 3) := dk_167 0 69 (dk_at dksX13_numbered_0 10 rfl rfl)
theorem dX13_numbered_13 : decode cX13_numbered 13 = .ok (.aload_n 0, 1) := dk_42 (dk_at dksX13_numbered_0 13 rfl rfl)
theorem dX13_numbered_14 : decode cX13_numbered 14 = .ok (.ldc 50, 2) := dk_18 50 (dk_at dksX13_numbered_0 14 rfl rfl)
theorem dX13_numbered_16 : decode cX13_numbered 16 = .ok (.invokevirtual 35, 3) := dk_182 0 35 (dk_at dksX13_numbered_0 16 rfl rfl)
theorem dX13_numbered_19 : decode cX13_numbered 19 = .ok (.ifCond .eq 7, 3) := dk_153 0 7 (dk_at dksX13_numbered_0 19 rfl rfl)
theorem dX13_numbered_22 : decode cX13_numbered 22 = .ok (.iconst 1, 1) := dk_4 (dk_at dksX13_numbered_0 22 rfl rfl)
theorem dX13_numbered_23 : decode cX13_numbered 23 = .ok (.goto 56, 3) := dk_167 0 56 (dk_at dksX13_numbered_1 0 rfl rfl)
theorem dX13_numbered_26 : decode cX13_numbered 26 = .ok (.aload_n 0, 1) := dk_42 (dk_at dksX13_numbered_1 3 rfl rfl)
theorem dX13_numbered_27 : decode cX13_numbered 27 = .ok (.ldc 52, 2) := dk_18 52 (dk_at dksX13_numbered_1 4 rfl rfl)
theorem dX13_numbered_29 : decode cX13_numbered 29 = .ok (.invokevirtual 35, 3) := dk_182 0 35 (dk_at dksX13_numbered_1 6 rfl rfl)
theorem dX13_numbered_32 : decode cX13_numbered 32 = .ok (.ifCond .eq 7, 3) := dk_153 0 7 (dk_at dksX13_numbered_1 9 rfl rfl)
theorem dX13_numbered_35 : decode cX13_numbered 35 = .ok (.iconst 2, 1) := dk_5 (dk_at dksX13_numbered_1 12 rfl rfl)
theorem dX13_numbered_36 : decode cX13_numbered 36 = .ok (.goto 43, 3) := dk_167 0 43 (dk_at dksX13_numbered_1 13 rfl rfl)
theorem dX13_numbered_39 : decode cX13_numbered 39 = .ok (.aload_n 0, 1) := dk_42 (dk_at dksX13_numbered_1 16 rfl rfl)
theorem dX13_numbered_40 : decode cX13_numbered 40 = .ok (.ldc 54, 2) := dk_18 54 (dk_at dksX13_numbered_1 17 rfl rfl)
theorem dX13_numbered_42 : decode cX13_numbered 42 = .ok (.invokevirtual 35, 3) := dk_182 0 35 (dk_at dksX13_numbered_1 19 rfl rfl)
theorem dX13_numbered_45 : decode cX13_numbered 45 = .ok (.ifCond .eq 7, 3) := dk_153 0 7 (dk_at dksX13_numbered_2 0 rfl rfl)
theorem dX13_numbered_48 : decode cX13_numbered 48 = .ok (.iconst 3, 1) := dk_6 (dk_at dksX13_numbered_2 3 rfl rfl)
theorem dX13_numbered_49 : decode cX13_numbered 49 = .ok (.goto 30, 3) := dk_167 0 30 (dk_at dksX13_numbered_2 4 rfl rfl)
theorem dX13_numbered_52 : decode cX13_numbered 52 = .ok (.aload_n 0, 1) := dk_42 (dk_at dksX13_numbered_2 7 rfl rfl)
theorem dX13_numbered_53 : decode cX13_numbered 53 = .ok (.ldc 56, 2) := dk_18 56 (dk_at dksX13_numbered_2 8 rfl rfl)
theorem dX13_numbered_55 : decode cX13_numbered 55 = .ok (.invokevirtual 35, 3) := dk_182 0 35 (dk_at dksX13_numbered_2 10 rfl rfl)
theorem dX13_numbered_58 : decode cX13_numbered 58 = .ok (.ifCond .eq 7, 3) := dk_153 0 7 (dk_at dksX13_numbered_2 13 rfl rfl)
theorem dX13_numbered_61 : decode cX13_numbered 61 = .ok (.iconst 4, 1) := dk_7 (dk_at dksX13_numbered_2 16 rfl rfl)
theorem dX13_numbered_62 : decode cX13_numbered 62 = .ok (.goto 17, 3) := dk_167 0 17 (dk_at dksX13_numbered_2 17 rfl rfl)
theorem dX13_numbered_65 : decode cX13_numbered 65 = .ok (.aload_n 0, 1) := dk_42 (dk_at dksX13_numbered_2 20 rfl rfl)
theorem dX13_numbered_66 : decode cX13_numbered 66 = .ok (.ldc 58, 2) := dk_18 58 (dk_at dksX13_numbered_2 21 rfl rfl)
theorem dX13_numbered_68 : decode cX13_numbered 68 = .ok (.invokevirtual 35, 3) := dk_182 0 35 (dk_at dksX13_numbered_3 0 rfl rfl)
theorem dX13_numbered_71 : decode cX13_numbered 71 = .ok (.ifCond .eq 7, 3) := dk_153 0 7 (dk_at dksX13_numbered_3 3 rfl rfl)
theorem dX13_numbered_74 : decode cX13_numbered 74 = .ok (.iconst 5, 1) := dk_8 (dk_at dksX13_numbered_3 6 rfl rfl)
theorem dX13_numbered_75 : decode cX13_numbered 75 = .ok (.goto 4, 3) := dk_167 0 4 (dk_at dksX13_numbered_3 7 rfl rfl)
theorem dX13_numbered_78 : decode cX13_numbered 78 = .ok (.iconst (-1), 1) := dk_2 (dk_at dksX13_numbered_3 10 rfl rfl)
theorem dX13_numbered_79 : decode cX13_numbered 79 = .ok (.ireturn, 1) := dk_172 (dk_at dksX13_numbered_3 11 rfl rfl)
abbrev cX13_bracket : ByteArray := prog_12_method_8_code
def yX13_bracket : MethodName := ⟨RX13, "bracket", "()LRugReader$Cond;"⟩
def dkwX13_bracket_1 : List UInt8 := [4, 167, 0, 4, 3, 4, 182, 0, 27, 42, 182, 0, 15, 43, 176]
abbrev dktX13_bracket_1 : List UInt8 := dkwX13_bracket_1 ++ []
def dkwX13_bracket_0 : List UInt8 := [42, 182, 0, 19, 76, 42, 42, 180, 0, 23, 16, 6, 160, 0, 16, 42, 180, 0, 60, 16, 41, 160, 0, 7]
abbrev dktX13_bracket_0 : List UInt8 := dkwX13_bracket_0 ++ dktX13_bracket_1
theorem dksX13_bracket_0 : cX13_bracket.data.toList.drop 0 = dktX13_bracket_0 := by decide +kernel
theorem dksX13_bracket_1 : cX13_bracket.data.toList.drop 24 = dktX13_bracket_1 := dk_seg dksX13_bracket_0 24 rfl rfl
theorem dX13_bracket_0 : decode cX13_bracket 0 = .ok (.aload_n 0, 1) := dk_42 (dk_at dksX13_bracket_0 0 rfl rfl)
theorem dX13_bracket_1 : decode cX13_bracket 1 = .ok (.invokevirtual 19, 3) := dk_182 0 19 (dk_at dksX13_bracket_0 1 rfl rfl)
theorem dX13_bracket_4 : decode cX13_bracket 4 = .ok (.astore_n 1, 1) := dk_76 (dk_at dksX13_bracket_0 4 rfl rfl)
theorem dX13_bracket_5 : decode cX13_bracket 5 = .ok (.aload_n 0, 1) := dk_42 (dk_at dksX13_bracket_0 5 rfl rfl)
theorem dX13_bracket_6 : decode cX13_bracket 6 = .ok (.aload_n 0, 1) := dk_42 (dk_at dksX13_bracket_0 6 rfl rfl)
theorem dX13_bracket_7 : decode cX13_bracket 7 = .ok (.getfield 23, 3) := dk_180 0 23 (dk_at dksX13_bracket_0 7 rfl rfl)
theorem dX13_bracket_10 : decode cX13_bracket 10 = .ok (.bipush 6, 2) := dk_16 6 (dk_at dksX13_bracket_0 10 rfl rfl)
theorem dX13_bracket_12 : decode cX13_bracket 12 = .ok (.if_icmp .ne 16, 3) := dk_160 0 16 (dk_at dksX13_bracket_0 12 rfl rfl)
theorem dX13_bracket_15 : decode cX13_bracket 15 = .ok (.aload_n 0, 1) := dk_42 (dk_at dksX13_bracket_0 15 rfl rfl)
theorem dX13_bracket_16 : decode cX13_bracket 16 = .ok (.getfield 60, 3) := dk_180 0 60 (dk_at dksX13_bracket_0 16 rfl rfl)
theorem dX13_bracket_19 : decode cX13_bracket 19 = .ok (.bipush 41, 2) := dk_16 41 (dk_at dksX13_bracket_0 19 rfl rfl)
theorem dX13_bracket_21 : decode cX13_bracket 21 = .ok (.if_icmp .ne 7, 3) := dk_160 0 7 (dk_at dksX13_bracket_0 21 rfl rfl)
theorem dX13_bracket_24 : decode cX13_bracket 24 = .ok (.iconst 1, 1) := dk_4 (dk_at dksX13_bracket_1 0 rfl rfl)
theorem dX13_bracket_25 : decode cX13_bracket 25 = .ok (.goto 4, 3) := dk_167 0 4 (dk_at dksX13_bracket_1 1 rfl rfl)
theorem dX13_bracket_28 : decode cX13_bracket 28 = .ok (.iconst 0, 1) := dk_3 (dk_at dksX13_bracket_1 4 rfl rfl)
theorem dX13_bracket_29 : decode cX13_bracket 29 = .ok (.iconst 1, 1) := dk_4 (dk_at dksX13_bracket_1 5 rfl rfl)
theorem dX13_bracket_30 : decode cX13_bracket 30 = .ok (.invokevirtual 27, 3) := dk_182 0 27 (dk_at dksX13_bracket_1 6 rfl rfl)
theorem dX13_bracket_33 : decode cX13_bracket 33 = .ok (.aload_n 0, 1) := dk_42 (dk_at dksX13_bracket_1 9 rfl rfl)
theorem dX13_bracket_34 : decode cX13_bracket 34 = .ok (.invokevirtual 15, 3) := dk_182 0 15 (dk_at dksX13_bracket_1 10 rfl rfl)
theorem dX13_bracket_37 : decode cX13_bracket 37 = .ok (.aload_n 1, 1) := dk_43 (dk_at dksX13_bracket_1 13 rfl rfl)
theorem dX13_bracket_38 : decode cX13_bracket 38 = .ok (.areturn, 1) := dk_176 (dk_at dksX13_bracket_1 14 rfl rfl)
abbrev cX13_trod : ByteArray := prog_12_method_7_code
def yX13_trod : MethodName := ⟨RX13, "trod", "()LRugReader$Cond;"⟩
def dkwX13_trod_1 : List UInt8 := [176]
abbrev dktX13_trod_1 : List UInt8 := dkwX13_trod_1 ++ []
def dkwX13_trod_0 : List UInt8 := [42, 42, 180, 0, 9, 180, 0, 91, 182, 0, 97, 60, 42, 182, 0, 15, 187, 0, 101, 89, 27, 183, 0, 103]
abbrev dktX13_trod_0 : List UInt8 := dkwX13_trod_0 ++ dktX13_trod_1
theorem dksX13_trod_0 : cX13_trod.data.toList.drop 0 = dktX13_trod_0 := by decide +kernel
theorem dksX13_trod_1 : cX13_trod.data.toList.drop 24 = dktX13_trod_1 := dk_seg dksX13_trod_0 24 rfl rfl
theorem dX13_trod_0 : decode cX13_trod 0 = .ok (.aload_n 0, 1) := dk_42 (dk_at dksX13_trod_0 0 rfl rfl)
theorem dX13_trod_1 : decode cX13_trod 1 = .ok (.aload_n 0, 1) := dk_42 (dk_at dksX13_trod_0 1 rfl rfl)
theorem dX13_trod_2 : decode cX13_trod 2 = .ok (.getfield 9, 3) := dk_180 0 9 (dk_at dksX13_trod_0 2 rfl rfl)
theorem dX13_trod_5 : decode cX13_trod 5 = .ok (.getfield 91, 3) := dk_180 0 91 (dk_at dksX13_trod_0 5 rfl rfl)
theorem dX13_trod_8 : decode cX13_trod 8 = .ok (.invokevirtual 97, 3) := dk_182 0 97 (dk_at dksX13_trod_0 8 rfl rfl)
theorem dX13_trod_11 : decode cX13_trod 11 = .ok (.istore_n 1, 1) := dk_60 (dk_at dksX13_trod_0 11 rfl rfl)
theorem dX13_trod_12 : decode cX13_trod 12 = .ok (.aload_n 0, 1) := dk_42 (dk_at dksX13_trod_0 12 rfl rfl)
theorem dX13_trod_13 : decode cX13_trod 13 = .ok (.invokevirtual 15, 3) := dk_182 0 15 (dk_at dksX13_trod_0 13 rfl rfl)
theorem dX13_trod_16 : decode cX13_trod 16 = .ok (.new 101, 3) := dk_187 0 101 (dk_at dksX13_trod_0 16 rfl rfl)
theorem dX13_trod_19 : decode cX13_trod 19 = .ok (.dup, 1) := dk_89 (dk_at dksX13_trod_0 19 rfl rfl)
theorem dX13_trod_20 : decode cX13_trod 20 = .ok (.iload_n 1, 1) := dk_27 (dk_at dksX13_trod_0 20 rfl rfl)
theorem dX13_trod_21 : decode cX13_trod 21 = .ok (.invokespecial 103, 3) := dk_183 0 103 (dk_at dksX13_trod_0 21 rfl rfl)
theorem dX13_trod_24 : decode cX13_trod 24 = .ok (.areturn, 1) := dk_176 (dk_at dksX13_trod_1 0 rfl rfl)
abbrev cX13_than : ByteArray := prog_12_method_9_code
def yX13_than : MethodName := ⟨RX13, "than", "(I)LRugReader$Cond;"⟩
def dkwX13_than_2 : List UInt8 := [187, 0, 106, 89, 27, 28, 42, 3, 17, 3, 231, 182, 0, 108, 183, 0, 112, 176]
abbrev dktX13_than_2 : List UInt8 := dkwX13_than_2 ++ []
def dkwX13_than_1 : List UInt8 := [16, 41, 159, 0, 7, 4, 167, 0, 4, 3, 4, 182, 0, 27, 42, 180, 0, 60, 61, 42, 182, 0, 15]
abbrev dktX13_than_1 : List UInt8 := dkwX13_than_1 ++ dktX13_than_2
def dkwX13_than_0 : List UInt8 := [42, 42, 180, 0, 23, 16, 6, 160, 0, 25, 42, 180, 0, 60, 16, 40, 159, 0, 16, 42, 180, 0, 60]
abbrev dktX13_than_0 : List UInt8 := dkwX13_than_0 ++ dktX13_than_1
theorem dksX13_than_0 : cX13_than.data.toList.drop 0 = dktX13_than_0 := by decide +kernel
theorem dksX13_than_1 : cX13_than.data.toList.drop 23 = dktX13_than_1 := dk_seg dksX13_than_0 23 rfl rfl
theorem dksX13_than_2 : cX13_than.data.toList.drop 46 = dktX13_than_2 := dk_seg dksX13_than_1 23 rfl rfl
theorem dX13_than_0 : decode cX13_than 0 = .ok (.aload_n 0, 1) := dk_42 (dk_at dksX13_than_0 0 rfl rfl)
theorem dX13_than_1 : decode cX13_than 1 = .ok (.aload_n 0, 1) := dk_42 (dk_at dksX13_than_0 1 rfl rfl)
theorem dX13_than_2 : decode cX13_than 2 = .ok (.getfield 23, 3) := dk_180 0 23 (dk_at dksX13_than_0 2 rfl rfl)
theorem dX13_than_5 : decode cX13_than 5 = .ok (.bipush 6, 2) := dk_16 6 (dk_at dksX13_than_0 5 rfl rfl)
theorem dX13_than_7 : decode cX13_than 7 = .ok (.if_icmp .ne 25, 3) := dk_160 0 25 (dk_at dksX13_than_0 7 rfl rfl)
theorem dX13_than_10 : decode cX13_than 10 = .ok (.aload_n 0, 1) := dk_42 (dk_at dksX13_than_0 10 rfl rfl)
theorem dX13_than_11 : decode cX13_than 11 = .ok (.getfield 60, 3) := dk_180 0 60 (dk_at dksX13_than_0 11 rfl rfl)
theorem dX13_than_14 : decode cX13_than 14 = .ok (.bipush 40, 2) := dk_16 40 (dk_at dksX13_than_0 14 rfl rfl)
theorem dX13_than_16 : decode cX13_than 16 = .ok (.if_icmp .eq 16, 3) := dk_159 0 16 (dk_at dksX13_than_0 16 rfl rfl)
theorem dX13_than_19 : decode cX13_than 19 = .ok (.aload_n 0, 1) := dk_42 (dk_at dksX13_than_0 19 rfl rfl)
theorem dX13_than_20 : decode cX13_than 20 = .ok (.getfield 60, 3) := dk_180 0 60 (dk_at dksX13_than_0 20 rfl rfl)
theorem dX13_than_23 : decode cX13_than 23 = .ok (.bipush 41, 2) := dk_16 41 (dk_at dksX13_than_1 0 rfl rfl)
theorem dX13_than_25 : decode cX13_than 25 = .ok (.if_icmp .eq 7, 3) := dk_159 0 7 (dk_at dksX13_than_1 2 rfl rfl)
theorem dX13_than_28 : decode cX13_than 28 = .ok (.iconst 1, 1) := dk_4 (dk_at dksX13_than_1 5 rfl rfl)
theorem dX13_than_29 : decode cX13_than 29 = .ok (.goto 4, 3) := dk_167 0 4 (dk_at dksX13_than_1 6 rfl rfl)
theorem dX13_than_32 : decode cX13_than 32 = .ok (.iconst 0, 1) := dk_3 (dk_at dksX13_than_1 9 rfl rfl)
theorem dX13_than_33 : decode cX13_than 33 = .ok (.iconst 1, 1) := dk_4 (dk_at dksX13_than_1 10 rfl rfl)
theorem dX13_than_34 : decode cX13_than 34 = .ok (.invokevirtual 27, 3) := dk_182 0 27 (dk_at dksX13_than_1 11 rfl rfl)
theorem dX13_than_37 : decode cX13_than 37 = .ok (.aload_n 0, 1) := dk_42 (dk_at dksX13_than_1 14 rfl rfl)
theorem dX13_than_38 : decode cX13_than 38 = .ok (.getfield 60, 3) := dk_180 0 60 (dk_at dksX13_than_1 15 rfl rfl)
theorem dX13_than_41 : decode cX13_than 41 = .ok (.istore_n 2, 1) := dk_61 (dk_at dksX13_than_1 18 rfl rfl)
theorem dX13_than_42 : decode cX13_than 42 = .ok (.aload_n 0, 1) := dk_42 (dk_at dksX13_than_1 19 rfl rfl)
theorem dX13_than_43 : decode cX13_than 43 = .ok (.invokevirtual 15, 3) := dk_182 0 15 (dk_at dksX13_than_1 20 rfl rfl)
theorem dX13_than_46 : decode cX13_than 46 = .ok (.new 106, 3) := dk_187 0 106 (dk_at dksX13_than_2 0 rfl rfl)
theorem dX13_than_49 : decode cX13_than 49 = .ok (.dup, 1) := dk_89 (dk_at dksX13_than_2 3 rfl rfl)
theorem dX13_than_50 : decode cX13_than 50 = .ok (.iload_n 1, 1) := dk_27 (dk_at dksX13_than_2 4 rfl rfl)
theorem dX13_than_51 : decode cX13_than 51 = .ok (.iload_n 2, 1) := dk_28 (dk_at dksX13_than_2 5 rfl rfl)
theorem dX13_than_52 : decode cX13_than 52 = .ok (.aload_n 0, 1) := dk_42 (dk_at dksX13_than_2 6 rfl rfl)
theorem dX13_than_53 : decode cX13_than 53 = .ok (.iconst 0, 1) := dk_3 (dk_at dksX13_than_2 7 rfl rfl)
theorem dX13_than_54 : decode cX13_than 54 = .ok (.sipush 999, 3) := dk_17 3 231 (dk_at dksX13_than_2 8 rfl rfl)
theorem dX13_than_57 : decode cX13_than 57 = .ok (.invokevirtual 108, 3) := dk_182 0 108 (dk_at dksX13_than_2 11 rfl rfl)
theorem dX13_than_60 : decode cX13_than 60 = .ok (.invokespecial 112, 3) := dk_183 0 112 (dk_at dksX13_than_2 14 rfl rfl)
theorem dX13_than_63 : decode cX13_than 63 = .ok (.areturn, 1) := dk_176 (dk_at dksX13_than_2 17 rfl rfl)
theorem q136 : (Jvm.Cond.initialized "RugReader$SentenceReader") ∈ lw_all := lw_g (lw_at lw_m1 34 rfl) rfl
theorem q208 : (Jvm.Cond.fieldLinkNest "RugReader$SentenceReader" (91 : Nat) "RugReader$House" "ways" "Ljava/util/ArrayList;" "RugReader") ∈ lw_tbl := lw_at lw_m1 106 rfl
theorem q462 : (Jvm.Cond.fieldLink "RugReader$SentenceReader" (23 : Nat) "RugReader$SentenceReader" "kind" "I") ∈ lw_all := lw_g (lw_at lw_m2 120 rfl) rfl
theorem q463 : (Jvm.Cond.sameField "RugReader$SentenceReader" "RugReader$Reader" "kind" "I") ∈ lw_all := lw_g (lw_at lw_m2 121 rfl) rfl
theorem q470 : (Jvm.Cond.fieldLink "RugReader$SentenceReader" (60 : Nat) "RugReader$SentenceReader" "sign" "I") ∈ lw_all := lw_g (lw_at lw_m2 128 rfl) rfl
theorem q471 : (Jvm.Cond.sameField "RugReader$SentenceReader" "RugReader$Reader" "sign" "I") ∈ lw_all := lw_g (lw_at lw_m2 129 rfl) rfl
theorem q816 : (Jvm.Cond.selects "RugReader$SentenceReader" ({ cls := "RugReader$Reader", name := "hold", desc := "(II)I" } : Jvm.MethodName) ({ cls := "RugReader$Reader", name := "hold", desc := "(II)I" } : Jvm.MethodName)) ∈ lw_all := lw_g (lw_at lw_m3 234 rfl) rfl
theorem q1000 : (Jvm.Cond.selects "RugReader$SentenceReader" ({ cls := "java/lang/Object", name := "getClass", desc := "()Ljava/lang/Class;" } : Jvm.MethodName) ({ cls := "java/lang/Object", name := "getClass", desc := "()Ljava/lang/Class;" } : Jvm.MethodName)) ∈ lw_all := lw_g (lw_at lw_m4 178 rfl) rfl
theorem q1490 : (Jvm.Cond.instantiable "RugReader$SentenceReader" (12 : Nat)) ∈ lw_all := lw_g (lw_at lw_m6 188 rfl) rfl
theorem q1492 : (Jvm.Cond.instanceMethod ({ cls := "RugReader$SentenceReader", name := "<init>", desc := "([BILRugReader$House;)V" } : Jvm.MethodName)) ∈ lw_all := lw_g (lw_at lw_m6 190 rfl) rfl
theorem q1493 : (Jvm.Cond.code ({ cls := "RugReader$SentenceReader", name := "<init>", desc := "([BILRugReader$House;)V" } : Jvm.MethodName) prog_12_method_1_code (4 : Nat) (Option.none : Option Jvm.ClassFile.FieldType)) ∈ lw_all := lw_g (lw_at lw_m6 191 rfl) rfl
theorem q1494 : (Jvm.Cond.methodLink "RugReader$SentenceReader" (3 : Nat) ({ cls := "RugReader$Reader", name := "<init>", desc := "([BII)V" } : Jvm.MethodName)) ∈ lw_all := lw_g (lw_at lw_m6 192 rfl) rfl
theorem q1495 : (Jvm.Cond.fieldLink "RugReader$SentenceReader" (9 : Nat) "RugReader$SentenceReader" "h" "LRugReader$House;") ∈ lw_all := lw_g (lw_at lw_m6 193 rfl) rfl
theorem q1496 : (Jvm.Cond.fieldLink "RugReader$SentenceReader" (71 : Nat) "RugReader$SentenceReader" "ones" "I") ∈ lw_all := lw_g (lw_at lw_m6 194 rfl) rfl
theorem q1498 : (Jvm.Cond.fieldLink "RugReader$SentenceReader" (74 : Nat) "RugReader$SentenceReader" "within" "I") ∈ lw_all := lw_g (lw_at lw_m6 196 rfl) rfl
theorem q1499 : (Jvm.Cond.laysFinal "RugReader$SentenceReader" "RugReader$SentenceReader" "h" "LRugReader$House;") ∈ lw_all := lw_g (lw_at lw_m6 197 rfl) rfl
theorem q1500 : (Jvm.Cond.soleField "RugReader$SentenceReader" "h") ∈ lw_all := lw_g (lw_at lw_m6 198 rfl) rfl
theorem q1501 : (Jvm.Cond.lays "RugReader$SentenceReader" "RugReader$SentenceReader" "ones" "I") ∈ lw_all := lw_g (lw_at lw_m6 199 rfl) rfl
theorem q1502 : (Jvm.Cond.soleField "RugReader$SentenceReader" "ones") ∈ lw_all := lw_g (lw_at lw_m6 200 rfl) rfl
theorem q1503 : (Jvm.Cond.lays "RugReader$SentenceReader" "RugReader$SentenceReader" "within" "I") ∈ lw_all := lw_g (lw_at lw_m6 201 rfl) rfl
theorem q1504 : (Jvm.Cond.soleField "RugReader$SentenceReader" "within") ∈ lw_all := lw_g (lw_at lw_m6 202 rfl) rfl
theorem q1505 : (Jvm.Cond.laysFinal "RugReader$SentenceReader" "RugReader$Reader" "tape" "[B") ∈ lw_all := lw_g (lw_at lw_m6 203 rfl) rfl
theorem q1506 : (Jvm.Cond.laysFinal "RugReader$SentenceReader" "RugReader$Reader" "size" "I") ∈ lw_all := lw_g (lw_at lw_m6 204 rfl) rfl
theorem q1507 : (Jvm.Cond.laysFinal "RugReader$SentenceReader" "RugReader$Reader" "limit" "I") ∈ lw_all := lw_g (lw_at lw_m6 205 rfl) rfl
theorem q1508 : (Jvm.Cond.lays "RugReader$SentenceReader" "RugReader$Reader" "to" "I") ∈ lw_all := lw_g (lw_at lw_m6 206 rfl) rfl
theorem q1509 : (Jvm.Cond.lays "RugReader$SentenceReader" "RugReader$Reader" "kind" "I") ∈ lw_all := lw_g (lw_at lw_m6 207 rfl) rfl
theorem q1510 : (Jvm.Cond.lays "RugReader$SentenceReader" "RugReader$Reader" "from" "I") ∈ lw_all := lw_g (lw_at lw_m6 208 rfl) rfl
theorem q1511 : (Jvm.Cond.lays "RugReader$SentenceReader" "RugReader$Reader" "number" "I") ∈ lw_all := lw_g (lw_at lw_m6 209 rfl) rfl
theorem q1512 : (Jvm.Cond.lays "RugReader$SentenceReader" "RugReader$Reader" "sign" "I") ∈ lw_all := lw_g (lw_at lw_m6 210 rfl) rfl
theorem q1513 : (Jvm.Cond.lays "RugReader$SentenceReader" "RugReader$Reader" "word" "Ljava/lang/String;") ∈ lw_all := lw_g (lw_at lw_m6 211 rfl) rfl
theorem q1514 : (Jvm.Cond.superclass "RugReader$SentenceReader" "RugReader$Reader") ∈ lw_all := lw_g (lw_at lw_m6 212 rfl) rfl
theorem q1516 : (Jvm.Cond.instanceMethod ({ cls := "RugReader$SentenceReader", name := "read", desc := "()LRugReader$Cond;" } : Jvm.MethodName)) ∈ lw_all := lw_g (lw_at lw_m6 214 rfl) rfl
theorem q1517 : (Jvm.Cond.selects "RugReader$SentenceReader" ({ cls := "RugReader$SentenceReader", name := "read", desc := "()LRugReader$Cond;" } : Jvm.MethodName) ({ cls := "RugReader$SentenceReader", name := "read", desc := "()LRugReader$Cond;" } : Jvm.MethodName)) ∈ lw_all := lw_g (lw_at lw_m6 215 rfl) rfl
theorem q1518 : (Jvm.Cond.code ({ cls := "RugReader$SentenceReader", name := "read", desc := "()LRugReader$Cond;" } : Jvm.MethodName) prog_12_method_2_code (2 : Nat) (Option.some (Jvm.ClassFile.FieldType.object "RugReader$Cond"))) ∈ lw_all := lw_g (lw_at lw_m6 216 rfl) rfl
theorem q1519 : (Jvm.Cond.methodLink "RugReader$SentenceReader" (15 : Nat) ({ cls := "RugReader$SentenceReader", name := "go", desc := "()V" } : Jvm.MethodName)) ∈ lw_all := lw_g (lw_at lw_m6 217 rfl) rfl
theorem q1520 : (Jvm.Cond.sameMethod "RugReader$SentenceReader" "RugReader$Reader" "go" "()V") ∈ lw_all := lw_g (lw_at lw_m6 218 rfl) rfl
theorem q1521 : (Jvm.Cond.selects "RugReader$SentenceReader" ({ cls := "RugReader$SentenceReader", name := "go", desc := "()V" } : Jvm.MethodName) ({ cls := "RugReader$Reader", name := "go", desc := "()V" } : Jvm.MethodName)) ∈ lw_all := lw_g (lw_at lw_m6 219 rfl) rfl
theorem q1522 : (Jvm.Cond.methodLink "RugReader$SentenceReader" (19 : Nat) ({ cls := "RugReader$SentenceReader", name := "or", desc := "()LRugReader$Cond;" } : Jvm.MethodName)) ∈ lw_all := lw_g (lw_at lw_m6 220 rfl) rfl
theorem q1523 : (Jvm.Cond.privateMethod ({ cls := "RugReader$SentenceReader", name := "or", desc := "()LRugReader$Cond;" } : Jvm.MethodName)) ∈ lw_tbl := lw_at lw_m6 221 rfl
theorem q1524 : (Jvm.Cond.instanceMethod ({ cls := "RugReader$SentenceReader", name := "or", desc := "()LRugReader$Cond;" } : Jvm.MethodName)) ∈ lw_all := lw_g (lw_at lw_m6 222 rfl) rfl
theorem q1525 : (Jvm.Cond.code ({ cls := "RugReader$SentenceReader", name := "or", desc := "()LRugReader$Cond;" } : Jvm.MethodName) prog_12_method_3_code (2 : Nat) (Option.some (Jvm.ClassFile.FieldType.object "RugReader$Cond"))) ∈ lw_all := lw_g (lw_at lw_m6 223 rfl) rfl
theorem q1526 : (Jvm.Cond.methodLink "RugReader$SentenceReader" (31 : Nat) ({ cls := "RugReader$SentenceReader", name := "and", desc := "()LRugReader$Cond;" } : Jvm.MethodName)) ∈ lw_all := lw_g (lw_at lw_m6 224 rfl) rfl
theorem q1527 : (Jvm.Cond.privateMethod ({ cls := "RugReader$SentenceReader", name := "and", desc := "()LRugReader$Cond;" } : Jvm.MethodName)) ∈ lw_tbl := lw_at lw_m6 225 rfl
theorem q1528 : (Jvm.Cond.instanceMethod ({ cls := "RugReader$SentenceReader", name := "and", desc := "()LRugReader$Cond;" } : Jvm.MethodName)) ∈ lw_all := lw_g (lw_at lw_m6 226 rfl) rfl
theorem q1529 : (Jvm.Cond.code ({ cls := "RugReader$SentenceReader", name := "and", desc := "()LRugReader$Cond;" } : Jvm.MethodName) prog_12_method_4_code (2 : Nat) (Option.some (Jvm.ClassFile.FieldType.object "RugReader$Cond"))) ∈ lw_all := lw_g (lw_at lw_m6 227 rfl) rfl
theorem q1530 : (Jvm.Cond.methodLink "RugReader$SentenceReader" (44 : Nat) ({ cls := "RugReader$SentenceReader", name := "one", desc := "()LRugReader$Cond;" } : Jvm.MethodName)) ∈ lw_all := lw_g (lw_at lw_m6 228 rfl) rfl
theorem q1531 : (Jvm.Cond.privateMethod ({ cls := "RugReader$SentenceReader", name := "one", desc := "()LRugReader$Cond;" } : Jvm.MethodName)) ∈ lw_tbl := lw_at lw_m6 229 rfl
theorem q1532 : (Jvm.Cond.instanceMethod ({ cls := "RugReader$SentenceReader", name := "one", desc := "()LRugReader$Cond;" } : Jvm.MethodName)) ∈ lw_all := lw_g (lw_at lw_m6 230 rfl) rfl
theorem q1533 : (Jvm.Cond.code ({ cls := "RugReader$SentenceReader", name := "one", desc := "()LRugReader$Cond;" } : Jvm.MethodName) prog_12_method_6_code (6 : Nat) (Option.some (Jvm.ClassFile.FieldType.object "RugReader$Cond"))) ∈ lw_all := lw_g (lw_at lw_m6 231 rfl) rfl
theorem q1534 : (Jvm.Cond.stringRef "RugReader$SentenceReader" (63 : Nat) "not") ∈ lw_tbl := lw_at lw_m6 232 rfl
theorem q1535 : (Jvm.Cond.methodLink "RugReader$SentenceReader" (35 : Nat) ({ cls := "RugReader$SentenceReader", name := "is", desc := "(Ljava/lang/String;)Z" } : Jvm.MethodName)) ∈ lw_all := lw_g (lw_at lw_m6 233 rfl) rfl
theorem q1536 : (Jvm.Cond.sameMethod "RugReader$SentenceReader" "RugReader$Reader" "is" "(Ljava/lang/String;)Z") ∈ lw_all := lw_g (lw_at lw_m6 234 rfl) rfl
theorem q1537 : (Jvm.Cond.selects "RugReader$SentenceReader" ({ cls := "RugReader$SentenceReader", name := "is", desc := "(Ljava/lang/String;)Z" } : Jvm.MethodName) ({ cls := "RugReader$Reader", name := "is", desc := "(Ljava/lang/String;)Z" } : Jvm.MethodName)) ∈ lw_all := lw_g (lw_at lw_m6 235 rfl) rfl
theorem q1538 : (Jvm.Cond.stringRef "RugReader$SentenceReader" (65 : Nat) "trod") ∈ lw_tbl := lw_at lw_m6 236 rfl
theorem q1539 : (Jvm.Cond.methodLink "RugReader$SentenceReader" (67 : Nat) ({ cls := "RugReader$SentenceReader", name := "numbered", desc := "()I" } : Jvm.MethodName)) ∈ lw_all := lw_g (lw_at lw_m6 237 rfl) rfl
theorem q1540 : (Jvm.Cond.privateMethod ({ cls := "RugReader$SentenceReader", name := "numbered", desc := "()I" } : Jvm.MethodName)) ∈ lw_tbl := lw_at lw_m6 238 rfl
theorem q1541 : (Jvm.Cond.instanceMethod ({ cls := "RugReader$SentenceReader", name := "numbered", desc := "()I" } : Jvm.MethodName)) ∈ lw_all := lw_g (lw_at lw_m6 239 rfl) rfl
theorem q1542 : (Jvm.Cond.code ({ cls := "RugReader$SentenceReader", name := "numbered", desc := "()I" } : Jvm.MethodName) prog_12_method_5_code (1 : Nat) (Option.some Jvm.ClassFile.FieldType.int)) ∈ lw_all := lw_g (lw_at lw_m7 0 rfl) rfl
theorem q1543 : (Jvm.Cond.stringRef "RugReader$SentenceReader" (48 : Nat) "weight") ∈ lw_tbl := lw_at lw_m7 1 rfl
theorem q1544 : (Jvm.Cond.stringRef "RugReader$SentenceReader" (50 : Nat) "sole") ∈ lw_tbl := lw_at lw_m7 2 rfl
theorem q1545 : (Jvm.Cond.stringRef "RugReader$SentenceReader" (52 : Nat) "pace") ∈ lw_tbl := lw_at lw_m7 3 rfl
theorem q1546 : (Jvm.Cond.stringRef "RugReader$SentenceReader" (54 : Nat) "prints") ∈ lw_tbl := lw_at lw_m7 4 rfl
theorem q1547 : (Jvm.Cond.stringRef "RugReader$SentenceReader" (56 : Nat) "tufts") ∈ lw_tbl := lw_at lw_m7 5 rfl
theorem q1548 : (Jvm.Cond.stringRef "RugReader$SentenceReader" (58 : Nat) "place") ∈ lw_tbl := lw_at lw_m7 6 rfl
theorem q1549 : (Jvm.Cond.methodLink "RugReader$SentenceReader" (27 : Nat) ({ cls := "RugReader$SentenceReader", name := "need", desc := "(ZI)V" } : Jvm.MethodName)) ∈ lw_all := lw_g (lw_at lw_m7 7 rfl) rfl
theorem q1550 : (Jvm.Cond.sameMethod "RugReader$SentenceReader" "RugReader$Reader" "need" "(ZI)V") ∈ lw_all := lw_g (lw_at lw_m7 8 rfl) rfl
theorem q1551 : (Jvm.Cond.selects "RugReader$SentenceReader" ({ cls := "RugReader$SentenceReader", name := "need", desc := "(ZI)V" } : Jvm.MethodName) ({ cls := "RugReader$Reader", name := "need", desc := "(ZI)V" } : Jvm.MethodName)) ∈ lw_all := lw_g (lw_at lw_m7 9 rfl) rfl
theorem q1552 : (Jvm.Cond.methodLink "RugReader$SentenceReader" (77 : Nat) ({ cls := "RugReader$SentenceReader", name := "bracket", desc := "()LRugReader$Cond;" } : Jvm.MethodName)) ∈ lw_all := lw_g (lw_at lw_m7 10 rfl) rfl
theorem q1553 : (Jvm.Cond.privateMethod ({ cls := "RugReader$SentenceReader", name := "bracket", desc := "()LRugReader$Cond;" } : Jvm.MethodName)) ∈ lw_tbl := lw_at lw_m7 11 rfl
theorem q1554 : (Jvm.Cond.instanceMethod ({ cls := "RugReader$SentenceReader", name := "bracket", desc := "()LRugReader$Cond;" } : Jvm.MethodName)) ∈ lw_all := lw_g (lw_at lw_m7 12 rfl) rfl
theorem q1555 : (Jvm.Cond.code ({ cls := "RugReader$SentenceReader", name := "bracket", desc := "()LRugReader$Cond;" } : Jvm.MethodName) prog_12_method_8_code (2 : Nat) (Option.some (Jvm.ClassFile.FieldType.object "RugReader$Cond"))) ∈ lw_all := lw_g (lw_at lw_m7 13 rfl) rfl
theorem q1556 : (Jvm.Cond.classLink "RugReader$SentenceReader" (80 : Nat) "RugReader$Not") ∈ lw_all := lw_g (lw_at lw_m7 14 rfl) rfl
theorem q1558 : (Jvm.Cond.methodLink "RugReader$SentenceReader" (82 : Nat) ({ cls := "RugReader$Not", name := "<init>", desc := "(LRugReader$Cond;)V" } : Jvm.MethodName)) ∈ lw_all := lw_g (lw_at lw_m7 16 rfl) rfl
theorem q1569 : (Jvm.Cond.methodLink "RugReader$SentenceReader" (85 : Nat) ({ cls := "RugReader$SentenceReader", name := "trod", desc := "()LRugReader$Cond;" } : Jvm.MethodName)) ∈ lw_all := lw_g (lw_at lw_m7 27 rfl) rfl
theorem q1570 : (Jvm.Cond.privateMethod ({ cls := "RugReader$SentenceReader", name := "trod", desc := "()LRugReader$Cond;" } : Jvm.MethodName)) ∈ lw_tbl := lw_at lw_m7 28 rfl
theorem q1571 : (Jvm.Cond.instanceMethod ({ cls := "RugReader$SentenceReader", name := "trod", desc := "()LRugReader$Cond;" } : Jvm.MethodName)) ∈ lw_all := lw_g (lw_at lw_m7 29 rfl) rfl
theorem q1572 : (Jvm.Cond.code ({ cls := "RugReader$SentenceReader", name := "trod", desc := "()LRugReader$Cond;" } : Jvm.MethodName) prog_12_method_7_code (2 : Nat) (Option.some (Jvm.ClassFile.FieldType.object "RugReader$Cond"))) ∈ lw_all := lw_g (lw_at lw_m7 30 rfl) rfl
theorem q1573 : (Jvm.Cond.methodLink "RugReader$SentenceReader" (97 : Nat) ({ cls := "RugReader$SentenceReader", name := "holdOne", desc := "(Ljava/util/ArrayList;)I" } : Jvm.MethodName)) ∈ lw_all := lw_g (lw_at lw_m7 31 rfl) rfl
theorem q1574 : (Jvm.Cond.sameMethod "RugReader$SentenceReader" "RugReader$Reader" "holdOne" "(Ljava/util/ArrayList;)I") ∈ lw_all := lw_g (lw_at lw_m7 32 rfl) rfl
theorem q1575 : (Jvm.Cond.selects "RugReader$SentenceReader" ({ cls := "RugReader$SentenceReader", name := "holdOne", desc := "(Ljava/util/ArrayList;)I" } : Jvm.MethodName) ({ cls := "RugReader$Reader", name := "holdOne", desc := "(Ljava/util/ArrayList;)I" } : Jvm.MethodName)) ∈ lw_all := lw_g (lw_at lw_m7 33 rfl) rfl
theorem q1576 : (Jvm.Cond.classLink "RugReader$SentenceReader" (101 : Nat) "RugReader$Trod") ∈ lw_all := lw_g (lw_at lw_m7 34 rfl) rfl
theorem q1578 : (Jvm.Cond.methodLink "RugReader$SentenceReader" (103 : Nat) ({ cls := "RugReader$Trod", name := "<init>", desc := "(I)V" } : Jvm.MethodName)) ∈ lw_all := lw_g (lw_at lw_m7 36 rfl) rfl
theorem q1586 : (Jvm.Cond.methodLink "RugReader$SentenceReader" (87 : Nat) ({ cls := "RugReader$SentenceReader", name := "than", desc := "(I)LRugReader$Cond;" } : Jvm.MethodName)) ∈ lw_all := lw_g (lw_at lw_m7 44 rfl) rfl
theorem q1587 : (Jvm.Cond.privateMethod ({ cls := "RugReader$SentenceReader", name := "than", desc := "(I)LRugReader$Cond;" } : Jvm.MethodName)) ∈ lw_tbl := lw_at lw_m7 45 rfl
theorem q1588 : (Jvm.Cond.instanceMethod ({ cls := "RugReader$SentenceReader", name := "than", desc := "(I)LRugReader$Cond;" } : Jvm.MethodName)) ∈ lw_all := lw_g (lw_at lw_m7 46 rfl) rfl
theorem q1589 : (Jvm.Cond.code ({ cls := "RugReader$SentenceReader", name := "than", desc := "(I)LRugReader$Cond;" } : Jvm.MethodName) prog_12_method_9_code (3 : Nat) (Option.some (Jvm.ClassFile.FieldType.object "RugReader$Cond"))) ∈ lw_all := lw_g (lw_at lw_m7 47 rfl) rfl
theorem q1590 : (Jvm.Cond.classLink "RugReader$SentenceReader" (106 : Nat) "RugReader$Than") ∈ lw_all := lw_g (lw_at lw_m7 48 rfl) rfl
theorem q1592 : (Jvm.Cond.methodLink "RugReader$SentenceReader" (108 : Nat) ({ cls := "RugReader$SentenceReader", name := "number", desc := "(II)I" } : Jvm.MethodName)) ∈ lw_all := lw_g (lw_at lw_m7 50 rfl) rfl
theorem q1593 : (Jvm.Cond.sameMethod "RugReader$SentenceReader" "RugReader$Reader" "number" "(II)I") ∈ lw_all := lw_g (lw_at lw_m7 51 rfl) rfl
theorem q1594 : (Jvm.Cond.selects "RugReader$SentenceReader" ({ cls := "RugReader$SentenceReader", name := "number", desc := "(II)I" } : Jvm.MethodName) ({ cls := "RugReader$Reader", name := "number", desc := "(II)I" } : Jvm.MethodName)) ∈ lw_all := lw_g (lw_at lw_m7 52 rfl) rfl
theorem q1595 : (Jvm.Cond.methodLink "RugReader$SentenceReader" (112 : Nat) ({ cls := "RugReader$Than", name := "<init>", desc := "(III)V" } : Jvm.MethodName)) ∈ lw_all := lw_g (lw_at lw_m7 53 rfl) rfl
theorem q1609 : (Jvm.Cond.stringRef "RugReader$SentenceReader" (47 : Nat) "and") ∈ lw_tbl := lw_at lw_m7 67 rfl
theorem q1610 : (Jvm.Cond.classLink "RugReader$SentenceReader" (39 : Nat) "RugReader$Two") ∈ lw_all := lw_g (lw_at lw_m7 68 rfl) rfl
theorem q1612 : (Jvm.Cond.methodLink "RugReader$SentenceReader" (41 : Nat) ({ cls := "RugReader$Two", name := "<init>", desc := "(LRugReader$Cond;LRugReader$Cond;Z)V" } : Jvm.MethodName)) ∈ lw_all := lw_g (lw_at lw_m7 70 rfl) rfl
theorem q1626 : (Jvm.Cond.stringRef "RugReader$SentenceReader" (34 : Nat) "or") ∈ lw_tbl := lw_at lw_m7 84 rfl
theorem q2328 : (Jvm.Cond.selects "RugReader$SentenceReader" ({ cls := "RugReader$Reader", name := "need", desc := "(ZI)V" } : Jvm.MethodName) ({ cls := "RugReader$Reader", name := "need", desc := "(ZI)V" } : Jvm.MethodName)) ∈ lw_all := lw_g (lw_at lw_m10 66 rfl) rfl
theorem q2332 : (Jvm.Cond.selects "RugReader$SentenceReader" ({ cls := "RugReader$Reader", name := "go", desc := "()V" } : Jvm.MethodName) ({ cls := "RugReader$Reader", name := "go", desc := "()V" } : Jvm.MethodName)) ∈ lw_all := lw_g (lw_at lw_m10 70 rfl) rfl
theorem q2340 : (Jvm.Cond.selects "RugReader$SentenceReader" ({ cls := "RugReader$Reader", name := "number", desc := "(II)I" } : Jvm.MethodName) ({ cls := "RugReader$Reader", name := "number", desc := "(II)I" } : Jvm.MethodName)) ∈ lw_all := lw_g (lw_at lw_m10 78 rfl) rfl
theorem q2344 : (Jvm.Cond.selects "RugReader$SentenceReader" ({ cls := "RugReader$Reader", name := "is", desc := "(Ljava/lang/String;)Z" } : Jvm.MethodName) ({ cls := "RugReader$Reader", name := "is", desc := "(Ljava/lang/String;)Z" } : Jvm.MethodName)) ∈ lw_all := lw_g (lw_at lw_m10 82 rfl) rfl
theorem q2348 : (Jvm.Cond.selects "RugReader$SentenceReader" ({ cls := "RugReader$Reader", name := "isName", desc := "()Z" } : Jvm.MethodName) ({ cls := "RugReader$Reader", name := "isName", desc := "()Z" } : Jvm.MethodName)) ∈ lw_all := lw_g (lw_at lw_m10 86 rfl) rfl
theorem q2352 : (Jvm.Cond.selects "RugReader$SentenceReader" ({ cls := "RugReader$Reader", name := "find", desc := "(Ljava/util/ArrayList;)I" } : Jvm.MethodName) ({ cls := "RugReader$Reader", name := "find", desc := "(Ljava/util/ArrayList;)I" } : Jvm.MethodName)) ∈ lw_all := lw_g (lw_at lw_m10 90 rfl) rfl
theorem q2372 : (Jvm.Cond.castable "RugReader$SentenceReader" "java/lang/Object") ∈ lw_tbl := lw_at lw_m10 110 rfl
theorem in_X13 : ∀ w ∈ wsX130, w ∈ lw_all := lw_in wsX130 [1505, 1506, 1507, 1508, 1509, 1510, 1511, 1512, 1513, 1499, 1501, 1503] (by decide +kernel) (by decide +kernel)
/-! RugReader$Cond -/
set_option maxRecDepth 100000
def RX14 : String := "RugReader$Cond"
abbrev cX14_init : ByteArray := prog_2_method_1_code
def yX14_init : MethodName := ⟨RX14, "<init>", "()V"⟩
theorem dX14_init_0 : decode cX14_init 0 = .ok (.aload_n 0, 1) := by decide +kernel
theorem dX14_init_1 : decode cX14_init 1 = .ok (.invokespecial 1, 3) := by decide +kernel
theorem dX14_init_4 : decode cX14_init 4 = .ok (.return_, 1) := by decide +kernel
theorem q137 : (Jvm.Cond.initialized "RugReader$Cond") ∈ lw_all := lw_g (lw_at lw_m1 35 rfl) rfl
theorem q1562 : (Jvm.Cond.instanceMethod ({ cls := "RugReader$Cond", name := "<init>", desc := "()V" } : Jvm.MethodName)) ∈ lw_all := lw_g (lw_at lw_m7 20 rfl) rfl
theorem q1563 : (Jvm.Cond.code ({ cls := "RugReader$Cond", name := "<init>", desc := "()V" } : Jvm.MethodName) prog_2_method_1_code (1 : Nat) (Option.none : Option Jvm.ClassFile.FieldType)) ∈ lw_all := lw_g (lw_at lw_m7 21 rfl) rfl
theorem q1564 : (Jvm.Cond.methodLink "RugReader$Cond" (1 : Nat) ({ cls := "java/lang/Object", name := "<init>", desc := "()V" } : Jvm.MethodName)) ∈ lw_all := lw_g (lw_at lw_m7 22 rfl) rfl
theorem q1632 : (Jvm.Cond.declares ({ cls := "RugReader$Cond", name := "holds", desc := "(LRugReader$Rug;I)Z" } : Jvm.MethodName)) ∈ lw_tbl := lw_at lw_m7 90 rfl
theorem q1633 : (Jvm.Cond.sameMethod "RugReader$Cond" "RugReader$Cond" "holds" "(LRugReader$Rug;I)Z") ∈ lw_all := lw_g (lw_at lw_m7 91 rfl) rfl
/-! RugReader$Not -/
set_option maxRecDepth 100000
def RX15 : String := "RugReader$Not"
def TX15 : u_T := fun k => match k with
  | _ => ("RugReader$Not", "c", "LRugReader$Cond;", true)
def tyX15 : Nat → FieldType := fun k => match k with
  | _ => .object "RugReader$Cond"
abbrev wsX150 : List Cond := u_ws RX15 TX15 1
theorem nmX15 : ∀ a, a < 1 → ∀ b, b < 1 → a ≠ b → (TX15 a).2.1 ≠ (TX15 b).2.1 := by decide +kernel
theorem tyX15_ok : ∀ k, k < 1 → parseFieldDescriptor (TX15 k).2.2.1 = some (tyX15 k) := by decide +kernel
abbrev cX15_init : ByteArray := prog_8_method_1_code
def yX15_init : MethodName := ⟨RX15, "<init>", "(LRugReader$Cond;)V"⟩
def dkwX15_init_0 : List UInt8 := [42, 183, 0, 1, 42, 43, 181, 0, 7, 177]
abbrev dktX15_init_0 : List UInt8 := dkwX15_init_0 ++ []
theorem dksX15_init_0 : cX15_init.data.toList.drop 0 = dktX15_init_0 := by decide +kernel
theorem dX15_init_0 : decode cX15_init 0 = .ok (.aload_n 0, 1) := dk_42 (dk_at dksX15_init_0 0 rfl rfl)
theorem dX15_init_1 : decode cX15_init 1 = .ok (.invokespecial 1, 3) := dk_183 0 1 (dk_at dksX15_init_0 1 rfl rfl)
theorem dX15_init_4 : decode cX15_init 4 = .ok (.aload_n 0, 1) := dk_42 (dk_at dksX15_init_0 4 rfl rfl)
theorem dX15_init_5 : decode cX15_init 5 = .ok (.aload_n 1, 1) := dk_43 (dk_at dksX15_init_0 5 rfl rfl)
theorem dX15_init_6 : decode cX15_init 6 = .ok (.putfield 7, 3) := dk_181 0 7 (dk_at dksX15_init_0 6 rfl rfl)
theorem dX15_init_9 : decode cX15_init 9 = .ok (.return_, 1) := dk_177 (dk_at dksX15_init_0 9 rfl rfl)
abbrev cX15_holds : ByteArray := prog_8_method_2_code
def yX15_holds : MethodName := ⟨RX15, "holds", "(LRugReader$Rug;I)Z"⟩
def dkwX15_holds_0 : List UInt8 := [42, 180, 0, 7, 43, 28, 182, 0, 13, 154, 0, 7, 4, 167, 0, 4, 3, 172]
abbrev dktX15_holds_0 : List UInt8 := dkwX15_holds_0 ++ []
theorem dksX15_holds_0 : cX15_holds.data.toList.drop 0 = dktX15_holds_0 := by decide +kernel
theorem dX15_holds_0 : decode cX15_holds 0 = .ok (.aload_n 0, 1) := dk_42 (dk_at dksX15_holds_0 0 rfl rfl)
theorem dX15_holds_1 : decode cX15_holds 1 = .ok (.getfield 7, 3) := dk_180 0 7 (dk_at dksX15_holds_0 1 rfl rfl)
theorem dX15_holds_4 : decode cX15_holds 4 = .ok (.aload_n 1, 1) := dk_43 (dk_at dksX15_holds_0 4 rfl rfl)
theorem dX15_holds_5 : decode cX15_holds 5 = .ok (.iload_n 2, 1) := dk_28 (dk_at dksX15_holds_0 5 rfl rfl)
theorem dX15_holds_6 : decode cX15_holds 6 = .ok (.invokevirtual 13, 3) := dk_182 0 13 (dk_at dksX15_holds_0 6 rfl rfl)
theorem dX15_holds_9 : decode cX15_holds 9 = .ok (.ifCond .ne 7, 3) := dk_154 0 7 (dk_at dksX15_holds_0 9 rfl rfl)
theorem dX15_holds_12 : decode cX15_holds 12 = .ok (.iconst 1, 1) := dk_4 (dk_at dksX15_holds_0 12 rfl rfl)
theorem dX15_holds_13 : decode cX15_holds 13 = .ok (.goto 4, 3) := dk_167 0 4 (dk_at dksX15_holds_0 13 rfl rfl)
theorem dX15_holds_16 : decode cX15_holds 16 = .ok (.iconst 0, 1) := dk_3 (dk_at dksX15_holds_0 16 rfl rfl)
theorem dX15_holds_17 : decode cX15_holds 17 = .ok (.ireturn, 1) := dk_172 (dk_at dksX15_holds_0 17 rfl rfl)
theorem q138 : (Jvm.Cond.initialized "RugReader$Not") ∈ lw_all := lw_g (lw_at lw_m1 36 rfl) rfl
theorem q997 : (Jvm.Cond.selects "RugReader$Not" ({ cls := "java/lang/Object", name := "getClass", desc := "()Ljava/lang/Class;" } : Jvm.MethodName) ({ cls := "java/lang/Object", name := "getClass", desc := "()Ljava/lang/Class;" } : Jvm.MethodName)) ∈ lw_all := lw_g (lw_at lw_m4 175 rfl) rfl
theorem q1557 : (Jvm.Cond.instantiable "RugReader$Not" (1 : Nat)) ∈ lw_all := lw_g (lw_at lw_m7 15 rfl) rfl
theorem q1559 : (Jvm.Cond.instanceMethod ({ cls := "RugReader$Not", name := "<init>", desc := "(LRugReader$Cond;)V" } : Jvm.MethodName)) ∈ lw_all := lw_g (lw_at lw_m7 17 rfl) rfl
theorem q1560 : (Jvm.Cond.code ({ cls := "RugReader$Not", name := "<init>", desc := "(LRugReader$Cond;)V" } : Jvm.MethodName) prog_8_method_1_code (2 : Nat) (Option.none : Option Jvm.ClassFile.FieldType)) ∈ lw_all := lw_g (lw_at lw_m7 18 rfl) rfl
theorem q1561 : (Jvm.Cond.methodLinkNest "RugReader$Not" (1 : Nat) ({ cls := "RugReader$Cond", name := "<init>", desc := "()V" } : Jvm.MethodName) "RugReader") ∈ lw_tbl := lw_at lw_m7 19 rfl
theorem q1565 : (Jvm.Cond.fieldLink "RugReader$Not" (7 : Nat) "RugReader$Not" "c" "LRugReader$Cond;") ∈ lw_all := lw_g (lw_at lw_m7 23 rfl) rfl
theorem q1566 : (Jvm.Cond.laysFinal "RugReader$Not" "RugReader$Not" "c" "LRugReader$Cond;") ∈ lw_all := lw_g (lw_at lw_m7 24 rfl) rfl
theorem q1567 : (Jvm.Cond.soleField "RugReader$Not" "c") ∈ lw_all := lw_g (lw_at lw_m7 25 rfl) rfl
theorem q1568 : (Jvm.Cond.superclass "RugReader$Not" "RugReader$Cond") ∈ lw_all := lw_g (lw_at lw_m7 26 rfl) rfl
theorem q1634 : (Jvm.Cond.selects "RugReader$Not" ({ cls := "RugReader$Cond", name := "holds", desc := "(LRugReader$Rug;I)Z" } : Jvm.MethodName) ({ cls := "RugReader$Not", name := "holds", desc := "(LRugReader$Rug;I)Z" } : Jvm.MethodName)) ∈ lw_all := lw_g (lw_at lw_m7 92 rfl) rfl
theorem q1635 : (Jvm.Cond.instanceMethod ({ cls := "RugReader$Not", name := "holds", desc := "(LRugReader$Rug;I)Z" } : Jvm.MethodName)) ∈ lw_all := lw_g (lw_at lw_m7 93 rfl) rfl
theorem q1636 : (Jvm.Cond.code ({ cls := "RugReader$Not", name := "holds", desc := "(LRugReader$Rug;I)Z" } : Jvm.MethodName) prog_8_method_2_code (3 : Nat) (Option.some Jvm.ClassFile.FieldType.boolean)) ∈ lw_all := lw_g (lw_at lw_m7 94 rfl) rfl
theorem q1637 : (Jvm.Cond.methodLink "RugReader$Not" (13 : Nat) ({ cls := "RugReader$Cond", name := "holds", desc := "(LRugReader$Rug;I)Z" } : Jvm.MethodName)) ∈ lw_all := lw_g (lw_at lw_m7 95 rfl) rfl
theorem q2373 : (Jvm.Cond.castable "RugReader$Not" "java/lang/Object") ∈ lw_tbl := lw_at lw_m10 111 rfl
theorem in_X15 : ∀ w ∈ wsX150, w ∈ lw_all := lw_in wsX150 [1566] (by decide +kernel) (by decide +kernel)
/-! RugReader$Trod -/
set_option maxRecDepth 100000
def RX16 : String := "RugReader$Trod"
def TX16 : u_T := fun k => match k with
  | _ => ("RugReader$Trod", "way", "I", true)
def tyX16 : Nat → FieldType := fun k => match k with
  | _ => .int
abbrev wsX160 : List Cond := u_ws RX16 TX16 1
theorem nmX16 : ∀ a, a < 1 → ∀ b, b < 1 → a ≠ b → (TX16 a).2.1 ≠ (TX16 b).2.1 := by decide +kernel
theorem tyX16_ok : ∀ k, k < 1 → parseFieldDescriptor (TX16 k).2.2.1 = some (tyX16 k) := by decide +kernel
abbrev cX16_init : ByteArray := prog_14_method_1_code
def yX16_init : MethodName := ⟨RX16, "<init>", "(I)V"⟩
def dkwX16_init_0 : List UInt8 := [42, 183, 0, 1, 42, 27, 181, 0, 7, 177]
abbrev dktX16_init_0 : List UInt8 := dkwX16_init_0 ++ []
theorem dksX16_init_0 : cX16_init.data.toList.drop 0 = dktX16_init_0 := by decide +kernel
theorem dX16_init_0 : decode cX16_init 0 = .ok (.aload_n 0, 1) := dk_42 (dk_at dksX16_init_0 0 rfl rfl)
theorem dX16_init_1 : decode cX16_init 1 = .ok (.invokespecial 1, 3) := dk_183 0 1 (dk_at dksX16_init_0 1 rfl rfl)
theorem dX16_init_4 : decode cX16_init 4 = .ok (.aload_n 0, 1) := dk_42 (dk_at dksX16_init_0 4 rfl rfl)
theorem dX16_init_5 : decode cX16_init 5 = .ok (.iload_n 1, 1) := dk_27 (dk_at dksX16_init_0 5 rfl rfl)
theorem dX16_init_6 : decode cX16_init 6 = .ok (.putfield 7, 3) := dk_181 0 7 (dk_at dksX16_init_0 6 rfl rfl)
theorem dX16_init_9 : decode cX16_init 9 = .ok (.return_, 1) := dk_177 (dk_at dksX16_init_0 9 rfl rfl)
abbrev cX16_holds : ByteArray := prog_14_method_2_code
def yX16_holds : MethodName := ⟨RX16, "holds", "(LRugReader$Rug;I)Z"⟩
def dkwX16_holds_0 : List UInt8 := [43, 28, 43, 180, 0, 13, 180, 0, 19, 42, 180, 0, 7, 182, 0, 25, 192, 0, 31, 182, 0, 33, 172]
abbrev dktX16_holds_0 : List UInt8 := dkwX16_holds_0 ++ []
theorem dksX16_holds_0 : cX16_holds.data.toList.drop 0 = dktX16_holds_0 := by decide +kernel
theorem dX16_holds_0 : decode cX16_holds 0 = .ok (.aload_n 1, 1) := dk_43 (dk_at dksX16_holds_0 0 rfl rfl)
theorem dX16_holds_1 : decode cX16_holds 1 = .ok (.iload_n 2, 1) := dk_28 (dk_at dksX16_holds_0 1 rfl rfl)
theorem dX16_holds_2 : decode cX16_holds 2 = .ok (.aload_n 1, 1) := dk_43 (dk_at dksX16_holds_0 2 rfl rfl)
theorem dX16_holds_3 : decode cX16_holds 3 = .ok (.getfield 13, 3) := dk_180 0 13 (dk_at dksX16_holds_0 3 rfl rfl)
theorem dX16_holds_6 : decode cX16_holds 6 = .ok (.getfield 19, 3) := dk_180 0 19 (dk_at dksX16_holds_0 6 rfl rfl)
theorem dX16_holds_9 : decode cX16_holds 9 = .ok (.aload_n 0, 1) := dk_42 (dk_at dksX16_holds_0 9 rfl rfl)
theorem dX16_holds_10 : decode cX16_holds 10 = .ok (.getfield 7, 3) := dk_180 0 7 (dk_at dksX16_holds_0 10 rfl rfl)
theorem dX16_holds_13 : decode cX16_holds 13 = .ok (.invokevirtual 25, 3) := dk_182 0 25 (dk_at dksX16_holds_0 13 rfl rfl)
theorem dX16_holds_16 : decode cX16_holds 16 = .ok (.checkcast 31, 3) := dk_192 0 31 (dk_at dksX16_holds_0 16 rfl rfl)
theorem dX16_holds_19 : decode cX16_holds 19 = .ok (.invokevirtual 33, 3) := dk_182 0 33 (dk_at dksX16_holds_0 19 rfl rfl)
theorem dX16_holds_22 : decode cX16_holds 22 = .ok (.ireturn, 1) := dk_172 (dk_at dksX16_holds_0 22 rfl rfl)
theorem q139 : (Jvm.Cond.initialized "RugReader$Trod") ∈ lw_all := lw_g (lw_at lw_m1 37 rfl) rfl
theorem q206 : (Jvm.Cond.fieldLinkNest "RugReader$Trod" (19 : Nat) "RugReader$House" "ways" "Ljava/util/ArrayList;" "RugReader") ∈ lw_tbl := lw_at lw_m1 104 rfl
theorem q254 : (Jvm.Cond.fieldLinkNest "RugReader$Trod" (13 : Nat) "RugReader$Rug" "h" "LRugReader$House;" "RugReader") ∈ lw_tbl := lw_at lw_m1 152 rfl
theorem q1002 : (Jvm.Cond.selects "RugReader$Trod" ({ cls := "java/lang/Object", name := "getClass", desc := "()Ljava/lang/Class;" } : Jvm.MethodName) ({ cls := "java/lang/Object", name := "getClass", desc := "()Ljava/lang/Class;" } : Jvm.MethodName)) ∈ lw_all := lw_g (lw_at lw_m4 180 rfl) rfl
theorem q1577 : (Jvm.Cond.instantiable "RugReader$Trod" (1 : Nat)) ∈ lw_all := lw_g (lw_at lw_m7 35 rfl) rfl
theorem q1579 : (Jvm.Cond.instanceMethod ({ cls := "RugReader$Trod", name := "<init>", desc := "(I)V" } : Jvm.MethodName)) ∈ lw_all := lw_g (lw_at lw_m7 37 rfl) rfl
theorem q1580 : (Jvm.Cond.code ({ cls := "RugReader$Trod", name := "<init>", desc := "(I)V" } : Jvm.MethodName) prog_14_method_1_code (2 : Nat) (Option.none : Option Jvm.ClassFile.FieldType)) ∈ lw_all := lw_g (lw_at lw_m7 38 rfl) rfl
theorem q1581 : (Jvm.Cond.methodLinkNest "RugReader$Trod" (1 : Nat) ({ cls := "RugReader$Cond", name := "<init>", desc := "()V" } : Jvm.MethodName) "RugReader") ∈ lw_tbl := lw_at lw_m7 39 rfl
theorem q1582 : (Jvm.Cond.fieldLink "RugReader$Trod" (7 : Nat) "RugReader$Trod" "way" "I") ∈ lw_all := lw_g (lw_at lw_m7 40 rfl) rfl
theorem q1583 : (Jvm.Cond.laysFinal "RugReader$Trod" "RugReader$Trod" "way" "I") ∈ lw_all := lw_g (lw_at lw_m7 41 rfl) rfl
theorem q1584 : (Jvm.Cond.soleField "RugReader$Trod" "way") ∈ lw_all := lw_g (lw_at lw_m7 42 rfl) rfl
theorem q1585 : (Jvm.Cond.superclass "RugReader$Trod" "RugReader$Cond") ∈ lw_all := lw_g (lw_at lw_m7 43 rfl) rfl
theorem q1658 : (Jvm.Cond.instanceMethod ({ cls := "RugReader$Trod", name := "holds", desc := "(LRugReader$Rug;I)Z" } : Jvm.MethodName)) ∈ lw_all := lw_g (lw_at lw_m7 116 rfl) rfl
theorem q1659 : (Jvm.Cond.code ({ cls := "RugReader$Trod", name := "holds", desc := "(LRugReader$Rug;I)Z" } : Jvm.MethodName) prog_14_method_2_code (3 : Nat) (Option.some Jvm.ClassFile.FieldType.boolean)) ∈ lw_all := lw_g (lw_at lw_m7 117 rfl) rfl
theorem q1660 : (Jvm.Cond.methodLink "RugReader$Trod" (25 : Nat) ({ cls := "java/util/ArrayList", name := "get", desc := "(I)Ljava/lang/Object;" } : Jvm.MethodName)) ∈ lw_all := lw_g (lw_at lw_m7 118 rfl) rfl
theorem q1661 : (Jvm.Cond.classLink "RugReader$Trod" (31 : Nat) "RugReader$Way") ∈ lw_all := lw_g (lw_at lw_m7 119 rfl) rfl
theorem q1662 : (Jvm.Cond.methodLink "RugReader$Trod" (33 : Nat) ({ cls := "RugReader$Rug", name := "trod", desc := "(ILRugReader$Way;)Z" } : Jvm.MethodName)) ∈ lw_all := lw_g (lw_at lw_m7 120 rfl) rfl
theorem q1670 : (Jvm.Cond.selects "RugReader$Trod" ({ cls := "RugReader$Cond", name := "holds", desc := "(LRugReader$Rug;I)Z" } : Jvm.MethodName) ({ cls := "RugReader$Trod", name := "holds", desc := "(LRugReader$Rug;I)Z" } : Jvm.MethodName)) ∈ lw_all := lw_g (lw_at lw_m7 128 rfl) rfl
theorem q2374 : (Jvm.Cond.castable "RugReader$Trod" "java/lang/Object") ∈ lw_tbl := lw_at lw_m10 112 rfl
theorem in_X16 : ∀ w ∈ wsX160, w ∈ lw_all := lw_in wsX160 [1583] (by decide +kernel) (by decide +kernel)
/-! RugReader$Than -/
set_option maxRecDepth 100000
def RX17 : String := "RugReader$Than"
def TX17 : u_T := fun k => match k with
  | 0 => ("RugReader$Than", "what", "I", true)
  | 1 => ("RugReader$Than", "sign", "I", true)
  | _ => ("RugReader$Than", "number", "I", true)
def tyX17 : Nat → FieldType := fun k => match k with
  | 0 => .int
  | 1 => .int
  | _ => .int
abbrev wsX170 : List Cond := u_ws RX17 TX17 3
theorem nmX17 : ∀ a, a < 3 → ∀ b, b < 3 → a ≠ b → (TX17 a).2.1 ≠ (TX17 b).2.1 := by decide +kernel
theorem tyX17_ok : ∀ k, k < 3 → parseFieldDescriptor (TX17 k).2.2.1 = some (tyX17 k) := by decide +kernel
abbrev cX17_init : ByteArray := prog_13_method_1_code
def yX17_init : MethodName := ⟨RX17, "<init>", "(III)V"⟩
def dkwX17_init_0 : List UInt8 := [42, 183, 0, 1, 42, 27, 181, 0, 7, 42, 28, 181, 0, 13, 42, 29, 181, 0, 16, 177]
abbrev dktX17_init_0 : List UInt8 := dkwX17_init_0 ++ []
theorem dksX17_init_0 : cX17_init.data.toList.drop 0 = dktX17_init_0 := by decide +kernel
theorem dX17_init_0 : decode cX17_init 0 = .ok (.aload_n 0, 1) := dk_42 (dk_at dksX17_init_0 0 rfl rfl)
theorem dX17_init_1 : decode cX17_init 1 = .ok (.invokespecial 1, 3) := dk_183 0 1 (dk_at dksX17_init_0 1 rfl rfl)
theorem dX17_init_4 : decode cX17_init 4 = .ok (.aload_n 0, 1) := dk_42 (dk_at dksX17_init_0 4 rfl rfl)
theorem dX17_init_5 : decode cX17_init 5 = .ok (.iload_n 1, 1) := dk_27 (dk_at dksX17_init_0 5 rfl rfl)
theorem dX17_init_6 : decode cX17_init 6 = .ok (.putfield 7, 3) := dk_181 0 7 (dk_at dksX17_init_0 6 rfl rfl)
theorem dX17_init_9 : decode cX17_init 9 = .ok (.aload_n 0, 1) := dk_42 (dk_at dksX17_init_0 9 rfl rfl)
theorem dX17_init_10 : decode cX17_init 10 = .ok (.iload_n 2, 1) := dk_28 (dk_at dksX17_init_0 10 rfl rfl)
theorem dX17_init_11 : decode cX17_init 11 = .ok (.putfield 13, 3) := dk_181 0 13 (dk_at dksX17_init_0 11 rfl rfl)
theorem dX17_init_14 : decode cX17_init 14 = .ok (.aload_n 0, 1) := dk_42 (dk_at dksX17_init_0 14 rfl rfl)
theorem dX17_init_15 : decode cX17_init 15 = .ok (.iload_n 3, 1) := dk_29 (dk_at dksX17_init_0 15 rfl rfl)
theorem dX17_init_16 : decode cX17_init 16 = .ok (.putfield 16, 3) := dk_181 0 16 (dk_at dksX17_init_0 16 rfl rfl)
theorem dX17_init_19 : decode cX17_init 19 = .ok (.return_, 1) := dk_177 (dk_at dksX17_init_0 19 rfl rfl)
abbrev cX17_holds : ByteArray := prog_13_method_3_code
def yX17_holds : MethodName := ⟨RX17, "holds", "(LRugReader$Rug;I)Z"⟩
def dkwX17_holds_3 : List UInt8 := [172]
abbrev dktX17_holds_3 : List UInt8 := dkwX17_holds_3 ++ []
def dkwX17_holds_2 : List UInt8 := [160, 0, 7, 4, 167, 0, 20, 3, 167, 0, 16, 29, 42, 180, 0, 16, 164, 0, 7, 4, 167, 0, 4, 3]
abbrev dktX17_holds_2 : List UInt8 := dkwX17_holds_2 ++ dktX17_holds_3
def dkwX17_holds_1 : List UInt8 := [4, 167, 0, 45, 3, 167, 0, 41, 42, 180, 0, 13, 16, 61, 160, 0, 19, 29, 42, 180, 0, 16]
abbrev dktX17_holds_1 : List UInt8 := dkwX17_holds_1 ++ dktX17_holds_2
def dkwX17_holds_0 : List UInt8 := [42, 43, 28, 182, 0, 55, 62, 42, 180, 0, 13, 16, 60, 160, 0, 19, 29, 42, 180, 0, 16, 162, 0, 7]
abbrev dktX17_holds_0 : List UInt8 := dkwX17_holds_0 ++ dktX17_holds_1
theorem dksX17_holds_0 : cX17_holds.data.toList.drop 0 = dktX17_holds_0 := by decide +kernel
theorem dksX17_holds_1 : cX17_holds.data.toList.drop 24 = dktX17_holds_1 := dk_seg dksX17_holds_0 24 rfl rfl
theorem dksX17_holds_2 : cX17_holds.data.toList.drop 46 = dktX17_holds_2 := dk_seg dksX17_holds_1 22 rfl rfl
theorem dksX17_holds_3 : cX17_holds.data.toList.drop 70 = dktX17_holds_3 := dk_seg dksX17_holds_2 24 rfl rfl
theorem dX17_holds_0 : decode cX17_holds 0 = .ok (.aload_n 0, 1) := dk_42 (dk_at dksX17_holds_0 0 rfl rfl)
theorem dX17_holds_1 : decode cX17_holds 1 = .ok (.aload_n 1, 1) := dk_43 (dk_at dksX17_holds_0 1 rfl rfl)
theorem dX17_holds_2 : decode cX17_holds 2 = .ok (.iload_n 2, 1) := dk_28 (dk_at dksX17_holds_0 2 rfl rfl)
theorem dX17_holds_3 : decode cX17_holds 3 = .ok (.invokevirtual 55, 3) := dk_182 0 55 (dk_at dksX17_holds_0 3 rfl rfl)
theorem dX17_holds_6 : decode cX17_holds 6 = .ok (.istore_n 3, 1) := dk_62 (dk_at dksX17_holds_0 6 rfl rfl)
theorem dX17_holds_7 : decode cX17_holds 7 = .ok (.aload_n 0, 1) := dk_42 (dk_at dksX17_holds_0 7 rfl rfl)
theorem dX17_holds_8 : decode cX17_holds 8 = .ok (.getfield 13, 3) := dk_180 0 13 (dk_at dksX17_holds_0 8 rfl rfl)
theorem dX17_holds_11 : decode cX17_holds 11 = .ok (.bipush 60, 2) := dk_16 60 (dk_at dksX17_holds_0 11 rfl rfl)
theorem dX17_holds_13 : decode cX17_holds 13 = .ok (.if_icmp .ne 19, 3) := dk_160 0 19 (dk_at dksX17_holds_0 13 rfl rfl)
theorem dX17_holds_16 : decode cX17_holds 16 = .ok (.iload_n 3, 1) := dk_29 (dk_at dksX17_holds_0 16 rfl rfl)
theorem dX17_holds_17 : decode cX17_holds 17 = .ok (.aload_n 0, 1) := dk_42 (dk_at dksX17_holds_0 17 rfl rfl)
theorem dX17_holds_18 : decode cX17_holds 18 = .ok (.getfield 16, 3) := dk_180 0 16 (dk_at dksX17_holds_0 18 rfl rfl)
theorem dX17_holds_21 : decode cX17_holds 21 = .ok (.if_icmp .ge 7, 3) := dk_162 0 7 (dk_at dksX17_holds_0 21 rfl rfl)
theorem dX17_holds_24 : decode cX17_holds 24 = .ok (.iconst 1, 1) := dk_4 (dk_at dksX17_holds_1 0 rfl rfl)
theorem dX17_holds_25 : decode cX17_holds 25 = .ok (.goto 45, 3) := dk_167 0 45 (dk_at dksX17_holds_1 1 rfl rfl)
theorem dX17_holds_28 : decode cX17_holds 28 = .ok (.iconst 0, 1) := dk_3 (dk_at dksX17_holds_1 4 rfl rfl)
theorem dX17_holds_29 : decode cX17_holds 29 = .ok (.goto 41, 3) := dk_167 0 41 (dk_at dksX17_holds_1 5 rfl rfl)
theorem dX17_holds_32 : decode cX17_holds 32 = .ok (.aload_n 0, 1) := dk_42 (dk_at dksX17_holds_1 8 rfl rfl)
theorem dX17_holds_33 : decode cX17_holds 33 = .ok (.getfield 13, 3) := dk_180 0 13 (dk_at dksX17_holds_1 9 rfl rfl)
theorem dX17_holds_36 : decode cX17_holds 36 = .ok (.bipush 61, 2) := dk_16 61 (dk_at dksX17_holds_1 12 rfl rfl)
theorem dX17_holds_38 : decode cX17_holds 38 = .ok (.if_icmp .ne 19, 3) := dk_160 0 19 (dk_at dksX17_holds_1 14 rfl rfl)
theorem dX17_holds_41 : decode cX17_holds 41 = .ok (.iload_n 3, 1) := dk_29 (dk_at dksX17_holds_1 17 rfl rfl)
theorem dX17_holds_42 : decode cX17_holds 42 = .ok (.aload_n 0, 1) := dk_42 (dk_at dksX17_holds_1 18 rfl rfl)
theorem dX17_holds_43 : decode cX17_holds 43 = .ok (.getfield 16, 3) := dk_180 0 16 (dk_at dksX17_holds_1 19 rfl rfl)
theorem dX17_holds_46 : decode cX17_holds 46 = .ok (.if_icmp .ne 7, 3) := dk_160 0 7 (dk_at dksX17_holds_2 0 rfl rfl)
theorem dX17_holds_49 : decode cX17_holds 49 = .ok (.iconst 1, 1) := dk_4 (dk_at dksX17_holds_2 3 rfl rfl)
theorem dX17_holds_50 : decode cX17_holds 50 = .ok (.goto 20, 3) := dk_167 0 20 (dk_at dksX17_holds_2 4 rfl rfl)
theorem dX17_holds_53 : decode cX17_holds 53 = .ok (.iconst 0, 1) := dk_3 (dk_at dksX17_holds_2 7 rfl rfl)
theorem dX17_holds_54 : decode cX17_holds 54 = .ok (.goto 16, 3) := dk_167 0 16 (dk_at dksX17_holds_2 8 rfl rfl)
theorem dX17_holds_57 : decode cX17_holds 57 = .ok (.iload_n 3, 1) := dk_29 (dk_at dksX17_holds_2 11 rfl rfl)
theorem dX17_holds_58 : decode cX17_holds 58 = .ok (.aload_n 0, 1) := dk_42 (dk_at dksX17_holds_2 12 rfl rfl)
theorem dX17_holds_59 : decode cX17_holds 59 = .ok (.getfield 16, 3) := dk_180 0 16 (dk_at dksX17_holds_2 13 rfl rfl)
theorem dX17_holds_62 : decode cX17_holds 62 = .ok (.if_icmp .le 7, 3) := dk_164 0 7 (dk_at dksX17_holds_2 16 rfl rfl)
theorem dX17_holds_65 : decode cX17_holds 65 = .ok (.iconst 1, 1) := dk_4 (dk_at dksX17_holds_2 19 rfl rfl)
theorem dX17_holds_66 : decode cX17_holds 66 = .ok (.goto 4, 3) := dk_167 0 4 (dk_at dksX17_holds_2 20 rfl rfl)
theorem dX17_holds_69 : decode cX17_holds 69 = .ok (.iconst 0, 1) := dk_3 (dk_at dksX17_holds_2 23 rfl rfl)
theorem dX17_holds_70 : decode cX17_holds 70 = .ok (.ireturn, 1) := dk_172 (dk_at dksX17_holds_3 0 rfl rfl)
abbrev cX17_value : ByteArray := prog_13_method_2_code
def yX17_value : MethodName := ⟨RX17, "value", "(LRugReader$Rug;I)I"⟩
def dkwX17_value_3 : List UInt8 := [182, 0, 52, 172, 28, 172]
abbrev dktX17_value_3 : List UInt8 := dkwX17_value_3 ++ []
def dkwX17_value_2 : List UInt8 := [45, 180, 0, 39, 172, 45, 180, 0, 42, 172, 45, 180, 0, 45, 172, 43, 28, 182, 0, 48, 172, 43, 28]
abbrev dktX17_value_2 : List UInt8 := dkwX17_value_2 ++ dktX17_value_3
def dkwX17_value_1 : List UInt8 := [170, 0, 0, 0, 60, 0, 0, 0, 0, 0, 0, 0, 4, 0, 0, 0, 33, 0, 0, 0, 38, 0, 0, 0, 43, 0, 0, 0, 48, 0, 0, 0, 54]
abbrev dktX17_value_1 : List UInt8 := dkwX17_value_1 ++ dktX17_value_2
def dkwX17_value_0 : List UInt8 := [43, 180, 0, 19, 180, 0, 25, 28, 182, 0, 31, 192, 0, 37, 78, 42, 180, 0, 7]
abbrev dktX17_value_0 : List UInt8 := dkwX17_value_0 ++ dktX17_value_1
theorem dksX17_value_0 : cX17_value.data.toList.drop 0 = dktX17_value_0 := by decide +kernel
theorem dksX17_value_1 : cX17_value.data.toList.drop 19 = dktX17_value_1 := dk_seg dksX17_value_0 19 rfl rfl
theorem dksX17_value_2 : cX17_value.data.toList.drop 52 = dktX17_value_2 := dk_seg dksX17_value_1 33 rfl rfl
theorem dksX17_value_3 : cX17_value.data.toList.drop 75 = dktX17_value_3 := dk_seg dksX17_value_2 23 rfl rfl
theorem dX17_value_0 : decode cX17_value 0 = .ok (.aload_n 1, 1) := dk_43 (dk_at dksX17_value_0 0 rfl rfl)
theorem dX17_value_1 : decode cX17_value 1 = .ok (.getfield 19, 3) := dk_180 0 19 (dk_at dksX17_value_0 1 rfl rfl)
theorem dX17_value_4 : decode cX17_value 4 = .ok (.getfield 25, 3) := dk_180 0 25 (dk_at dksX17_value_0 4 rfl rfl)
theorem dX17_value_7 : decode cX17_value 7 = .ok (.iload_n 2, 1) := dk_28 (dk_at dksX17_value_0 7 rfl rfl)
theorem dX17_value_8 : decode cX17_value 8 = .ok (.invokevirtual 31, 3) := dk_182 0 31 (dk_at dksX17_value_0 8 rfl rfl)
theorem dX17_value_11 : decode cX17_value 11 = .ok (.checkcast 37, 3) := dk_192 0 37 (dk_at dksX17_value_0 11 rfl rfl)
theorem dX17_value_14 : decode cX17_value 14 = .ok (.astore_n 3, 1) := dk_78 (dk_at dksX17_value_0 14 rfl rfl)
theorem dX17_value_15 : decode cX17_value 15 = .ok (.aload_n 0, 1) := dk_42 (dk_at dksX17_value_0 15 rfl rfl)
theorem dX17_value_16 : decode cX17_value 16 = .ok (.getfield 7, 3) := dk_180 0 7 (dk_at dksX17_value_0 16 rfl rfl)
theorem dX17_value_19 : decode cX17_value 19 = .ok (.tableswitch 60 0 4 #[33, 38, 43, 48, 54], 33) := by decide +kernel
theorem dX17_value_52 : decode cX17_value 52 = .ok (.aload_n 3, 1) := dk_45 (dk_at dksX17_value_2 0 rfl rfl)
theorem dX17_value_53 : decode cX17_value 53 = .ok (.getfield 39, 3) := dk_180 0 39 (dk_at dksX17_value_2 1 rfl rfl)
theorem dX17_value_56 : decode cX17_value 56 = .ok (.ireturn, 1) := dk_172 (dk_at dksX17_value_2 4 rfl rfl)
theorem dX17_value_57 : decode cX17_value 57 = .ok (.aload_n 3, 1) := dk_45 (dk_at dksX17_value_2 5 rfl rfl)
theorem dX17_value_58 : decode cX17_value 58 = .ok (.getfield 42, 3) := dk_180 0 42 (dk_at dksX17_value_2 6 rfl rfl)
theorem dX17_value_61 : decode cX17_value 61 = .ok (.ireturn, 1) := dk_172 (dk_at dksX17_value_2 9 rfl rfl)
theorem dX17_value_62 : decode cX17_value 62 = .ok (.aload_n 3, 1) := dk_45 (dk_at dksX17_value_2 10 rfl rfl)
theorem dX17_value_63 : decode cX17_value 63 = .ok (.getfield 45, 3) := dk_180 0 45 (dk_at dksX17_value_2 11 rfl rfl)
theorem dX17_value_66 : decode cX17_value 66 = .ok (.ireturn, 1) := dk_172 (dk_at dksX17_value_2 14 rfl rfl)
theorem dX17_value_67 : decode cX17_value 67 = .ok (.aload_n 1, 1) := dk_43 (dk_at dksX17_value_2 15 rfl rfl)
theorem dX17_value_68 : decode cX17_value 68 = .ok (.iload_n 2, 1) := dk_28 (dk_at dksX17_value_2 16 rfl rfl)
theorem dX17_value_69 : decode cX17_value 69 = .ok (.invokevirtual 48, 3) := dk_182 0 48 (dk_at dksX17_value_2 17 rfl rfl)
theorem dX17_value_72 : decode cX17_value 72 = .ok (.ireturn, 1) := dk_172 (dk_at dksX17_value_2 20 rfl rfl)
theorem dX17_value_73 : decode cX17_value 73 = .ok (.aload_n 1, 1) := dk_43 (dk_at dksX17_value_2 21 rfl rfl)
theorem dX17_value_74 : decode cX17_value 74 = .ok (.iload_n 2, 1) := dk_28 (dk_at dksX17_value_2 22 rfl rfl)
theorem dX17_value_75 : decode cX17_value 75 = .ok (.invokevirtual 52, 3) := dk_182 0 52 (dk_at dksX17_value_3 0 rfl rfl)
theorem dX17_value_78 : decode cX17_value 78 = .ok (.ireturn, 1) := dk_172 (dk_at dksX17_value_3 3 rfl rfl)
theorem dX17_value_79 : decode cX17_value 79 = .ok (.iload_n 2, 1) := dk_28 (dk_at dksX17_value_3 4 rfl rfl)
theorem dX17_value_80 : decode cX17_value 80 = .ok (.ireturn, 1) := dk_172 (dk_at dksX17_value_3 5 rfl rfl)
theorem q140 : (Jvm.Cond.initialized "RugReader$Than") ∈ lw_all := lw_g (lw_at lw_m1 38 rfl) rfl
theorem q200 : (Jvm.Cond.fieldLinkNest "RugReader$Than" (25 : Nat) "RugReader$House" "people" "Ljava/util/ArrayList;" "RugReader") ∈ lw_tbl := lw_at lw_m1 98 rfl
theorem q252 : (Jvm.Cond.fieldLinkNest "RugReader$Than" (19 : Nat) "RugReader$Rug" "h" "LRugReader$House;" "RugReader") ∈ lw_tbl := lw_at lw_m1 150 rfl
theorem q947 : (Jvm.Cond.fieldLinkNest "RugReader$Than" (39 : Nat) "RugReader$Person" "weight" "I" "RugReader") ∈ lw_tbl := lw_at lw_m4 125 rfl
theorem q951 : (Jvm.Cond.fieldLinkNest "RugReader$Than" (42 : Nat) "RugReader$Person" "sole" "I" "RugReader") ∈ lw_tbl := lw_at lw_m4 129 rfl
theorem q955 : (Jvm.Cond.fieldLinkNest "RugReader$Than" (45 : Nat) "RugReader$Person" "pace" "I" "RugReader") ∈ lw_tbl := lw_at lw_m4 133 rfl
theorem q1001 : (Jvm.Cond.selects "RugReader$Than" ({ cls := "java/lang/Object", name := "getClass", desc := "()Ljava/lang/Class;" } : Jvm.MethodName) ({ cls := "java/lang/Object", name := "getClass", desc := "()Ljava/lang/Class;" } : Jvm.MethodName)) ∈ lw_all := lw_g (lw_at lw_m4 179 rfl) rfl
theorem q1591 : (Jvm.Cond.instantiable "RugReader$Than" (3 : Nat)) ∈ lw_all := lw_g (lw_at lw_m7 49 rfl) rfl
theorem q1596 : (Jvm.Cond.instanceMethod ({ cls := "RugReader$Than", name := "<init>", desc := "(III)V" } : Jvm.MethodName)) ∈ lw_all := lw_g (lw_at lw_m7 54 rfl) rfl
theorem q1597 : (Jvm.Cond.code ({ cls := "RugReader$Than", name := "<init>", desc := "(III)V" } : Jvm.MethodName) prog_13_method_1_code (4 : Nat) (Option.none : Option Jvm.ClassFile.FieldType)) ∈ lw_all := lw_g (lw_at lw_m7 55 rfl) rfl
theorem q1598 : (Jvm.Cond.methodLinkNest "RugReader$Than" (1 : Nat) ({ cls := "RugReader$Cond", name := "<init>", desc := "()V" } : Jvm.MethodName) "RugReader") ∈ lw_tbl := lw_at lw_m7 56 rfl
theorem q1599 : (Jvm.Cond.fieldLink "RugReader$Than" (7 : Nat) "RugReader$Than" "what" "I") ∈ lw_all := lw_g (lw_at lw_m7 57 rfl) rfl
theorem q1600 : (Jvm.Cond.fieldLink "RugReader$Than" (13 : Nat) "RugReader$Than" "sign" "I") ∈ lw_all := lw_g (lw_at lw_m7 58 rfl) rfl
theorem q1601 : (Jvm.Cond.fieldLink "RugReader$Than" (16 : Nat) "RugReader$Than" "number" "I") ∈ lw_all := lw_g (lw_at lw_m7 59 rfl) rfl
theorem q1602 : (Jvm.Cond.laysFinal "RugReader$Than" "RugReader$Than" "what" "I") ∈ lw_all := lw_g (lw_at lw_m7 60 rfl) rfl
theorem q1603 : (Jvm.Cond.soleField "RugReader$Than" "what") ∈ lw_all := lw_g (lw_at lw_m7 61 rfl) rfl
theorem q1604 : (Jvm.Cond.laysFinal "RugReader$Than" "RugReader$Than" "sign" "I") ∈ lw_all := lw_g (lw_at lw_m7 62 rfl) rfl
theorem q1605 : (Jvm.Cond.soleField "RugReader$Than" "sign") ∈ lw_all := lw_g (lw_at lw_m7 63 rfl) rfl
theorem q1606 : (Jvm.Cond.laysFinal "RugReader$Than" "RugReader$Than" "number" "I") ∈ lw_all := lw_g (lw_at lw_m7 64 rfl) rfl
theorem q1607 : (Jvm.Cond.soleField "RugReader$Than" "number") ∈ lw_all := lw_g (lw_at lw_m7 65 rfl) rfl
theorem q1608 : (Jvm.Cond.superclass "RugReader$Than" "RugReader$Cond") ∈ lw_all := lw_g (lw_at lw_m7 66 rfl) rfl
theorem q1638 : (Jvm.Cond.instanceMethod ({ cls := "RugReader$Than", name := "holds", desc := "(LRugReader$Rug;I)Z" } : Jvm.MethodName)) ∈ lw_all := lw_g (lw_at lw_m7 96 rfl) rfl
theorem q1639 : (Jvm.Cond.code ({ cls := "RugReader$Than", name := "holds", desc := "(LRugReader$Rug;I)Z" } : Jvm.MethodName) prog_13_method_3_code (4 : Nat) (Option.some Jvm.ClassFile.FieldType.boolean)) ∈ lw_all := lw_g (lw_at lw_m7 97 rfl) rfl
theorem q1640 : (Jvm.Cond.methodLink "RugReader$Than" (55 : Nat) ({ cls := "RugReader$Than", name := "value", desc := "(LRugReader$Rug;I)I" } : Jvm.MethodName)) ∈ lw_all := lw_g (lw_at lw_m7 98 rfl) rfl
theorem q1641 : (Jvm.Cond.privateMethod ({ cls := "RugReader$Than", name := "value", desc := "(LRugReader$Rug;I)I" } : Jvm.MethodName)) ∈ lw_tbl := lw_at lw_m7 99 rfl
theorem q1642 : (Jvm.Cond.instanceMethod ({ cls := "RugReader$Than", name := "value", desc := "(LRugReader$Rug;I)I" } : Jvm.MethodName)) ∈ lw_all := lw_g (lw_at lw_m7 100 rfl) rfl
theorem q1643 : (Jvm.Cond.code ({ cls := "RugReader$Than", name := "value", desc := "(LRugReader$Rug;I)I" } : Jvm.MethodName) prog_13_method_2_code (4 : Nat) (Option.some Jvm.ClassFile.FieldType.int)) ∈ lw_all := lw_g (lw_at lw_m7 101 rfl) rfl
theorem q1644 : (Jvm.Cond.methodLink "RugReader$Than" (31 : Nat) ({ cls := "java/util/ArrayList", name := "get", desc := "(I)Ljava/lang/Object;" } : Jvm.MethodName)) ∈ lw_all := lw_g (lw_at lw_m7 102 rfl) rfl
theorem q1645 : (Jvm.Cond.classLink "RugReader$Than" (37 : Nat) "RugReader$Person") ∈ lw_all := lw_g (lw_at lw_m7 103 rfl) rfl
theorem q1646 : (Jvm.Cond.methodLink "RugReader$Than" (48 : Nat) ({ cls := "RugReader$Rug", name := "treadsOf", desc := "(I)I" } : Jvm.MethodName)) ∈ lw_all := lw_g (lw_at lw_m7 104 rfl) rfl
theorem q1654 : (Jvm.Cond.methodLink "RugReader$Than" (52 : Nat) ({ cls := "RugReader$Rug", name := "tuftsOf", desc := "(I)I" } : Jvm.MethodName)) ∈ lw_all := lw_g (lw_at lw_m7 112 rfl) rfl
theorem q1669 : (Jvm.Cond.selects "RugReader$Than" ({ cls := "RugReader$Cond", name := "holds", desc := "(LRugReader$Rug;I)Z" } : Jvm.MethodName) ({ cls := "RugReader$Than", name := "holds", desc := "(LRugReader$Rug;I)Z" } : Jvm.MethodName)) ∈ lw_all := lw_g (lw_at lw_m7 127 rfl) rfl
theorem q2375 : (Jvm.Cond.castable "RugReader$Than" "java/lang/Object") ∈ lw_tbl := lw_at lw_m10 113 rfl
theorem in_X17 : ∀ w ∈ wsX170, w ∈ lw_all := lw_in wsX170 [1602, 1604, 1606] (by decide +kernel) (by decide +kernel)
/-! RugReader$Two -/
set_option maxRecDepth 100000
def RX18 : String := "RugReader$Two"
def TX18 : u_T := fun k => match k with
  | 0 => ("RugReader$Two", "a", "LRugReader$Cond;", true)
  | 1 => ("RugReader$Two", "b", "LRugReader$Cond;", true)
  | _ => ("RugReader$Two", "both", "Z", true)
def tyX18 : Nat → FieldType := fun k => match k with
  | 0 => .object "RugReader$Cond"
  | 1 => .object "RugReader$Cond"
  | _ => .boolean
abbrev wsX180 : List Cond := u_ws RX18 TX18 3
theorem nmX18 : ∀ a, a < 3 → ∀ b, b < 3 → a ≠ b → (TX18 a).2.1 ≠ (TX18 b).2.1 := by decide +kernel
theorem tyX18_ok : ∀ k, k < 3 → parseFieldDescriptor (TX18 k).2.2.1 = some (tyX18 k) := by decide +kernel
abbrev cX18_init : ByteArray := prog_15_method_1_code
def yX18_init : MethodName := ⟨RX18, "<init>", "(LRugReader$Cond;LRugReader$Cond;Z)V"⟩
def dkwX18_init_0 : List UInt8 := [42, 183, 0, 1, 42, 43, 181, 0, 7, 42, 44, 181, 0, 13, 42, 29, 181, 0, 16, 177]
abbrev dktX18_init_0 : List UInt8 := dkwX18_init_0 ++ []
theorem dksX18_init_0 : cX18_init.data.toList.drop 0 = dktX18_init_0 := by decide +kernel
theorem dX18_init_0 : decode cX18_init 0 = .ok (.aload_n 0, 1) := dk_42 (dk_at dksX18_init_0 0 rfl rfl)
theorem dX18_init_1 : decode cX18_init 1 = .ok (.invokespecial 1, 3) := dk_183 0 1 (dk_at dksX18_init_0 1 rfl rfl)
theorem dX18_init_4 : decode cX18_init 4 = .ok (.aload_n 0, 1) := dk_42 (dk_at dksX18_init_0 4 rfl rfl)
theorem dX18_init_5 : decode cX18_init 5 = .ok (.aload_n 1, 1) := dk_43 (dk_at dksX18_init_0 5 rfl rfl)
theorem dX18_init_6 : decode cX18_init 6 = .ok (.putfield 7, 3) := dk_181 0 7 (dk_at dksX18_init_0 6 rfl rfl)
theorem dX18_init_9 : decode cX18_init 9 = .ok (.aload_n 0, 1) := dk_42 (dk_at dksX18_init_0 9 rfl rfl)
theorem dX18_init_10 : decode cX18_init 10 = .ok (.aload_n 2, 1) := dk_44 (dk_at dksX18_init_0 10 rfl rfl)
theorem dX18_init_11 : decode cX18_init 11 = .ok (.putfield 13, 3) := dk_181 0 13 (dk_at dksX18_init_0 11 rfl rfl)
theorem dX18_init_14 : decode cX18_init 14 = .ok (.aload_n 0, 1) := dk_42 (dk_at dksX18_init_0 14 rfl rfl)
theorem dX18_init_15 : decode cX18_init 15 = .ok (.iload_n 3, 1) := dk_29 (dk_at dksX18_init_0 15 rfl rfl)
theorem dX18_init_16 : decode cX18_init 16 = .ok (.putfield 16, 3) := dk_181 0 16 (dk_at dksX18_init_0 16 rfl rfl)
theorem dX18_init_19 : decode cX18_init 19 = .ok (.return_, 1) := dk_177 (dk_at dksX18_init_0 19 rfl rfl)
abbrev cX18_holds : ByteArray := prog_15_method_2_code
def yX18_holds : MethodName := ⟨RX18, "holds", "(LRugReader$Rug;I)Z"⟩
def dkwX18_holds_2 : List UInt8 := [154, 0, 15, 42, 180, 0, 13, 43, 28, 182, 0, 20, 153, 0, 7, 4, 167, 0, 4, 3, 172]
abbrev dktX18_holds_2 : List UInt8 := dkwX18_holds_2 ++ []
def dkwX18_holds_1 : List UInt8 := [28, 182, 0, 20, 153, 0, 7, 4, 167, 0, 36, 3, 167, 0, 32, 42, 180, 0, 7, 43, 28, 182, 0, 20]
abbrev dktX18_holds_1 : List UInt8 := dkwX18_holds_1 ++ dktX18_holds_2
def dkwX18_holds_0 : List UInt8 := [42, 180, 0, 16, 153, 0, 35, 42, 180, 0, 7, 43, 28, 182, 0, 20, 153, 0, 19, 42, 180, 0, 13, 43]
abbrev dktX18_holds_0 : List UInt8 := dkwX18_holds_0 ++ dktX18_holds_1
theorem dksX18_holds_0 : cX18_holds.data.toList.drop 0 = dktX18_holds_0 := by decide +kernel
theorem dksX18_holds_1 : cX18_holds.data.toList.drop 24 = dktX18_holds_1 := dk_seg dksX18_holds_0 24 rfl rfl
theorem dksX18_holds_2 : cX18_holds.data.toList.drop 48 = dktX18_holds_2 := dk_seg dksX18_holds_1 24 rfl rfl
theorem dX18_holds_0 : decode cX18_holds 0 = .ok (.aload_n 0, 1) := dk_42 (dk_at dksX18_holds_0 0 rfl rfl)
theorem dX18_holds_1 : decode cX18_holds 1 = .ok (.getfield 16, 3) := dk_180 0 16 (dk_at dksX18_holds_0 1 rfl rfl)
theorem dX18_holds_4 : decode cX18_holds 4 = .ok (.ifCond .eq 35, 3) := dk_153 0 35 (dk_at dksX18_holds_0 4 rfl rfl)
theorem dX18_holds_7 : decode cX18_holds 7 = .ok (.aload_n 0, 1) := dk_42 (dk_at dksX18_holds_0 7 rfl rfl)
theorem dX18_holds_8 : decode cX18_holds 8 = .ok (.getfield 7, 3) := dk_180 0 7 (dk_at dksX18_holds_0 8 rfl rfl)
theorem dX18_holds_11 : decode cX18_holds 11 = .ok (.aload_n 1, 1) := dk_43 (dk_at dksX18_holds_0 11 rfl rfl)
theorem dX18_holds_12 : decode cX18_holds 12 = .ok (.iload_n 2, 1) := dk_28 (dk_at dksX18_holds_0 12 rfl rfl)
theorem dX18_holds_13 : decode cX18_holds 13 = .ok (.invokevirtual 20, 3) := dk_182 0 20 (dk_at dksX18_holds_0 13 rfl rfl)
theorem dX18_holds_16 : decode cX18_holds 16 = .ok (.ifCond .eq 19, 3) := dk_153 0 19 (dk_at dksX18_holds_0 16 rfl rfl)
theorem dX18_holds_19 : decode cX18_holds 19 = .ok (.aload_n 0, 1) := dk_42 (dk_at dksX18_holds_0 19 rfl rfl)
theorem dX18_holds_20 : decode cX18_holds 20 = .ok (.getfield 13, 3) := dk_180 0 13 (dk_at dksX18_holds_0 20 rfl rfl)
theorem dX18_holds_23 : decode cX18_holds 23 = .ok (.aload_n 1, 1) := dk_43 (dk_at dksX18_holds_0 23 rfl rfl)
theorem dX18_holds_24 : decode cX18_holds 24 = .ok (.iload_n 2, 1) := dk_28 (dk_at dksX18_holds_1 0 rfl rfl)
theorem dX18_holds_25 : decode cX18_holds 25 = .ok (.invokevirtual 20, 3) := dk_182 0 20 (dk_at dksX18_holds_1 1 rfl rfl)
theorem dX18_holds_28 : decode cX18_holds 28 = .ok (.ifCond .eq 7, 3) := dk_153 0 7 (dk_at dksX18_holds_1 4 rfl rfl)
theorem dX18_holds_31 : decode cX18_holds 31 = .ok (.iconst 1, 1) := dk_4 (dk_at dksX18_holds_1 7 rfl rfl)
theorem dX18_holds_32 : decode cX18_holds 32 = .ok (.goto 36, 3) := dk_167 0 36 (dk_at dksX18_holds_1 8 rfl rfl)
theorem dX18_holds_35 : decode cX18_holds 35 = .ok (.iconst 0, 1) := dk_3 (dk_at dksX18_holds_1 11 rfl rfl)
theorem dX18_holds_36 : decode cX18_holds 36 = .ok (.goto 32, 3) := dk_167 0 32 (dk_at dksX18_holds_1 12 rfl rfl)
theorem dX18_holds_39 : decode cX18_holds 39 = .ok (.aload_n 0, 1) := dk_42 (dk_at dksX18_holds_1 15 rfl rfl)
theorem dX18_holds_40 : decode cX18_holds 40 = .ok (.getfield 7, 3) := dk_180 0 7 (dk_at dksX18_holds_1 16 rfl rfl)
theorem dX18_holds_43 : decode cX18_holds 43 = .ok (.aload_n 1, 1) := dk_43 (dk_at dksX18_holds_1 19 rfl rfl)
theorem dX18_holds_44 : decode cX18_holds 44 = .ok (.iload_n 2, 1) := dk_28 (dk_at dksX18_holds_1 20 rfl rfl)
theorem dX18_holds_45 : decode cX18_holds 45 = .ok (.invokevirtual 20, 3) := dk_182 0 20 (dk_at dksX18_holds_1 21 rfl rfl)
theorem dX18_holds_48 : decode cX18_holds 48 = .ok (.ifCond .ne 15, 3) := dk_154 0 15 (dk_at dksX18_holds_2 0 rfl rfl)
theorem dX18_holds_51 : decode cX18_holds 51 = .ok (.aload_n 0, 1) := dk_42 (dk_at dksX18_holds_2 3 rfl rfl)
theorem dX18_holds_52 : decode cX18_holds 52 = .ok (.getfield 13, 3) := dk_180 0 13 (dk_at dksX18_holds_2 4 rfl rfl)
theorem dX18_holds_55 : decode cX18_holds 55 = .ok (.aload_n 1, 1) := dk_43 (dk_at dksX18_holds_2 7 rfl rfl)
theorem dX18_holds_56 : decode cX18_holds 56 = .ok (.iload_n 2, 1) := dk_28 (dk_at dksX18_holds_2 8 rfl rfl)
theorem dX18_holds_57 : decode cX18_holds 57 = .ok (.invokevirtual 20, 3) := dk_182 0 20 (dk_at dksX18_holds_2 9 rfl rfl)
theorem dX18_holds_60 : decode cX18_holds 60 = .ok (.ifCond .eq 7, 3) := dk_153 0 7 (dk_at dksX18_holds_2 12 rfl rfl)
theorem dX18_holds_63 : decode cX18_holds 63 = .ok (.iconst 1, 1) := dk_4 (dk_at dksX18_holds_2 15 rfl rfl)
theorem dX18_holds_64 : decode cX18_holds 64 = .ok (.goto 4, 3) := dk_167 0 4 (dk_at dksX18_holds_2 16 rfl rfl)
theorem dX18_holds_67 : decode cX18_holds 67 = .ok (.iconst 0, 1) := dk_3 (dk_at dksX18_holds_2 19 rfl rfl)
theorem dX18_holds_68 : decode cX18_holds 68 = .ok (.ireturn, 1) := dk_172 (dk_at dksX18_holds_2 20 rfl rfl)
theorem q141 : (Jvm.Cond.initialized "RugReader$Two") ∈ lw_all := lw_g (lw_at lw_m1 39 rfl) rfl
theorem q1003 : (Jvm.Cond.selects "RugReader$Two" ({ cls := "java/lang/Object", name := "getClass", desc := "()Ljava/lang/Class;" } : Jvm.MethodName) ({ cls := "java/lang/Object", name := "getClass", desc := "()Ljava/lang/Class;" } : Jvm.MethodName)) ∈ lw_all := lw_g (lw_at lw_m4 181 rfl) rfl
theorem q1611 : (Jvm.Cond.instantiable "RugReader$Two" (3 : Nat)) ∈ lw_all := lw_g (lw_at lw_m7 69 rfl) rfl
theorem q1613 : (Jvm.Cond.instanceMethod ({ cls := "RugReader$Two", name := "<init>", desc := "(LRugReader$Cond;LRugReader$Cond;Z)V" } : Jvm.MethodName)) ∈ lw_all := lw_g (lw_at lw_m7 71 rfl) rfl
theorem q1614 : (Jvm.Cond.code ({ cls := "RugReader$Two", name := "<init>", desc := "(LRugReader$Cond;LRugReader$Cond;Z)V" } : Jvm.MethodName) prog_15_method_1_code (4 : Nat) (Option.none : Option Jvm.ClassFile.FieldType)) ∈ lw_all := lw_g (lw_at lw_m7 72 rfl) rfl
theorem q1615 : (Jvm.Cond.methodLinkNest "RugReader$Two" (1 : Nat) ({ cls := "RugReader$Cond", name := "<init>", desc := "()V" } : Jvm.MethodName) "RugReader") ∈ lw_tbl := lw_at lw_m7 73 rfl
theorem q1616 : (Jvm.Cond.fieldLink "RugReader$Two" (7 : Nat) "RugReader$Two" "a" "LRugReader$Cond;") ∈ lw_all := lw_g (lw_at lw_m7 74 rfl) rfl
theorem q1617 : (Jvm.Cond.fieldLink "RugReader$Two" (13 : Nat) "RugReader$Two" "b" "LRugReader$Cond;") ∈ lw_all := lw_g (lw_at lw_m7 75 rfl) rfl
theorem q1618 : (Jvm.Cond.fieldLink "RugReader$Two" (16 : Nat) "RugReader$Two" "both" "Z") ∈ lw_all := lw_g (lw_at lw_m7 76 rfl) rfl
theorem q1619 : (Jvm.Cond.laysFinal "RugReader$Two" "RugReader$Two" "a" "LRugReader$Cond;") ∈ lw_all := lw_g (lw_at lw_m7 77 rfl) rfl
theorem q1620 : (Jvm.Cond.soleField "RugReader$Two" "a") ∈ lw_all := lw_g (lw_at lw_m7 78 rfl) rfl
theorem q1621 : (Jvm.Cond.laysFinal "RugReader$Two" "RugReader$Two" "b" "LRugReader$Cond;") ∈ lw_all := lw_g (lw_at lw_m7 79 rfl) rfl
theorem q1622 : (Jvm.Cond.soleField "RugReader$Two" "b") ∈ lw_all := lw_g (lw_at lw_m7 80 rfl) rfl
theorem q1623 : (Jvm.Cond.laysFinal "RugReader$Two" "RugReader$Two" "both" "Z") ∈ lw_all := lw_g (lw_at lw_m7 81 rfl) rfl
theorem q1624 : (Jvm.Cond.soleField "RugReader$Two" "both") ∈ lw_all := lw_g (lw_at lw_m7 82 rfl) rfl
theorem q1625 : (Jvm.Cond.superclass "RugReader$Two" "RugReader$Cond") ∈ lw_all := lw_g (lw_at lw_m7 83 rfl) rfl
theorem q1666 : (Jvm.Cond.instanceMethod ({ cls := "RugReader$Two", name := "holds", desc := "(LRugReader$Rug;I)Z" } : Jvm.MethodName)) ∈ lw_all := lw_g (lw_at lw_m7 124 rfl) rfl
theorem q1667 : (Jvm.Cond.code ({ cls := "RugReader$Two", name := "holds", desc := "(LRugReader$Rug;I)Z" } : Jvm.MethodName) prog_15_method_2_code (3 : Nat) (Option.some Jvm.ClassFile.FieldType.boolean)) ∈ lw_all := lw_g (lw_at lw_m7 125 rfl) rfl
theorem q1668 : (Jvm.Cond.methodLink "RugReader$Two" (20 : Nat) ({ cls := "RugReader$Cond", name := "holds", desc := "(LRugReader$Rug;I)Z" } : Jvm.MethodName)) ∈ lw_all := lw_g (lw_at lw_m7 126 rfl) rfl
theorem q1671 : (Jvm.Cond.selects "RugReader$Two" ({ cls := "RugReader$Cond", name := "holds", desc := "(LRugReader$Rug;I)Z" } : Jvm.MethodName) ({ cls := "RugReader$Two", name := "holds", desc := "(LRugReader$Rug;I)Z" } : Jvm.MethodName)) ∈ lw_all := lw_g (lw_at lw_m7 129 rfl) rfl
theorem q2376 : (Jvm.Cond.castable "RugReader$Two" "java/lang/Object") ∈ lw_tbl := lw_at lw_m10 114 rfl
theorem in_X18 : ∀ w ∈ wsX180, w ∈ lw_all := lw_in wsX180 [1619, 1621, 1623] (by decide +kernel) (by decide +kernel)
