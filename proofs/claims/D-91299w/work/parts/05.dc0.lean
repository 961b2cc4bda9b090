set_option maxRecDepth 100000
theorem dX10_thrown_0 : decode cX10_thrown 0 = .ok (.aload_n 0, 1) := by decide +kernel
theorem dX10_thrown_1 : decode cX10_thrown 1 = .ok (.getfield 1, 3) := by decide +kernel
theorem dX10_thrown_4 : decode cX10_thrown 4 = .ok (.ireturn, 1) := by decide +kernel
def dkwX10_init_23 : List UInt8 := [4, 79, 132, 1, 1, 167, 255, 240, 177]
abbrev dktX10_init_23 : List UInt8 := dkwX10_init_23 ++ []
def dkwX10_init_22 : List UInt8 := [16, 64, 188, 10, 181, 0, 204, 42, 182, 0, 207, 3, 60, 27, 16, 64, 162, 0, 16, 42, 180, 0, 201, 27]
abbrev dktX10_init_22 : List UInt8 := dkwX10_init_22 ++ dktX10_init_23
def dkwX10_init_21 : List UInt8 := [16, 64, 188, 4, 181, 0, 195, 42, 16, 64, 188, 4, 181, 0, 198, 42, 16, 64, 188, 10, 181, 0, 201, 42]
abbrev dktX10_init_21 : List UInt8 := dkwX10_init_21 ++ dktX10_init_22
def dkwX10_init_20 : List UInt8 := [16, 60, 188, 10, 181, 0, 186, 42, 16, 60, 188, 10, 181, 0, 189, 42, 16, 60, 188, 10, 181, 0, 192, 42]
abbrev dktX10_init_20 : List UInt8 := dkwX10_init_20 ++ dktX10_init_21
def dkwX10_init_19 : List UInt8 := [16, 10, 188, 10, 181, 0, 177, 42, 16, 10, 188, 10, 181, 0, 180, 42, 16, 60, 188, 10, 181, 0, 183, 42]
abbrev dktX10_init_19 : List UInt8 := dkwX10_init_19 ++ dktX10_init_20
def dkwX10_init_18 : List UInt8 := [16, 64, 188, 10, 181, 0, 168, 42, 16, 64, 188, 4, 181, 0, 171, 42, 16, 10, 188, 10, 181, 0, 174, 42]
abbrev dktX10_init_18 : List UInt8 := dkwX10_init_18 ++ dktX10_init_19
def dkwX10_init_17 : List UInt8 := [16, 80, 188, 10, 181, 0, 159, 42, 16, 80, 188, 10, 181, 0, 162, 42, 16, 64, 188, 10, 181, 0, 165, 42]
abbrev dktX10_init_17 : List UInt8 := dkwX10_init_17 ++ dktX10_init_18
def dkwX10_init_16 : List UInt8 := [17, 0, 160, 188, 10, 181, 0, 150, 42, 16, 64, 188, 10, 181, 0, 153, 42, 7, 188, 10, 181, 0, 156, 42]
abbrev dktX10_init_16 : List UInt8 := dkwX10_init_16 ++ dktX10_init_17
def dkwX10_init_15 : List UInt8 := [188, 10, 181, 0, 141, 42, 17, 0, 160, 188, 10, 181, 0, 144, 42, 17, 0, 160, 188, 10, 181, 0, 147, 42]
abbrev dktX10_init_15 : List UInt8 := dkwX10_init_15 ++ dktX10_init_16
def dkwX10_init_14 : List UInt8 := [188, 4, 181, 0, 131, 42, 16, 10, 188, 10, 181, 0, 135, 42, 16, 6, 188, 10, 181, 0, 138, 42, 16, 6]
abbrev dktX10_init_14 : List UInt8 := dkwX10_init_14 ++ dktX10_init_15
def dkwX10_init_13 : List UInt8 := [188, 10, 181, 0, 122, 42, 16, 60, 188, 10, 181, 0, 125, 42, 6, 188, 10, 181, 0, 128, 42, 17, 39, 16]
abbrev dktX10_init_13 : List UInt8 := dkwX10_init_13 ++ dktX10_init_14
def dkwX10_init_12 : List UInt8 := [188, 10, 181, 0, 113, 42, 16, 10, 188, 10, 181, 0, 116, 42, 16, 60, 188, 10, 181, 0, 119, 42, 16, 60]
abbrev dktX10_init_12 : List UInt8 := dkwX10_init_12 ++ dktX10_init_13
def dkwX10_init_11 : List UInt8 := [188, 10, 181, 0, 104, 42, 16, 10, 188, 10, 181, 0, 107, 42, 16, 12, 188, 10, 181, 0, 110, 42, 5]
abbrev dktX10_init_11 : List UInt8 := dkwX10_init_11 ++ dktX10_init_12
def dkwX10_init_10 : List UInt8 := [188, 10, 181, 0, 95, 42, 16, 10, 188, 10, 181, 0, 98, 42, 16, 10, 188, 10, 181, 0, 101, 42, 6]
abbrev dktX10_init_10 : List UInt8 := dkwX10_init_10 ++ dktX10_init_11
def dkwX10_init_9 : List UInt8 := [188, 10, 181, 0, 86, 42, 16, 64, 188, 10, 181, 0, 89, 42, 16, 64, 188, 10, 181, 0, 92, 42, 16, 64]
abbrev dktX10_init_9 : List UInt8 := dkwX10_init_9 ++ dktX10_init_10
def dkwX10_init_8 : List UInt8 := [181, 0, 77, 42, 16, 64, 188, 10, 181, 0, 80, 42, 17, 0, 128, 188, 10, 181, 0, 83, 42, 16, 64]
abbrev dktX10_init_8 : List UInt8 := dkwX10_init_8 ++ dktX10_init_9
def dkwX10_init_7 : List UInt8 := [188, 10, 181, 0, 68, 42, 7, 188, 10, 181, 0, 71, 42, 7, 188, 10, 181, 0, 74, 42, 7, 188, 10]
abbrev dktX10_init_7 : List UInt8 := dkwX10_init_7 ++ dktX10_init_8
def dkwX10_init_6 : List UInt8 := [181, 0, 59, 42, 7, 188, 10, 181, 0, 62, 42, 17, 1, 144, 188, 10, 181, 0, 65, 42, 17, 1, 144]
abbrev dktX10_init_6 : List UInt8 := dkwX10_init_6 ++ dktX10_init_7
def dkwX10_init_5 : List UInt8 := [181, 0, 50, 42, 16, 48, 188, 10, 181, 0, 53, 42, 7, 188, 10, 181, 0, 56, 42, 16, 48, 188, 10]
abbrev dktX10_init_5 : List UInt8 := dkwX10_init_5 ++ dktX10_init_6
def dkwX10_init_4 : List UInt8 := [17, 1, 144, 188, 10, 181, 0, 44, 42, 17, 1, 144, 188, 10, 181, 0, 47, 42, 17, 1, 144, 188, 10]
abbrev dktX10_init_4 : List UInt8 := dkwX10_init_4 ++ dktX10_init_5
def dkwX10_init_3 : List UInt8 := [181, 0, 35, 42, 17, 1, 144, 188, 10, 181, 0, 38, 42, 17, 1, 144, 188, 10, 181, 0, 41, 42]
abbrev dktX10_init_3 : List UInt8 := dkwX10_init_3 ++ dktX10_init_4
def dkwX10_init_2 : List UInt8 := [17, 0, 128, 188, 10, 181, 0, 29, 42, 17, 0, 128, 188, 10, 181, 0, 32, 42, 16, 10, 188, 10]
abbrev dktX10_init_2 : List UInt8 := dkwX10_init_2 ++ dktX10_init_3
def dkwX10_init_1 : List UInt8 := [188, 10, 181, 0, 20, 42, 16, 64, 188, 10, 181, 0, 23, 42, 16, 64, 188, 10, 181, 0, 26, 42]
abbrev dktX10_init_1 : List UInt8 := dkwX10_init_1 ++ dktX10_init_2
def dkwX10_init_0 : List UInt8 := [42, 183, 0, 7, 42, 16, 64, 188, 10, 181, 0, 13, 42, 16, 64, 188, 10, 181, 0, 17, 42, 16, 64]
abbrev dktX10_init_0 : List UInt8 := dkwX10_init_0 ++ dktX10_init_1
theorem dksX10_init_0 : cX10_init.data.toList.drop 0 = dktX10_init_0 := by decide +kernel
theorem dksX10_init_1 : cX10_init.data.toList.drop 23 = dktX10_init_1 := dk_seg dksX10_init_0 23 rfl rfl
theorem dksX10_init_2 : cX10_init.data.toList.drop 45 = dktX10_init_2 := dk_seg dksX10_init_1 22 rfl rfl
theorem dksX10_init_3 : cX10_init.data.toList.drop 67 = dktX10_init_3 := dk_seg dksX10_init_2 22 rfl rfl
theorem dksX10_init_4 : cX10_init.data.toList.drop 89 = dktX10_init_4 := dk_seg dksX10_init_3 22 rfl rfl
theorem dksX10_init_5 : cX10_init.data.toList.drop 112 = dktX10_init_5 := dk_seg dksX10_init_4 23 rfl rfl
theorem dksX10_init_6 : cX10_init.data.toList.drop 135 = dktX10_init_6 := dk_seg dksX10_init_5 23 rfl rfl
theorem dksX10_init_7 : cX10_init.data.toList.drop 158 = dktX10_init_7 := dk_seg dksX10_init_6 23 rfl rfl
theorem dksX10_init_8 : cX10_init.data.toList.drop 181 = dktX10_init_8 := dk_seg dksX10_init_7 23 rfl rfl
theorem dksX10_init_9 : cX10_init.data.toList.drop 204 = dktX10_init_9 := dk_seg dksX10_init_8 23 rfl rfl
theorem dksX10_init_10 : cX10_init.data.toList.drop 228 = dktX10_init_10 := dk_seg dksX10_init_9 24 rfl rfl
theorem dksX10_init_11 : cX10_init.data.toList.drop 251 = dktX10_init_11 := dk_seg dksX10_init_10 23 rfl rfl
theorem dksX10_init_12 : cX10_init.data.toList.drop 274 = dktX10_init_12 := dk_seg dksX10_init_11 23 rfl rfl
theorem dksX10_init_13 : cX10_init.data.toList.drop 298 = dktX10_init_13 := dk_seg dksX10_init_12 24 rfl rfl
theorem dksX10_init_14 : cX10_init.data.toList.drop 322 = dktX10_init_14 := dk_seg dksX10_init_13 24 rfl rfl
theorem dksX10_init_15 : cX10_init.data.toList.drop 346 = dktX10_init_15 := dk_seg dksX10_init_14 24 rfl rfl
theorem dksX10_init_16 : cX10_init.data.toList.drop 370 = dktX10_init_16 := dk_seg dksX10_init_15 24 rfl rfl
theorem dksX10_init_17 : cX10_init.data.toList.drop 394 = dktX10_init_17 := dk_seg dksX10_init_16 24 rfl rfl
theorem dksX10_init_18 : cX10_init.data.toList.drop 418 = dktX10_init_18 := dk_seg dksX10_init_17 24 rfl rfl
theorem dksX10_init_19 : cX10_init.data.toList.drop 442 = dktX10_init_19 := dk_seg dksX10_init_18 24 rfl rfl
theorem dksX10_init_20 : cX10_init.data.toList.drop 466 = dktX10_init_20 := dk_seg dksX10_init_19 24 rfl rfl
theorem dksX10_init_21 : cX10_init.data.toList.drop 490 = dktX10_init_21 := dk_seg dksX10_init_20 24 rfl rfl
theorem dksX10_init_22 : cX10_init.data.toList.drop 514 = dktX10_init_22 := dk_seg dksX10_init_21 24 rfl rfl
theorem dksX10_init_23 : cX10_init.data.toList.drop 538 = dktX10_init_23 := dk_seg dksX10_init_22 24 rfl rfl
theorem dX10_init_0 : decode cX10_init 0 = .ok (.aload_n 0, 1) := dk_42 (dk_at dksX10_init_0 0 rfl rfl)
theorem dX10_init_1 : decode cX10_init 1 = .ok (.invokespecial 7, 3) := dk_183 0 7 (dk_at dksX10_init_0 1 rfl rfl)
theorem dX10_init_4 : decode cX10_init 4 = .ok (.aload_n 0, 1) := dk_42 (dk_at dksX10_init_0 4 rfl rfl)
theorem dX10_init_5 : decode cX10_init 5 = .ok (.bipush 64, 2) := dk_16 64 (dk_at dksX10_init_0 5 rfl rfl)
theorem dX10_init_7 : decode cX10_init 7 = .ok (.newarray .int, 2) := dk_188_10 (dk_at dksX10_init_0 7 rfl rfl)
theorem dX10_init_9 : decode cX10_init 9 = .ok (.putfield 13, 3) := dk_181 0 13 (dk_at dksX10_init_0 9 rfl rfl)
theorem dX10_init_12 : decode cX10_init 12 = .ok (.aload_n 0, 1) := dk_42 (dk_at dksX10_init_0 12 rfl rfl)
theorem dX10_init_13 : decode cX10_init 13 = .ok (.bipush 64, 2) := dk_16 64 (dk_at dksX10_init_0 13 rfl rfl)
theorem dX10_init_15 : decode cX10_init 15 = .ok (.newarray .int, 2) := dk_188_10 (dk_at dksX10_init_0 15 rfl rfl)
theorem dX10_init_17 : decode cX10_init 17 = .ok (.putfield 17, 3) := dk_181 0 17 (dk_at dksX10_init_0 17 rfl rfl)
theorem dX10_init_20 : decode cX10_init 20 = .ok (.aload_n 0, 1) := dk_42 (dk_at dksX10_init_0 20 rfl rfl)
theorem dX10_init_21 : decode cX10_init 21 = .ok (.bipush 64, 2) := dk_16 64 (dk_at dksX10_init_0 21 rfl rfl)
theorem dX10_init_23 : decode cX10_init 23 = .ok (.newarray .int, 2) := dk_188_10 (dk_at dksX10_init_1 0 rfl rfl)
theorem dX10_init_25 : decode cX10_init 25 = .ok (.putfield 20, 3) := dk_181 0 20 (dk_at dksX10_init_1 2 rfl rfl)
theorem dX10_init_28 : decode cX10_init 28 = .ok (.aload_n 0, 1) := dk_42 (dk_at dksX10_init_1 5 rfl rfl)
theorem dX10_init_29 : decode cX10_init 29 = .ok (.bipush 64, 2) := dk_16 64 (dk_at dksX10_init_1 6 rfl rfl)
theorem dX10_init_31 : decode cX10_init 31 = .ok (.newarray .int, 2) := dk_188_10 (dk_at dksX10_init_1 8 rfl rfl)
theorem dX10_init_33 : decode cX10_init 33 = .ok (.putfield 23, 3) := dk_181 0 23 (dk_at dksX10_init_1 10 rfl rfl)
theorem dX10_init_36 : decode cX10_init 36 = .ok (.aload_n 0, 1) := dk_42 (dk_at dksX10_init_1 13 rfl rfl)
theorem dX10_init_37 : decode cX10_init 37 = .ok (.bipush 64, 2) := dk_16 64 (dk_at dksX10_init_1 14 rfl rfl)
theorem dX10_init_39 : decode cX10_init 39 = .ok (.newarray .int, 2) := dk_188_10 (dk_at dksX10_init_1 16 rfl rfl)
theorem dX10_init_41 : decode cX10_init 41 = .ok (.putfield 26, 3) := dk_181 0 26 (dk_at dksX10_init_1 18 rfl rfl)
theorem dX10_init_44 : decode cX10_init 44 = .ok (.aload_n 0, 1) := dk_42 (dk_at dksX10_init_1 21 rfl rfl)
theorem dX10_init_45 : decode cX10_init 45 = .ok (.sipush 128, 3) := dk_17 0 128 (dk_at dksX10_init_2 0 rfl rfl)
theorem dX10_init_48 : decode cX10_init 48 = .ok (.newarray .int, 2) := dk_188_10 (dk_at dksX10_init_2 3 rfl rfl)
theorem dX10_init_50 : decode cX10_init 50 = .ok (.putfield 29, 3) := dk_181 0 29 (dk_at dksX10_init_2 5 rfl rfl)
theorem dX10_init_53 : decode cX10_init 53 = .ok (.aload_n 0, 1) := dk_42 (dk_at dksX10_init_2 8 rfl rfl)
theorem dX10_init_54 : decode cX10_init 54 = .ok (.sipush 128, 3) := dk_17 0 128 (dk_at dksX10_init_2 9 rfl rfl)
theorem dX10_init_57 : decode cX10_init 57 = .ok (.newarray .int, 2) := dk_188_10 (dk_at dksX10_init_2 12 rfl rfl)
theorem dX10_init_59 : decode cX10_init 59 = .ok (.putfield 32, 3) := dk_181 0 32 (dk_at dksX10_init_2 14 rfl rfl)
theorem dX10_init_62 : decode cX10_init 62 = .ok (.aload_n 0, 1) := dk_42 (dk_at dksX10_init_2 17 rfl rfl)
theorem dX10_init_63 : decode cX10_init 63 = .ok (.bipush 10, 2) := dk_16 10 (dk_at dksX10_init_2 18 rfl rfl)
theorem dX10_init_65 : decode cX10_init 65 = .ok (.newarray .int, 2) := dk_188_10 (dk_at dksX10_init_2 20 rfl rfl)
theorem dX10_init_67 : decode cX10_init 67 = .ok (.putfield 35, 3) := dk_181 0 35 (dk_at dksX10_init_3 0 rfl rfl)
theorem dX10_init_70 : decode cX10_init 70 = .ok (.aload_n 0, 1) := dk_42 (dk_at dksX10_init_3 3 rfl rfl)
theorem dX10_init_71 : decode cX10_init 71 = .ok (.sipush 400, 3) := dk_17 1 144 (dk_at dksX10_init_3 4 rfl rfl)
theorem dX10_init_74 : decode cX10_init 74 = .ok (.newarray .int, 2) := dk_188_10 (dk_at dksX10_init_3 7 rfl rfl)
theorem dX10_init_76 : decode cX10_init 76 = .ok (.putfield 38, 3) := dk_181 0 38 (dk_at dksX10_init_3 9 rfl rfl)
theorem dX10_init_79 : decode cX10_init 79 = .ok (.aload_n 0, 1) := dk_42 (dk_at dksX10_init_3 12 rfl rfl)
theorem dX10_init_80 : decode cX10_init 80 = .ok (.sipush 400, 3) := dk_17 1 144 (dk_at dksX10_init_3 13 rfl rfl)
theorem dX10_init_83 : decode cX10_init 83 = .ok (.newarray .int, 2) := dk_188_10 (dk_at dksX10_init_3 16 rfl rfl)
theorem dX10_init_85 : decode cX10_init 85 = .ok (.putfield 41, 3) := dk_181 0 41 (dk_at dksX10_init_3 18 rfl rfl)
theorem dX10_init_88 : decode cX10_init 88 = .ok (.aload_n 0, 1) := dk_42 (dk_at dksX10_init_3 21 rfl rfl)
theorem dX10_init_89 : decode cX10_init 89 = .ok (.sipush 400, 3) := dk_17 1 144 (dk_at dksX10_init_4 0 rfl rfl)
theorem dX10_init_92 : decode cX10_init 92 = .ok (.newarray .int, 2) := dk_188_10 (dk_at dksX10_init_4 3 rfl rfl)
theorem dX10_init_94 : decode cX10_init 94 = .ok (.putfield 44, 3) := dk_181 0 44 (dk_at dksX10_init_4 5 rfl rfl)
theorem dX10_init_97 : decode cX10_init 97 = .ok (.aload_n 0, 1) := dk_42 (dk_at dksX10_init_4 8 rfl rfl)
theorem dX10_init_98 : decode cX10_init 98 = .ok (.sipush 400, 3) := dk_17 1 144 (dk_at dksX10_init_4 9 rfl rfl)
theorem dX10_init_101 : decode cX10_init 101 = .ok (.newarray .int, 2) := dk_188_10 (dk_at dksX10_init_4 12 rfl rfl)
theorem dX10_init_103 : decode cX10_init 103 = .ok (.putfield 47, 3) := dk_181 0 47 (dk_at dksX10_init_4 14 rfl rfl)
theorem dX10_init_106 : decode cX10_init 106 = .ok (.aload_n 0, 1) := dk_42 (dk_at dksX10_init_4 17 rfl rfl)
theorem dX10_init_107 : decode cX10_init 107 = .ok (.sipush 400, 3) := dk_17 1 144 (dk_at dksX10_init_4 18 rfl rfl)
theorem dX10_init_110 : decode cX10_init 110 = .ok (.newarray .int, 2) := dk_188_10 (dk_at dksX10_init_4 21 rfl rfl)
theorem dX10_init_112 : decode cX10_init 112 = .ok (.putfield 50, 3) := dk_181 0 50 (dk_at dksX10_init_5 0 rfl rfl)
theorem dX10_init_115 : decode cX10_init 115 = .ok (.aload_n 0, 1) := dk_42 (dk_at dksX10_init_5 3 rfl rfl)
theorem dX10_init_116 : decode cX10_init 116 = .ok (.bipush 48, 2) := dk_16 48 (dk_at dksX10_init_5 4 rfl rfl)
theorem dX10_init_118 : decode cX10_init 118 = .ok (.newarray .int, 2) := dk_188_10 (dk_at dksX10_init_5 6 rfl rfl)
theorem dX10_init_120 : decode cX10_init 120 = .ok (.putfield 53, 3) := dk_181 0 53 (dk_at dksX10_init_5 8 rfl rfl)
theorem dX10_init_123 : decode cX10_init 123 = .ok (.aload_n 0, 1) := dk_42 (dk_at dksX10_init_5 11 rfl rfl)
theorem dX10_init_124 : decode cX10_init 124 = .ok (.iconst 4, 1) := dk_7 (dk_at dksX10_init_5 12 rfl rfl)
theorem dX10_init_125 : decode cX10_init 125 = .ok (.newarray .int, 2) := dk_188_10 (dk_at dksX10_init_5 13 rfl rfl)
theorem dX10_init_127 : decode cX10_init 127 = .ok (.putfield 56, 3) := dk_181 0 56 (dk_at dksX10_init_5 15 rfl rfl)
theorem dX10_init_130 : decode cX10_init 130 = .ok (.aload_n 0, 1) := dk_42 (dk_at dksX10_init_5 18 rfl rfl)
theorem dX10_init_131 : decode cX10_init 131 = .ok (.bipush 48, 2) := dk_16 48 (dk_at dksX10_init_5 19 rfl rfl)
theorem dX10_init_133 : decode cX10_init 133 = .ok (.newarray .int, 2) := dk_188_10 (dk_at dksX10_init_5 21 rfl rfl)
theorem dX10_init_135 : decode cX10_init 135 = .ok (.putfield 59, 3) := dk_181 0 59 (dk_at dksX10_init_6 0 rfl rfl)
theorem dX10_init_138 : decode cX10_init 138 = .ok (.aload_n 0, 1) := dk_42 (dk_at dksX10_init_6 3 rfl rfl)
theorem dX10_init_139 : decode cX10_init 139 = .ok (.iconst 4, 1) := dk_7 (dk_at dksX10_init_6 4 rfl rfl)
theorem dX10_init_140 : decode cX10_init 140 = .ok (.newarray .int, 2) := dk_188_10 (dk_at dksX10_init_6 5 rfl rfl)
theorem dX10_init_142 : decode cX10_init 142 = .ok (.putfield 62, 3) := dk_181 0 62 (dk_at dksX10_init_6 7 rfl rfl)
theorem dX10_init_145 : decode cX10_init 145 = .ok (.aload_n 0, 1) := dk_42 (dk_at dksX10_init_6 10 rfl rfl)
theorem dX10_init_146 : decode cX10_init 146 = .ok (.sipush 400, 3) := dk_17 1 144 (dk_at dksX10_init_6 11 rfl rfl)
theorem dX10_init_149 : decode cX10_init 149 = .ok (.newarray .int, 2) := dk_188_10 (dk_at dksX10_init_6 14 rfl rfl)
theorem dX10_init_151 : decode cX10_init 151 = .ok (.putfield 65, 3) := dk_181 0 65 (dk_at dksX10_init_6 16 rfl rfl)
theorem dX10_init_154 : decode cX10_init 154 = .ok (.aload_n 0, 1) := dk_42 (dk_at dksX10_init_6 19 rfl rfl)
theorem dX10_init_155 : decode cX10_init 155 = .ok (.sipush 400, 3) := dk_17 1 144 (dk_at dksX10_init_6 20 rfl rfl)
theorem dX10_init_158 : decode cX10_init 158 = .ok (.newarray .int, 2) := dk_188_10 (dk_at dksX10_init_7 0 rfl rfl)
theorem dX10_init_160 : decode cX10_init 160 = .ok (.putfield 68, 3) := dk_181 0 68 (dk_at dksX10_init_7 2 rfl rfl)
theorem dX10_init_163 : decode cX10_init 163 = .ok (.aload_n 0, 1) := dk_42 (dk_at dksX10_init_7 5 rfl rfl)
theorem dX10_init_164 : decode cX10_init 164 = .ok (.iconst 4, 1) := dk_7 (dk_at dksX10_init_7 6 rfl rfl)
theorem dX10_init_165 : decode cX10_init 165 = .ok (.newarray .int, 2) := dk_188_10 (dk_at dksX10_init_7 7 rfl rfl)
theorem dX10_init_167 : decode cX10_init 167 = .ok (.putfield 71, 3) := dk_181 0 71 (dk_at dksX10_init_7 9 rfl rfl)
theorem dX10_init_170 : decode cX10_init 170 = .ok (.aload_n 0, 1) := dk_42 (dk_at dksX10_init_7 12 rfl rfl)
theorem dX10_init_171 : decode cX10_init 171 = .ok (.iconst 4, 1) := dk_7 (dk_at dksX10_init_7 13 rfl rfl)
theorem dX10_init_172 : decode cX10_init 172 = .ok (.newarray .int, 2) := dk_188_10 (dk_at dksX10_init_7 14 rfl rfl)
theorem dX10_init_174 : decode cX10_init 174 = .ok (.putfield 74, 3) := dk_181 0 74 (dk_at dksX10_init_7 16 rfl rfl)
theorem dX10_init_177 : decode cX10_init 177 = .ok (.aload_n 0, 1) := dk_42 (dk_at dksX10_init_7 19 rfl rfl)
theorem dX10_init_178 : decode cX10_init 178 = .ok (.iconst 4, 1) := dk_7 (dk_at dksX10_init_7 20 rfl rfl)
theorem dX10_init_179 : decode cX10_init 179 = .ok (.newarray .int, 2) := dk_188_10 (dk_at dksX10_init_7 21 rfl rfl)
theorem dX10_init_181 : decode cX10_init 181 = .ok (.putfield 77, 3) := dk_181 0 77 (dk_at dksX10_init_8 0 rfl rfl)
theorem dX10_init_184 : decode cX10_init 184 = .ok (.aload_n 0, 1) := dk_42 (dk_at dksX10_init_8 3 rfl rfl)
theorem dX10_init_185 : decode cX10_init 185 = .ok (.bipush 64, 2) := dk_16 64 (dk_at dksX10_init_8 4 rfl rfl)
theorem dX10_init_187 : decode cX10_init 187 = .ok (.newarray .int, 2) := dk_188_10 (dk_at dksX10_init_8 6 rfl rfl)
theorem dX10_init_189 : decode cX10_init 189 = .ok (.putfield 80, 3) := dk_181 0 80 (dk_at dksX10_init_8 8 rfl rfl)
theorem dX10_init_192 : decode cX10_init 192 = .ok (.aload_n 0, 1) := dk_42 (dk_at dksX10_init_8 11 rfl rfl)
theorem dX10_init_193 : decode cX10_init 193 = .ok (.sipush 128, 3) := dk_17 0 128 (dk_at dksX10_init_8 12 rfl rfl)
theorem dX10_init_196 : decode cX10_init 196 = .ok (.newarray .int, 2) := dk_188_10 (dk_at dksX10_init_8 15 rfl rfl)
theorem dX10_init_198 : decode cX10_init 198 = .ok (.putfield 83, 3) := dk_181 0 83 (dk_at dksX10_init_8 17 rfl rfl)
theorem dX10_init_201 : decode cX10_init 201 = .ok (.aload_n 0, 1) := dk_42 (dk_at dksX10_init_8 20 rfl rfl)
theorem dX10_init_202 : decode cX10_init 202 = .ok (.bipush 64, 2) := dk_16 64 (dk_at dksX10_init_8 21 rfl rfl)
theorem dX10_init_204 : decode cX10_init 204 = .ok (.newarray .int, 2) := dk_188_10 (dk_at dksX10_init_9 0 rfl rfl)
theorem dX10_init_206 : decode cX10_init 206 = .ok (.putfield 86, 3) := dk_181 0 86 (dk_at dksX10_init_9 2 rfl rfl)
theorem dX10_init_209 : decode cX10_init 209 = .ok (.aload_n 0, 1) := dk_42 (dk_at dksX10_init_9 5 rfl rfl)
theorem dX10_init_210 : decode cX10_init 210 = .ok (.bipush 64, 2) := dk_16 64 (dk_at dksX10_init_9 6 rfl rfl)
theorem dX10_init_212 : decode cX10_init 212 = .ok (.newarray .int, 2) := dk_188_10 (dk_at dksX10_init_9 8 rfl rfl)
theorem dX10_init_214 : decode cX10_init 214 = .ok (.putfield 89, 3) := dk_181 0 89 (dk_at dksX10_init_9 10 rfl rfl)
theorem dX10_init_217 : decode cX10_init 217 = .ok (.aload_n 0, 1) := dk_42 (dk_at dksX10_init_9 13 rfl rfl)
theorem dX10_init_218 : decode cX10_init 218 = .ok (.bipush 64, 2) := dk_16 64 (dk_at dksX10_init_9 14 rfl rfl)
theorem dX10_init_220 : decode cX10_init 220 = .ok (.newarray .int, 2) := dk_188_10 (dk_at dksX10_init_9 16 rfl rfl)
theorem dX10_init_222 : decode cX10_init 222 = .ok (.putfield 92, 3) := dk_181 0 92 (dk_at dksX10_init_9 18 rfl rfl)
theorem dX10_init_225 : decode cX10_init 225 = .ok (.aload_n 0, 1) := dk_42 (dk_at dksX10_init_9 21 rfl rfl)
theorem dX10_init_226 : decode cX10_init 226 = .ok (.bipush 64, 2) := dk_16 64 (dk_at dksX10_init_9 22 rfl rfl)
theorem dX10_init_228 : decode cX10_init 228 = .ok (.newarray .int, 2) := dk_188_10 (dk_at dksX10_init_10 0 rfl rfl)
theorem dX10_init_230 : decode cX10_init 230 = .ok (.putfield 95, 3) := dk_181 0 95 (dk_at dksX10_init_10 2 rfl rfl)
theorem dX10_init_233 : decode cX10_init 233 = .ok (.aload_n 0, 1) := dk_42 (dk_at dksX10_init_10 5 rfl rfl)
theorem dX10_init_234 : decode cX10_init 234 = .ok (.bipush 10, 2) := dk_16 10 (dk_at dksX10_init_10 6 rfl rfl)
theorem dX10_init_236 : decode cX10_init 236 = .ok (.newarray .int, 2) := dk_188_10 (dk_at dksX10_init_10 8 rfl rfl)
theorem dX10_init_238 : decode cX10_init 238 = .ok (.putfield 98, 3) := dk_181 0 98 (dk_at dksX10_init_10 10 rfl rfl)
theorem dX10_init_241 : decode cX10_init 241 = .ok (.aload_n 0, 1) := dk_42 (dk_at dksX10_init_10 13 rfl rfl)
theorem dX10_init_242 : decode cX10_init 242 = .ok (.bipush 10, 2) := dk_16 10 (dk_at dksX10_init_10 14 rfl rfl)
theorem dX10_init_244 : decode cX10_init 244 = .ok (.newarray .int, 2) := dk_188_10 (dk_at dksX10_init_10 16 rfl rfl)
theorem dX10_init_246 : decode cX10_init 246 = .ok (.putfield 101, 3) := dk_181 0 101 (dk_at dksX10_init_10 18 rfl rfl)
theorem dX10_init_249 : decode cX10_init 249 = .ok (.aload_n 0, 1) := dk_42 (dk_at dksX10_init_10 21 rfl rfl)
theorem dX10_init_250 : decode cX10_init 250 = .ok (.iconst 3, 1) := dk_6 (dk_at dksX10_init_10 22 rfl rfl)
theorem dX10_init_251 : decode cX10_init 251 = .ok (.newarray .int, 2) := dk_188_10 (dk_at dksX10_init_11 0 rfl rfl)
theorem dX10_init_253 : decode cX10_init 253 = .ok (.putfield 104, 3) := dk_181 0 104 (dk_at dksX10_init_11 2 rfl rfl)
theorem dX10_init_256 : decode cX10_init 256 = .ok (.aload_n 0, 1) := dk_42 (dk_at dksX10_init_11 5 rfl rfl)
theorem dX10_init_257 : decode cX10_init 257 = .ok (.bipush 10, 2) := dk_16 10 (dk_at dksX10_init_11 6 rfl rfl)
theorem dX10_init_259 : decode cX10_init 259 = .ok (.newarray .int, 2) := dk_188_10 (dk_at dksX10_init_11 8 rfl rfl)
theorem dX10_init_261 : decode cX10_init 261 = .ok (.putfield 107, 3) := dk_181 0 107 (dk_at dksX10_init_11 10 rfl rfl)
theorem dX10_init_264 : decode cX10_init 264 = .ok (.aload_n 0, 1) := dk_42 (dk_at dksX10_init_11 13 rfl rfl)
theorem dX10_init_265 : decode cX10_init 265 = .ok (.bipush 12, 2) := dk_16 12 (dk_at dksX10_init_11 14 rfl rfl)
theorem dX10_init_267 : decode cX10_init 267 = .ok (.newarray .int, 2) := dk_188_10 (dk_at dksX10_init_11 16 rfl rfl)
theorem dX10_init_269 : decode cX10_init 269 = .ok (.putfield 110, 3) := dk_181 0 110 (dk_at dksX10_init_11 18 rfl rfl)
theorem dX10_init_272 : decode cX10_init 272 = .ok (.aload_n 0, 1) := dk_42 (dk_at dksX10_init_11 21 rfl rfl)
theorem dX10_init_273 : decode cX10_init 273 = .ok (.iconst 2, 1) := dk_5 (dk_at dksX10_init_11 22 rfl rfl)
theorem dX10_init_274 : decode cX10_init 274 = .ok (.newarray .int, 2) := dk_188_10 (dk_at dksX10_init_12 0 rfl rfl)
theorem dX10_init_276 : decode cX10_init 276 = .ok (.putfield 113, 3) := dk_181 0 113 (dk_at dksX10_init_12 2 rfl rfl)
theorem dX10_init_279 : decode cX10_init 279 = .ok (.aload_n 0, 1) := dk_42 (dk_at dksX10_init_12 5 rfl rfl)
theorem dX10_init_280 : decode cX10_init 280 = .ok (.bipush 10, 2) := dk_16 10 (dk_at dksX10_init_12 6 rfl rfl)
theorem dX10_init_282 : decode cX10_init 282 = .ok (.newarray .int, 2) := dk_188_10 (dk_at dksX10_init_12 8 rfl rfl)
theorem dX10_init_284 : decode cX10_init 284 = .ok (.putfield 116, 3) := dk_181 0 116 (dk_at dksX10_init_12 10 rfl rfl)
theorem dX10_init_287 : decode cX10_init 287 = .ok (.aload_n 0, 1) := dk_42 (dk_at dksX10_init_12 13 rfl rfl)
theorem dX10_init_288 : decode cX10_init 288 = .ok (.bipush 60, 2) := dk_16 60 (dk_at dksX10_init_12 14 rfl rfl)
theorem dX10_init_290 : decode cX10_init 290 = .ok (.newarray .int, 2) := dk_188_10 (dk_at dksX10_init_12 16 rfl rfl)
theorem dX10_init_292 : decode cX10_init 292 = .ok (.putfield 119, 3) := dk_181 0 119 (dk_at dksX10_init_12 18 rfl rfl)
theorem dX10_init_295 : decode cX10_init 295 = .ok (.aload_n 0, 1) := dk_42 (dk_at dksX10_init_12 21 rfl rfl)
theorem dX10_init_296 : decode cX10_init 296 = .ok (.bipush 60, 2) := dk_16 60 (dk_at dksX10_init_12 22 rfl rfl)
theorem dX10_init_298 : decode cX10_init 298 = .ok (.newarray .int, 2) := dk_188_10 (dk_at dksX10_init_13 0 rfl rfl)
theorem dX10_init_300 : decode cX10_init 300 = .ok (.putfield 122, 3) := dk_181 0 122 (dk_at dksX10_init_13 2 rfl rfl)
theorem dX10_init_303 : decode cX10_init 303 = .ok (.aload_n 0, 1) := dk_42 (dk_at dksX10_init_13 5 rfl rfl)
theorem dX10_init_304 : decode cX10_init 304 = .ok (.bipush 60, 2) := dk_16 60 (dk_at dksX10_init_13 6 rfl rfl)
theorem dX10_init_306 : decode cX10_init 306 = .ok (.newarray .int, 2) := dk_188_10 (dk_at dksX10_init_13 8 rfl rfl)
theorem dX10_init_308 : decode cX10_init 308 = .ok (.putfield 125, 3) := dk_181 0 125 (dk_at dksX10_init_13 10 rfl rfl)
theorem dX10_init_311 : decode cX10_init 311 = .ok (.aload_n 0, 1) := dk_42 (dk_at dksX10_init_13 13 rfl rfl)
theorem dX10_init_312 : decode cX10_init 312 = .ok (.iconst 3, 1) := dk_6 (dk_at dksX10_init_13 14 rfl rfl)
theorem dX10_init_313 : decode cX10_init 313 = .ok (.newarray .int, 2) := dk_188_10 (dk_at dksX10_init_13 15 rfl rfl)
theorem dX10_init_315 : decode cX10_init 315 = .ok (.putfield 128, 3) := dk_181 0 128 (dk_at dksX10_init_13 17 rfl rfl)
theorem dX10_init_318 : decode cX10_init 318 = .ok (.aload_n 0, 1) := dk_42 (dk_at dksX10_init_13 20 rfl rfl)
theorem dX10_init_319 : decode cX10_init 319 = .ok (.sipush 10000, 3) := dk_17 39 16 (dk_at dksX10_init_13 21 rfl rfl)
theorem dX10_init_322 : decode cX10_init 322 = .ok (.newarray .boolean, 2) := dk_188_4 (dk_at dksX10_init_14 0 rfl rfl)
theorem dX10_init_324 : decode cX10_init 324 = .ok (.putfield 131, 3) := dk_181 0 131 (dk_at dksX10_init_14 2 rfl rfl)
theorem dX10_init_327 : decode cX10_init 327 = .ok (.aload_n 0, 1) := dk_42 (dk_at dksX10_init_14 5 rfl rfl)
theorem dX10_init_328 : decode cX10_init 328 = .ok (.bipush 10, 2) := dk_16 10 (dk_at dksX10_init_14 6 rfl rfl)
theorem dX10_init_330 : decode cX10_init 330 = .ok (.newarray .int, 2) := dk_188_10 (dk_at dksX10_init_14 8 rfl rfl)
theorem dX10_init_332 : decode cX10_init 332 = .ok (.putfield 135, 3) := dk_181 0 135 (dk_at dksX10_init_14 10 rfl rfl)
theorem dX10_init_335 : decode cX10_init 335 = .ok (.aload_n 0, 1) := dk_42 (dk_at dksX10_init_14 13 rfl rfl)
theorem dX10_init_336 : decode cX10_init 336 = .ok (.bipush 6, 2) := dk_16 6 (dk_at dksX10_init_14 14 rfl rfl)
theorem dX10_init_338 : decode cX10_init 338 = .ok (.newarray .int, 2) := dk_188_10 (dk_at dksX10_init_14 16 rfl rfl)
theorem dX10_init_340 : decode cX10_init 340 = .ok (.putfield 138, 3) := dk_181 0 138 (dk_at dksX10_init_14 18 rfl rfl)
theorem dX10_init_343 : decode cX10_init 343 = .ok (.aload_n 0, 1) := dk_42 (dk_at dksX10_init_14 21 rfl rfl)
theorem dX10_init_344 : decode cX10_init 344 = .ok (.bipush 6, 2) := dk_16 6 (dk_at dksX10_init_14 22 rfl rfl)
theorem dX10_init_346 : decode cX10_init 346 = .ok (.newarray .int, 2) := dk_188_10 (dk_at dksX10_init_15 0 rfl rfl)
theorem dX10_init_348 : decode cX10_init 348 = .ok (.putfield 141, 3) := dk_181 0 141 (dk_at dksX10_init_15 2 rfl rfl)
theorem dX10_init_351 : decode cX10_init 351 = .ok (.aload_n 0, 1) := dk_42 (dk_at dksX10_init_15 5 rfl rfl)
theorem dX10_init_352 : decode cX10_init 352 = .ok (.sipush 160, 3) := dk_17 0 160 (dk_at dksX10_init_15 6 rfl rfl)
theorem dX10_init_355 : decode cX10_init 355 = .ok (.newarray .int, 2) := dk_188_10 (dk_at dksX10_init_15 9 rfl rfl)
theorem dX10_init_357 : decode cX10_init 357 = .ok (.putfield 144, 3) := dk_181 0 144 (dk_at dksX10_init_15 11 rfl rfl)
theorem dX10_init_360 : decode cX10_init 360 = .ok (.aload_n 0, 1) := dk_42 (dk_at dksX10_init_15 14 rfl rfl)
theorem dX10_init_361 : decode cX10_init 361 = .ok (.sipush 160, 3) := dk_17 0 160 (dk_at dksX10_init_15 15 rfl rfl)
theorem dX10_init_364 : decode cX10_init 364 = .ok (.newarray .int, 2) := dk_188_10 (dk_at dksX10_init_15 18 rfl rfl)
theorem dX10_init_366 : decode cX10_init 366 = .ok (.putfield 147, 3) := dk_181 0 147 (dk_at dksX10_init_15 20 rfl rfl)
theorem dX10_init_369 : decode cX10_init 369 = .ok (.aload_n 0, 1) := dk_42 (dk_at dksX10_init_15 23 rfl rfl)
theorem dX10_init_370 : decode cX10_init 370 = .ok (.sipush 160, 3) := dk_17 0 160 (dk_at dksX10_init_16 0 rfl rfl)
theorem dX10_init_373 : decode cX10_init 373 = .ok (.newarray .int, 2) := dk_188_10 (dk_at dksX10_init_16 3 rfl rfl)
theorem dX10_init_375 : decode cX10_init 375 = .ok (.putfield 150, 3) := dk_181 0 150 (dk_at dksX10_init_16 5 rfl rfl)
theorem dX10_init_378 : decode cX10_init 378 = .ok (.aload_n 0, 1) := dk_42 (dk_at dksX10_init_16 8 rfl rfl)
theorem dX10_init_379 : decode cX10_init 379 = .ok (.bipush 64, 2) := dk_16 64 (dk_at dksX10_init_16 9 rfl rfl)
theorem dX10_init_381 : decode cX10_init 381 = .ok (.newarray .int, 2) := dk_188_10 (dk_at dksX10_init_16 11 rfl rfl)
theorem dX10_init_383 : decode cX10_init 383 = .ok (.putfield 153, 3) := dk_181 0 153 (dk_at dksX10_init_16 13 rfl rfl)
theorem dX10_init_386 : decode cX10_init 386 = .ok (.aload_n 0, 1) := dk_42 (dk_at dksX10_init_16 16 rfl rfl)
theorem dX10_init_387 : decode cX10_init 387 = .ok (.iconst 4, 1) := dk_7 (dk_at dksX10_init_16 17 rfl rfl)
theorem dX10_init_388 : decode cX10_init 388 = .ok (.newarray .int, 2) := dk_188_10 (dk_at dksX10_init_16 18 rfl rfl)
theorem dX10_init_390 : decode cX10_init 390 = .ok (.putfield 156, 3) := dk_181 0 156 (dk_at dksX10_init_16 20 rfl rfl)
theorem dX10_init_393 : decode cX10_init 393 = .ok (.aload_n 0, 1) := dk_42 (dk_at dksX10_init_16 23 rfl rfl)
theorem dX10_init_394 : decode cX10_init 394 = .ok (.bipush 80, 2) := dk_16 80 (dk_at dksX10_init_17 0 rfl rfl)
theorem dX10_init_396 : decode cX10_init 396 = .ok (.newarray .int, 2) := dk_188_10 (dk_at dksX10_init_17 2 rfl rfl)
theorem dX10_init_398 : decode cX10_init 398 = .ok (.putfield 159, 3) := dk_181 0 159 (dk_at dksX10_init_17 4 rfl rfl)
theorem dX10_init_401 : decode cX10_init 401 = .ok (.aload_n 0, 1) := dk_42 (dk_at dksX10_init_17 7 rfl rfl)
theorem dX10_init_402 : decode cX10_init 402 = .ok (.bipush 80, 2) := dk_16 80 (dk_at dksX10_init_17 8 rfl rfl)
theorem dX10_init_404 : decode cX10_init 404 = .ok (.newarray .int, 2) := dk_188_10 (dk_at dksX10_init_17 10 rfl rfl)
theorem dX10_init_406 : decode cX10_init 406 = .ok (.putfield 162, 3) := dk_181 0 162 (dk_at dksX10_init_17 12 rfl rfl)
theorem dX10_init_409 : decode cX10_init 409 = .ok (.aload_n 0, 1) := dk_42 (dk_at dksX10_init_17 15 rfl rfl)
theorem dX10_init_410 : decode cX10_init 410 = .ok (.bipush 64, 2) := dk_16 64 (dk_at dksX10_init_17 16 rfl rfl)
theorem dX10_init_412 : decode cX10_init 412 = .ok (.newarray .int, 2) := dk_188_10 (dk_at dksX10_init_17 18 rfl rfl)
theorem dX10_init_414 : decode cX10_init 414 = .ok (.putfield 165, 3) := dk_181 0 165 (dk_at dksX10_init_17 20 rfl rfl)
theorem dX10_init_417 : decode cX10_init 417 = .ok (.aload_n 0, 1) := dk_42 (dk_at dksX10_init_17 23 rfl rfl)
theorem dX10_init_418 : decode cX10_init 418 = .ok (.bipush 64, 2) := dk_16 64 (dk_at dksX10_init_18 0 rfl rfl)
theorem dX10_init_420 : decode cX10_init 420 = .ok (.newarray .int, 2) := dk_188_10 (dk_at dksX10_init_18 2 rfl rfl)
theorem dX10_init_422 : decode cX10_init 422 = .ok (.putfield 168, 3) := dk_181 0 168 (dk_at dksX10_init_18 4 rfl rfl)
theorem dX10_init_425 : decode cX10_init 425 = .ok (.aload_n 0, 1) := dk_42 (dk_at dksX10_init_18 7 rfl rfl)
theorem dX10_init_426 : decode cX10_init 426 = .ok (.bipush 64, 2) := dk_16 64 (dk_at dksX10_init_18 8 rfl rfl)
theorem dX10_init_428 : decode cX10_init 428 = .ok (.newarray .boolean, 2) := dk_188_4 (dk_at dksX10_init_18 10 rfl rfl)
theorem dX10_init_430 : decode cX10_init 430 = .ok (.putfield 171, 3) := dk_181 0 171 (dk_at dksX10_init_18 12 rfl rfl)
theorem dX10_init_433 : decode cX10_init 433 = .ok (.aload_n 0, 1) := dk_42 (dk_at dksX10_init_18 15 rfl rfl)
theorem dX10_init_434 : decode cX10_init 434 = .ok (.bipush 10, 2) := dk_16 10 (dk_at dksX10_init_18 16 rfl rfl)
theorem dX10_init_436 : decode cX10_init 436 = .ok (.newarray .int, 2) := dk_188_10 (dk_at dksX10_init_18 18 rfl rfl)
theorem dX10_init_438 : decode cX10_init 438 = .ok (.putfield 174, 3) := dk_181 0 174 (dk_at dksX10_init_18 20 rfl rfl)
theorem dX10_init_441 : decode cX10_init 441 = .ok (.aload_n 0, 1) := dk_42 (dk_at dksX10_init_18 23 rfl rfl)
theorem dX10_init_442 : decode cX10_init 442 = .ok (.bipush 10, 2) := dk_16 10 (dk_at dksX10_init_19 0 rfl rfl)
theorem dX10_init_444 : decode cX10_init 444 = .ok (.newarray .int, 2) := dk_188_10 (dk_at dksX10_init_19 2 rfl rfl)
theorem dX10_init_446 : decode cX10_init 446 = .ok (.putfield 177, 3) := dk_181 0 177 (dk_at dksX10_init_19 4 rfl rfl)
theorem dX10_init_449 : decode cX10_init 449 = .ok (.aload_n 0, 1) := dk_42 (dk_at dksX10_init_19 7 rfl rfl)
theorem dX10_init_450 : decode cX10_init 450 = .ok (.bipush 10, 2) := dk_16 10 (dk_at dksX10_init_19 8 rfl rfl)
theorem dX10_init_452 : decode cX10_init 452 = .ok (.newarray .int, 2) := dk_188_10 (dk_at dksX10_init_19 10 rfl rfl)
theorem dX10_init_454 : decode cX10_init 454 = .ok (.putfield 180, 3) := dk_181 0 180 (dk_at dksX10_init_19 12 rfl rfl)
theorem dX10_init_457 : decode cX10_init 457 = .ok (.aload_n 0, 1) := dk_42 (dk_at dksX10_init_19 15 rfl rfl)
theorem dX10_init_458 : decode cX10_init 458 = .ok (.bipush 60, 2) := dk_16 60 (dk_at dksX10_init_19 16 rfl rfl)
theorem dX10_init_460 : decode cX10_init 460 = .ok (.newarray .int, 2) := dk_188_10 (dk_at dksX10_init_19 18 rfl rfl)
theorem dX10_init_462 : decode cX10_init 462 = .ok (.putfield 183, 3) := dk_181 0 183 (dk_at dksX10_init_19 20 rfl rfl)
theorem dX10_init_465 : decode cX10_init 465 = .ok (.aload_n 0, 1) := dk_42 (dk_at dksX10_init_19 23 rfl rfl)
theorem dX10_init_466 : decode cX10_init 466 = .ok (.bipush 60, 2) := dk_16 60 (dk_at dksX10_init_20 0 rfl rfl)
theorem dX10_init_468 : decode cX10_init 468 = .ok (.newarray .int, 2) := dk_188_10 (dk_at dksX10_init_20 2 rfl rfl)
theorem dX10_init_470 : decode cX10_init 470 = .ok (.putfield 186, 3) := dk_181 0 186 (dk_at dksX10_init_20 4 rfl rfl)
theorem dX10_init_473 : decode cX10_init 473 = .ok (.aload_n 0, 1) := dk_42 (dk_at dksX10_init_20 7 rfl rfl)
theorem dX10_init_474 : decode cX10_init 474 = .ok (.bipush 60, 2) := dk_16 60 (dk_at dksX10_init_20 8 rfl rfl)
theorem dX10_init_476 : decode cX10_init 476 = .ok (.newarray .int, 2) := dk_188_10 (dk_at dksX10_init_20 10 rfl rfl)
theorem dX10_init_478 : decode cX10_init 478 = .ok (.putfield 189, 3) := dk_181 0 189 (dk_at dksX10_init_20 12 rfl rfl)
theorem dX10_init_481 : decode cX10_init 481 = .ok (.aload_n 0, 1) := dk_42 (dk_at dksX10_init_20 15 rfl rfl)
theorem dX10_init_482 : decode cX10_init 482 = .ok (.bipush 60, 2) := dk_16 60 (dk_at dksX10_init_20 16 rfl rfl)
theorem dX10_init_484 : decode cX10_init 484 = .ok (.newarray .int, 2) := dk_188_10 (dk_at dksX10_init_20 18 rfl rfl)
theorem dX10_init_486 : decode cX10_init 486 = .ok (.putfield 192, 3) := dk_181 0 192 (dk_at dksX10_init_20 20 rfl rfl)
theorem dX10_init_489 : decode cX10_init 489 = .ok (.aload_n 0, 1) := dk_42 (dk_at dksX10_init_20 23 rfl rfl)
theorem dX10_init_490 : decode cX10_init 490 = .ok (.bipush 64, 2) := dk_16 64 (dk_at dksX10_init_21 0 rfl rfl)
theorem dX10_init_492 : decode cX10_init 492 = .ok (.newarray .boolean, 2) := dk_188_4 (dk_at dksX10_init_21 2 rfl rfl)
theorem dX10_init_494 : decode cX10_init 494 = .ok (.putfield 195, 3) := dk_181 0 195 (dk_at dksX10_init_21 4 rfl rfl)
theorem dX10_init_497 : decode cX10_init 497 = .ok (.aload_n 0, 1) := dk_42 (dk_at dksX10_init_21 7 rfl rfl)
theorem dX10_init_498 : decode cX10_init 498 = .ok (.bipush 64, 2) := dk_16 64 (dk_at dksX10_init_21 8 rfl rfl)
theorem dX10_init_500 : decode cX10_init 500 = .ok (.newarray .boolean, 2) := dk_188_4 (dk_at dksX10_init_21 10 rfl rfl)
theorem dX10_init_502 : decode cX10_init 502 = .ok (.putfield 198, 3) := dk_181 0 198 (dk_at dksX10_init_21 12 rfl rfl)
theorem dX10_init_505 : decode cX10_init 505 = .ok (.aload_n 0, 1) := dk_42 (dk_at dksX10_init_21 15 rfl rfl)
theorem dX10_init_506 : decode cX10_init 506 = .ok (.bipush 64, 2) := dk_16 64 (dk_at dksX10_init_21 16 rfl rfl)
theorem dX10_init_508 : decode cX10_init 508 = .ok (.newarray .int, 2) := dk_188_10 (dk_at dksX10_init_21 18 rfl rfl)
theorem dX10_init_510 : decode cX10_init 510 = .ok (.putfield 201, 3) := dk_181 0 201 (dk_at dksX10_init_21 20 rfl rfl)
theorem dX10_init_513 : decode cX10_init 513 = .ok (.aload_n 0, 1) := dk_42 (dk_at dksX10_init_21 23 rfl rfl)
theorem dX10_init_514 : decode cX10_init 514 = .ok (.bipush 64, 2) := dk_16 64 (dk_at dksX10_init_22 0 rfl rfl)
theorem dX10_init_516 : decode cX10_init 516 = .ok (.newarray .int, 2) := dk_188_10 (dk_at dksX10_init_22 2 rfl rfl)
theorem dX10_init_518 : decode cX10_init 518 = .ok (.putfield 204, 3) := dk_181 0 204 (dk_at dksX10_init_22 4 rfl rfl)
theorem dX10_init_521 : decode cX10_init 521 = .ok (.aload_n 0, 1) := dk_42 (dk_at dksX10_init_22 7 rfl rfl)
theorem dX10_init_522 : decode cX10_init 522 = .ok (.invokevirtual 207, 3) := dk_182 0 207 (dk_at dksX10_init_22 8 rfl rfl)
theorem dX10_init_525 : decode cX10_init 525 = .ok (.iconst 0, 1) := dk_3 (dk_at dksX10_init_22 11 rfl rfl)
theorem dX10_init_526 : decode cX10_init 526 = .ok (.istore_n 1, 1) := dk_60 (dk_at dksX10_init_22 12 rfl rfl)
theorem dX10_init_527 : decode cX10_init 527 = .ok (.iload_n 1, 1) := dk_27 (dk_at dksX10_init_22 13 rfl rfl)
theorem dX10_init_528 : decode cX10_init 528 = .ok (.bipush 64, 2) := dk_16 64 (dk_at dksX10_init_22 14 rfl rfl)
theorem dX10_init_530 : decode cX10_init 530 = .ok (.if_icmp .ge 16, 3) := dk_162 0 16 (dk_at dksX10_init_22 16 rfl rfl)
theorem dX10_init_533 : decode cX10_init 533 = .ok (.aload_n 0, 1) := dk_42 (dk_at dksX10_init_22 19 rfl rfl)
theorem dX10_init_534 : decode cX10_init 534 = .ok (.getfield 201, 3) := dk_180 0 201 (dk_at dksX10_init_22 20 rfl rfl)
theorem dX10_init_537 : decode cX10_init 537 = .ok (.iload_n 1, 1) := dk_27 (dk_at dksX10_init_22 23 rfl rfl)
theorem dX10_init_538 : decode cX10_init 538 = .ok (.iconst 1, 1) := dk_4 (dk_at dksX10_init_23 0 rfl rfl)
theorem dX10_init_539 : decode cX10_init 539 = .ok (.iastore, 1) := dk_79 (dk_at dksX10_init_23 1 rfl rfl)
theorem dX10_init_540 : decode cX10_init 540 = .ok (.iinc 1 1, 3) := dk_132 1 1 (dk_at dksX10_init_23 2 rfl rfl)
theorem dX10_init_543 : decode cX10_init 543 = .ok (.goto (-16), 3) := dk_167 255 240 (dk_at dksX10_init_23 5 rfl rfl)
theorem dX10_init_546 : decode cX10_init 546 = .ok (.return_, 1) := dk_177 (dk_at dksX10_init_23 8 rfl rfl)
def dkwX10_plain_0 : List UInt8 := [42, 182, 0, 236, 42, 182, 0, 239, 177]
abbrev dktX10_plain_0 : List UInt8 := dkwX10_plain_0 ++ []
theorem dksX10_plain_0 : cX10_plain.data.toList.drop 0 = dktX10_plain_0 := by decide +kernel
theorem dX10_plain_0 : decode cX10_plain 0 = .ok (.aload_n 0, 1) := dk_42 (dk_at dksX10_plain_0 0 rfl rfl)
theorem dX10_plain_1 : decode cX10_plain 1 = .ok (.invokevirtual 236, 3) := dk_182 0 236 (dk_at dksX10_plain_0 1 rfl rfl)
theorem dX10_plain_4 : decode cX10_plain 4 = .ok (.aload_n 0, 1) := dk_42 (dk_at dksX10_plain_0 4 rfl rfl)
theorem dX10_plain_5 : decode cX10_plain 5 = .ok (.invokevirtual 239, 3) := dk_182 0 239 (dk_at dksX10_plain_0 5 rfl rfl)
theorem dX10_plain_8 : decode cX10_plain 8 = .ok (.return_, 1) := dk_177 (dk_at dksX10_plain_0 8 rfl rfl)
def dkwX10_begin_3 : List UInt8 := [79, 42, 180, 0, 65, 4, 3, 79, 42, 180, 0, 68, 4, 5, 79, 42, 180, 0, 65, 5, 16, 9, 79, 177]
abbrev dktX10_begin_3 : List UInt8 := dkwX10_begin_3 ++ []
def dkwX10_begin_2 : List UInt8 := [16, 12, 27, 104, 16, 10, 79, 132, 1, 1, 167, 255, 230, 42, 6, 181, 1, 1, 42, 180, 0, 65, 3, 5]
abbrev dktX10_begin_2 : List UInt8 := dkwX10_begin_2 ++ dktX10_begin_3
def dkwX10_begin_1 : List UInt8 := [16, 100, 181, 0, 254, 3, 60, 27, 7, 162, 0, 27, 42, 180, 0, 62, 27, 4, 79, 42, 180, 0, 59]
abbrev dktX10_begin_1 : List UInt8 := dkwX10_begin_1 ++ dktX10_begin_2
def dkwX10_begin_0 : List UInt8 := [42, 3, 181, 0, 242, 42, 4, 181, 0, 245, 42, 16, 100, 181, 0, 248, 42, 16, 50, 181, 0, 251, 42]
abbrev dktX10_begin_0 : List UInt8 := dkwX10_begin_0 ++ dktX10_begin_1
theorem dksX10_begin_0 : cX10_begin.data.toList.drop 0 = dktX10_begin_0 := by decide +kernel
theorem dksX10_begin_1 : cX10_begin.data.toList.drop 23 = dktX10_begin_1 := dk_seg dksX10_begin_0 23 rfl rfl
theorem dksX10_begin_2 : cX10_begin.data.toList.drop 46 = dktX10_begin_2 := dk_seg dksX10_begin_1 23 rfl rfl
theorem dksX10_begin_3 : cX10_begin.data.toList.drop 70 = dktX10_begin_3 := dk_seg dksX10_begin_2 24 rfl rfl
theorem dX10_begin_0 : decode cX10_begin 0 = .ok (.aload_n 0, 1) := dk_42 (dk_at dksX10_begin_0 0 rfl rfl)
theorem dX10_begin_1 : decode cX10_begin 1 = .ok (.iconst 0, 1) := dk_3 (dk_at dksX10_begin_0 1 rfl rfl)
theorem dX10_begin_2 : decode cX10_begin 2 = .ok (.putfield 242, 3) := dk_181 0 242 (dk_at dksX10_begin_0 2 rfl rfl)
theorem dX10_begin_5 : decode cX10_begin 5 = .ok (.aload_n 0, 1) := dk_42 (dk_at dksX10_begin_0 5 rfl rfl)
theorem dX10_begin_6 : decode cX10_begin 6 = .ok (.iconst 1, 1) := dk_4 (dk_at dksX10_begin_0 6 rfl rfl)
theorem dX10_begin_7 : decode cX10_begin 7 = .ok (.putfield 245, 3) := dk_181 0 245 (dk_at dksX10_begin_0 7 rfl rfl)
theorem dX10_begin_10 : decode cX10_begin 10 = .ok (.aload_n 0, 1) := dk_42 (dk_at dksX10_begin_0 10 rfl rfl)
theorem dX10_begin_11 : decode cX10_begin 11 = .ok (.bipush 100, 2) := dk_16 100 (dk_at dksX10_begin_0 11 rfl rfl)
theorem dX10_begin_13 : decode cX10_begin 13 = .ok (.putfield 248, 3) := dk_181 0 248 (dk_at dksX10_begin_0 13 rfl rfl)
theorem dX10_begin_16 : decode cX10_begin 16 = .ok (.aload_n 0, 1) := dk_42 (dk_at dksX10_begin_0 16 rfl rfl)
theorem dX10_begin_17 : decode cX10_begin 17 = .ok (.bipush 50, 2) := dk_16 50 (dk_at dksX10_begin_0 17 rfl rfl)
theorem dX10_begin_19 : decode cX10_begin 19 = .ok (.putfield 251, 3) := dk_181 0 251 (dk_at dksX10_begin_0 19 rfl rfl)
theorem dX10_begin_22 : decode cX10_begin 22 = .ok (.aload_n 0, 1) := dk_42 (dk_at dksX10_begin_0 22 rfl rfl)
theorem dX10_begin_23 : decode cX10_begin 23 = .ok (.bipush 100, 2) := dk_16 100 (dk_at dksX10_begin_1 0 rfl rfl)
theorem dX10_begin_25 : decode cX10_begin 25 = .ok (.putfield 254, 3) := dk_181 0 254 (dk_at dksX10_begin_1 2 rfl rfl)
theorem dX10_begin_28 : decode cX10_begin 28 = .ok (.iconst 0, 1) := dk_3 (dk_at dksX10_begin_1 5 rfl rfl)
theorem dX10_begin_29 : decode cX10_begin 29 = .ok (.istore_n 1, 1) := dk_60 (dk_at dksX10_begin_1 6 rfl rfl)
theorem dX10_begin_30 : decode cX10_begin 30 = .ok (.iload_n 1, 1) := dk_27 (dk_at dksX10_begin_1 7 rfl rfl)
theorem dX10_begin_31 : decode cX10_begin 31 = .ok (.iconst 4, 1) := dk_7 (dk_at dksX10_begin_1 8 rfl rfl)
theorem dX10_begin_32 : decode cX10_begin 32 = .ok (.if_icmp .ge 27, 3) := dk_162 0 27 (dk_at dksX10_begin_1 9 rfl rfl)
theorem dX10_begin_35 : decode cX10_begin 35 = .ok (.aload_n 0, 1) := dk_42 (dk_at dksX10_begin_1 12 rfl rfl)
theorem dX10_begin_36 : decode cX10_begin 36 = .ok (.getfield 62, 3) := dk_180 0 62 (dk_at dksX10_begin_1 13 rfl rfl)
theorem dX10_begin_39 : decode cX10_begin 39 = .ok (.iload_n 1, 1) := dk_27 (dk_at dksX10_begin_1 16 rfl rfl)
theorem dX10_begin_40 : decode cX10_begin 40 = .ok (.iconst 1, 1) := dk_4 (dk_at dksX10_begin_1 17 rfl rfl)
theorem dX10_begin_41 : decode cX10_begin 41 = .ok (.iastore, 1) := dk_79 (dk_at dksX10_begin_1 18 rfl rfl)
theorem dX10_begin_42 : decode cX10_begin 42 = .ok (.aload_n 0, 1) := dk_42 (dk_at dksX10_begin_1 19 rfl rfl)
theorem dX10_begin_43 : decode cX10_begin 43 = .ok (.getfield 59, 3) := dk_180 0 59 (dk_at dksX10_begin_1 20 rfl rfl)
theorem dX10_begin_46 : decode cX10_begin 46 = .ok (.bipush 12, 2) := dk_16 12 (dk_at dksX10_begin_2 0 rfl rfl)
theorem dX10_begin_48 : decode cX10_begin 48 = .ok (.iload_n 1, 1) := dk_27 (dk_at dksX10_begin_2 2 rfl rfl)
theorem dX10_begin_49 : decode cX10_begin 49 = .ok (.imul, 1) := dk_104 (dk_at dksX10_begin_2 3 rfl rfl)
theorem dX10_begin_50 : decode cX10_begin 50 = .ok (.bipush 10, 2) := dk_16 10 (dk_at dksX10_begin_2 4 rfl rfl)
theorem dX10_begin_52 : decode cX10_begin 52 = .ok (.iastore, 1) := dk_79 (dk_at dksX10_begin_2 6 rfl rfl)
theorem dX10_begin_53 : decode cX10_begin 53 = .ok (.iinc 1 1, 3) := dk_132 1 1 (dk_at dksX10_begin_2 7 rfl rfl)
theorem dX10_begin_56 : decode cX10_begin 56 = .ok (.goto (-26), 3) := dk_167 255 230 (dk_at dksX10_begin_2 10 rfl rfl)
theorem dX10_begin_59 : decode cX10_begin 59 = .ok (.aload_n 0, 1) := dk_42 (dk_at dksX10_begin_2 13 rfl rfl)
theorem dX10_begin_60 : decode cX10_begin 60 = .ok (.iconst 3, 1) := dk_6 (dk_at dksX10_begin_2 14 rfl rfl)
theorem dX10_begin_61 : decode cX10_begin 61 = .ok (.putfield 257, 3) := dk_181 1 1 (dk_at dksX10_begin_2 15 rfl rfl)
theorem dX10_begin_64 : decode cX10_begin 64 = .ok (.aload_n 0, 1) := dk_42 (dk_at dksX10_begin_2 18 rfl rfl)
theorem dX10_begin_65 : decode cX10_begin 65 = .ok (.getfield 65, 3) := dk_180 0 65 (dk_at dksX10_begin_2 19 rfl rfl)
theorem dX10_begin_68 : decode cX10_begin 68 = .ok (.iconst 0, 1) := dk_3 (dk_at dksX10_begin_2 22 rfl rfl)
theorem dX10_begin_69 : decode cX10_begin 69 = .ok (.iconst 2, 1) := dk_5 (dk_at dksX10_begin_2 23 rfl rfl)
theorem dX10_begin_70 : decode cX10_begin 70 = .ok (.iastore, 1) := dk_79 (dk_at dksX10_begin_3 0 rfl rfl)
theorem dX10_begin_71 : decode cX10_begin 71 = .ok (.aload_n 0, 1) := dk_42 (dk_at dksX10_begin_3 1 rfl rfl)
theorem dX10_begin_72 : decode cX10_begin 72 = .ok (.getfield 65, 3) := dk_180 0 65 (dk_at dksX10_begin_3 2 rfl rfl)
theorem dX10_begin_75 : decode cX10_begin 75 = .ok (.iconst 1, 1) := dk_4 (dk_at dksX10_begin_3 5 rfl rfl)
theorem dX10_begin_76 : decode cX10_begin 76 = .ok (.iconst 0, 1) := dk_3 (dk_at dksX10_begin_3 6 rfl rfl)
theorem dX10_begin_77 : decode cX10_begin 77 = .ok (.iastore, 1) := dk_79 (dk_at dksX10_begin_3 7 rfl rfl)
theorem dX10_begin_78 : decode cX10_begin 78 = .ok (.aload_n 0, 1) := dk_42 (dk_at dksX10_begin_3 8 rfl rfl)
theorem dX10_begin_79 : decode cX10_begin 79 = .ok (.getfield 68, 3) := dk_180 0 68 (dk_at dksX10_begin_3 9 rfl rfl)
theorem dX10_begin_82 : decode cX10_begin 82 = .ok (.iconst 1, 1) := dk_4 (dk_at dksX10_begin_3 12 rfl rfl)
theorem dX10_begin_83 : decode cX10_begin 83 = .ok (.iconst 2, 1) := dk_5 (dk_at dksX10_begin_3 13 rfl rfl)
theorem dX10_begin_84 : decode cX10_begin 84 = .ok (.iastore, 1) := dk_79 (dk_at dksX10_begin_3 14 rfl rfl)
theorem dX10_begin_85 : decode cX10_begin 85 = .ok (.aload_n 0, 1) := dk_42 (dk_at dksX10_begin_3 15 rfl rfl)
theorem dX10_begin_86 : decode cX10_begin 86 = .ok (.getfield 65, 3) := dk_180 0 65 (dk_at dksX10_begin_3 16 rfl rfl)
theorem dX10_begin_89 : decode cX10_begin 89 = .ok (.iconst 2, 1) := dk_5 (dk_at dksX10_begin_3 19 rfl rfl)
theorem dX10_begin_90 : decode cX10_begin 90 = .ok (.bipush 9, 2) := dk_16 9 (dk_at dksX10_begin_3 20 rfl rfl)
theorem dX10_begin_92 : decode cX10_begin 92 = .ok (.iastore, 1) := dk_79 (dk_at dksX10_begin_3 22 rfl rfl)
theorem dX10_begin_93 : decode cX10_begin 93 = .ok (.return_, 1) := dk_177 (dk_at dksX10_begin_3 23 rfl rfl)
def dkwX10_take_6 : List UInt8 := [177]
abbrev dktX10_take_6 : List UInt8 := dkwX10_take_6 ++ []
def dkwX10_take_5 : List UInt8 := [180, 0, 65, 27, 46, 79, 42, 180, 0, 50, 27, 42, 180, 0, 68, 27, 46, 79, 132, 1, 1, 167, 255, 221]
abbrev dktX10_take_5 : List UInt8 := dkwX10_take_5 ++ dktX10_take_6
def dkwX10_take_4 : List UInt8 := [180, 1, 1, 181, 1, 19, 3, 60, 27, 42, 180, 1, 19, 162, 0, 33, 42, 180, 0, 47, 27, 42]
abbrev dktX10_take_4 : List UInt8 := dkwX10_take_4 ++ dktX10_take_5
def dkwX10_take_3 : List UInt8 := [162, 0, 21, 42, 180, 0, 56, 27, 42, 180, 0, 62, 27, 46, 79, 132, 1, 1, 167, 255, 236, 42, 42]
abbrev dktX10_take_3 : List UInt8 := dkwX10_take_3 ++ dktX10_take_4
def dkwX10_take_2 : List UInt8 := [42, 180, 0, 53, 27, 42, 180, 0, 59, 27, 46, 79, 132, 1, 1, 167, 255, 235, 3, 60, 27, 7]
abbrev dktX10_take_2 : List UInt8 := dkwX10_take_2 ++ dktX10_take_3
def dkwX10_take_1 : List UInt8 := [42, 42, 180, 0, 251, 181, 1, 13, 42, 42, 180, 0, 254, 181, 1, 16, 3, 60, 27, 16, 48, 162, 0, 21]
abbrev dktX10_take_1 : List UInt8 := dkwX10_take_1 ++ dktX10_take_2
def dkwX10_take_0 : List UInt8 := [42, 42, 180, 0, 242, 181, 1, 4, 42, 42, 180, 0, 245, 181, 1, 7, 42, 42, 180, 0, 248, 181, 1, 10]
abbrev dktX10_take_0 : List UInt8 := dkwX10_take_0 ++ dktX10_take_1
theorem dksX10_take_0 : cX10_take.data.toList.drop 0 = dktX10_take_0 := by decide +kernel
theorem dksX10_take_1 : cX10_take.data.toList.drop 24 = dktX10_take_1 := dk_seg dksX10_take_0 24 rfl rfl
theorem dksX10_take_2 : cX10_take.data.toList.drop 48 = dktX10_take_2 := dk_seg dksX10_take_1 24 rfl rfl
theorem dksX10_take_3 : cX10_take.data.toList.drop 70 = dktX10_take_3 := dk_seg dksX10_take_2 22 rfl rfl
theorem dksX10_take_4 : cX10_take.data.toList.drop 93 = dktX10_take_4 := dk_seg dksX10_take_3 23 rfl rfl
theorem dksX10_take_5 : cX10_take.data.toList.drop 115 = dktX10_take_5 := dk_seg dksX10_take_4 22 rfl rfl
theorem dksX10_take_6 : cX10_take.data.toList.drop 139 = dktX10_take_6 := dk_seg dksX10_take_5 24 rfl rfl
theorem dX10_take_0 : decode cX10_take 0 = .ok (.aload_n 0, 1) := dk_42 (dk_at dksX10_take_0 0 rfl rfl)
theorem dX10_take_1 : decode cX10_take 1 = .ok (.aload_n 0, 1) := dk_42 (dk_at dksX10_take_0 1 rfl rfl)
theorem dX10_take_2 : decode cX10_take 2 = .ok (.getfield 242, 3) := dk_180 0 242 (dk_at dksX10_take_0 2 rfl rfl)
theorem dX10_take_5 : decode cX10_take 5 = .ok (.putfield 260, 3) := dk_181 1 4 (dk_at dksX10_take_0 5 rfl rfl)
theorem dX10_take_8 : decode cX10_take 8 = .ok (.aload_n 0, 1) := dk_42 (dk_at dksX10_take_0 8 rfl rfl)
theorem dX10_take_9 : decode cX10_take 9 = .ok (.aload_n 0, 1) := dk_42 (dk_at dksX10_take_0 9 rfl rfl)
theorem dX10_take_10 : decode cX10_take 10 = .ok (.getfield 245, 3) := dk_180 0 245 (dk_at dksX10_take_0 10 rfl rfl)
theorem dX10_take_13 : decode cX10_take 13 = .ok (.putfield 263, 3) := dk_181 1 7 (dk_at dksX10_take_0 13 rfl rfl)
theorem dX10_take_16 : decode cX10_take 16 = .ok (.aload_n 0, 1) := dk_42 (dk_at dksX10_take_0 16 rfl rfl)
theorem dX10_take_17 : decode cX10_take 17 = .ok (.aload_n 0, 1) := dk_42 (dk_at dksX10_take_0 17 rfl rfl)
theorem dX10_take_18 : decode cX10_take 18 = .ok (.getfield 248, 3) := dk_180 0 248 (dk_at dksX10_take_0 18 rfl rfl)
theorem dX10_take_21 : decode cX10_take 21 = .ok (.putfield 266, 3) := dk_181 1 10 (dk_at dksX10_take_0 21 rfl rfl)
theorem dX10_take_24 : decode cX10_take 24 = .ok (.aload_n 0, 1) := dk_42 (dk_at dksX10_take_1 0 rfl rfl)
theorem dX10_take_25 : decode cX10_take 25 = .ok (.aload_n 0, 1) := dk_42 (dk_at dksX10_take_1 1 rfl rfl)
theorem dX10_take_26 : decode cX10_take 26 = .ok (.getfield 251, 3) := dk_180 0 251 (dk_at dksX10_take_1 2 rfl rfl)
theorem dX10_take_29 : decode cX10_take 29 = .ok (.putfield 269, 3) := dk_181 1 13 (dk_at dksX10_take_1 5 rfl rfl)
theorem dX10_take_32 : decode cX10_take 32 = .ok (.aload_n 0, 1) := dk_42 (dk_at dksX10_take_1 8 rfl rfl)
theorem dX10_take_33 : decode cX10_take 33 = .ok (.aload_n 0, 1) := dk_42 (dk_at dksX10_take_1 9 rfl rfl)
theorem dX10_take_34 : decode cX10_take 34 = .ok (.getfield 254, 3) := dk_180 0 254 (dk_at dksX10_take_1 10 rfl rfl)
theorem dX10_take_37 : decode cX10_take 37 = .ok (.putfield 272, 3) := dk_181 1 16 (dk_at dksX10_take_1 13 rfl rfl)
theorem dX10_take_40 : decode cX10_take 40 = .ok (.iconst 0, 1) := dk_3 (dk_at dksX10_take_1 16 rfl rfl)
theorem dX10_take_41 : decode cX10_take 41 = .ok (.istore_n 1, 1) := dk_60 (dk_at dksX10_take_1 17 rfl rfl)
theorem dX10_take_42 : decode cX10_take 42 = .ok (.iload_n 1, 1) := dk_27 (dk_at dksX10_take_1 18 rfl rfl)
theorem dX10_take_43 : decode cX10_take 43 = .ok (.bipush 48, 2) := dk_16 48 (dk_at dksX10_take_1 19 rfl rfl)
theorem dX10_take_45 : decode cX10_take 45 = .ok (.if_icmp .ge 21, 3) := dk_162 0 21 (dk_at dksX10_take_1 21 rfl rfl)
theorem dX10_take_48 : decode cX10_take 48 = .ok (.aload_n 0, 1) := dk_42 (dk_at dksX10_take_2 0 rfl rfl)
theorem dX10_take_49 : decode cX10_take 49 = .ok (.getfield 53, 3) := dk_180 0 53 (dk_at dksX10_take_2 1 rfl rfl)
theorem dX10_take_52 : decode cX10_take 52 = .ok (.iload_n 1, 1) := dk_27 (dk_at dksX10_take_2 4 rfl rfl)
theorem dX10_take_53 : decode cX10_take 53 = .ok (.aload_n 0, 1) := dk_42 (dk_at dksX10_take_2 5 rfl rfl)
theorem dX10_take_54 : decode cX10_take 54 = .ok (.getfield 59, 3) := dk_180 0 59 (dk_at dksX10_take_2 6 rfl rfl)
theorem dX10_take_57 : decode cX10_take 57 = .ok (.iload_n 1, 1) := dk_27 (dk_at dksX10_take_2 9 rfl rfl)
theorem dX10_take_58 : decode cX10_take 58 = .ok (.iaload, 1) := dk_46 (dk_at dksX10_take_2 10 rfl rfl)
theorem dX10_take_59 : decode cX10_take 59 = .ok (.iastore, 1) := dk_79 (dk_at dksX10_take_2 11 rfl rfl)
theorem dX10_take_60 : decode cX10_take 60 = .ok (.iinc 1 1, 3) := dk_132 1 1 (dk_at dksX10_take_2 12 rfl rfl)
theorem dX10_take_63 : decode cX10_take 63 = .ok (.goto (-21), 3) := dk_167 255 235 (dk_at dksX10_take_2 15 rfl rfl)
theorem dX10_take_66 : decode cX10_take 66 = .ok (.iconst 0, 1) := dk_3 (dk_at dksX10_take_2 18 rfl rfl)
theorem dX10_take_67 : decode cX10_take 67 = .ok (.istore_n 1, 1) := dk_60 (dk_at dksX10_take_2 19 rfl rfl)
theorem dX10_take_68 : decode cX10_take 68 = .ok (.iload_n 1, 1) := dk_27 (dk_at dksX10_take_2 20 rfl rfl)
theorem dX10_take_69 : decode cX10_take 69 = .ok (.iconst 4, 1) := dk_7 (dk_at dksX10_take_2 21 rfl rfl)
theorem dX10_take_70 : decode cX10_take 70 = .ok (.if_icmp .ge 21, 3) := dk_162 0 21 (dk_at dksX10_take_3 0 rfl rfl)
theorem dX10_take_73 : decode cX10_take 73 = .ok (.aload_n 0, 1) := dk_42 (dk_at dksX10_take_3 3 rfl rfl)
theorem dX10_take_74 : decode cX10_take 74 = .ok (.getfield 56, 3) := dk_180 0 56 (dk_at dksX10_take_3 4 rfl rfl)
theorem dX10_take_77 : decode cX10_take 77 = .ok (.iload_n 1, 1) := dk_27 (dk_at dksX10_take_3 7 rfl rfl)
theorem dX10_take_78 : decode cX10_take 78 = .ok (.aload_n 0, 1) := dk_42 (dk_at dksX10_take_3 8 rfl rfl)
theorem dX10_take_79 : decode cX10_take 79 = .ok (.getfield 62, 3) := dk_180 0 62 (dk_at dksX10_take_3 9 rfl rfl)
theorem dX10_take_82 : decode cX10_take 82 = .ok (.iload_n 1, 1) := dk_27 (dk_at dksX10_take_3 12 rfl rfl)
theorem dX10_take_83 : decode cX10_take 83 = .ok (.iaload, 1) := dk_46 (dk_at dksX10_take_3 13 rfl rfl)
theorem dX10_take_84 : decode cX10_take 84 = .ok (.iastore, 1) := dk_79 (dk_at dksX10_take_3 14 rfl rfl)
theorem dX10_take_85 : decode cX10_take 85 = .ok (.iinc 1 1, 3) := dk_132 1 1 (dk_at dksX10_take_3 15 rfl rfl)
theorem dX10_take_88 : decode cX10_take 88 = .ok (.goto (-20), 3) := dk_167 255 236 (dk_at dksX10_take_3 18 rfl rfl)
theorem dX10_take_91 : decode cX10_take 91 = .ok (.aload_n 0, 1) := dk_42 (dk_at dksX10_take_3 21 rfl rfl)
theorem dX10_take_92 : decode cX10_take 92 = .ok (.aload_n 0, 1) := dk_42 (dk_at dksX10_take_3 22 rfl rfl)
theorem dX10_take_93 : decode cX10_take 93 = .ok (.getfield 257, 3) := dk_180 1 1 (dk_at dksX10_take_4 0 rfl rfl)
theorem dX10_take_96 : decode cX10_take 96 = .ok (.putfield 275, 3) := dk_181 1 19 (dk_at dksX10_take_4 3 rfl rfl)
theorem dX10_take_99 : decode cX10_take 99 = .ok (.iconst 0, 1) := dk_3 (dk_at dksX10_take_4 6 rfl rfl)
theorem dX10_take_100 : decode cX10_take 100 = .ok (.istore_n 1, 1) := dk_60 (dk_at dksX10_take_4 7 rfl rfl)
theorem dX10_take_101 : decode cX10_take 101 = .ok (.iload_n 1, 1) := dk_27 (dk_at dksX10_take_4 8 rfl rfl)
theorem dX10_take_102 : decode cX10_take 102 = .ok (.aload_n 0, 1) := dk_42 (dk_at dksX10_take_4 9 rfl rfl)
theorem dX10_take_103 : decode cX10_take 103 = .ok (.getfield 275, 3) := dk_180 1 19 (dk_at dksX10_take_4 10 rfl rfl)
theorem dX10_take_106 : decode cX10_take 106 = .ok (.if_icmp .ge 33, 3) := dk_162 0 33 (dk_at dksX10_take_4 13 rfl rfl)
theorem dX10_take_109 : decode cX10_take 109 = .ok (.aload_n 0, 1) := dk_42 (dk_at dksX10_take_4 16 rfl rfl)
theorem dX10_take_110 : decode cX10_take 110 = .ok (.getfield 47, 3) := dk_180 0 47 (dk_at dksX10_take_4 17 rfl rfl)
theorem dX10_take_113 : decode cX10_take 113 = .ok (.iload_n 1, 1) := dk_27 (dk_at dksX10_take_4 20 rfl rfl)
theorem dX10_take_114 : decode cX10_take 114 = .ok (.aload_n 0, 1) := dk_42 (dk_at dksX10_take_4 21 rfl rfl)
theorem dX10_take_115 : decode cX10_take 115 = .ok (.getfield 65, 3) := dk_180 0 65 (dk_at dksX10_take_5 0 rfl rfl)
theorem dX10_take_118 : decode cX10_take 118 = .ok (.iload_n 1, 1) := dk_27 (dk_at dksX10_take_5 3 rfl rfl)
theorem dX10_take_119 : decode cX10_take 119 = .ok (.iaload, 1) := dk_46 (dk_at dksX10_take_5 4 rfl rfl)
theorem dX10_take_120 : decode cX10_take 120 = .ok (.iastore, 1) := dk_79 (dk_at dksX10_take_5 5 rfl rfl)
theorem dX10_take_121 : decode cX10_take 121 = .ok (.aload_n 0, 1) := dk_42 (dk_at dksX10_take_5 6 rfl rfl)
theorem dX10_take_122 : decode cX10_take 122 = .ok (.getfield 50, 3) := dk_180 0 50 (dk_at dksX10_take_5 7 rfl rfl)
theorem dX10_take_125 : decode cX10_take 125 = .ok (.iload_n 1, 1) := dk_27 (dk_at dksX10_take_5 10 rfl rfl)
theorem dX10_take_126 : decode cX10_take 126 = .ok (.aload_n 0, 1) := dk_42 (dk_at dksX10_take_5 11 rfl rfl)
theorem dX10_take_127 : decode cX10_take 127 = .ok (.getfield 68, 3) := dk_180 0 68 (dk_at dksX10_take_5 12 rfl rfl)
theorem dX10_take_130 : decode cX10_take 130 = .ok (.iload_n 1, 1) := dk_27 (dk_at dksX10_take_5 15 rfl rfl)
theorem dX10_take_131 : decode cX10_take 131 = .ok (.iaload, 1) := dk_46 (dk_at dksX10_take_5 16 rfl rfl)
theorem dX10_take_132 : decode cX10_take 132 = .ok (.iastore, 1) := dk_79 (dk_at dksX10_take_5 17 rfl rfl)
theorem dX10_take_133 : decode cX10_take 133 = .ok (.iinc 1 1, 3) := dk_132 1 1 (dk_at dksX10_take_5 18 rfl rfl)
theorem dX10_take_136 : decode cX10_take 136 = .ok (.goto (-35), 3) := dk_167 255 221 (dk_at dksX10_take_5 21 rfl rfl)
theorem dX10_take_139 : decode cX10_take 139 = .ok (.return_, 1) := dk_177 (dk_at dksX10_take_6 0 rfl rfl)
def dkwX10_land_3 : List UInt8 := [180, 0, 13, 27, 28, 79, 42, 180, 0, 23, 27, 3, 79, 29, 172]
abbrev dktX10_land_3 : List UInt8 := dkwX10_land_3 ++ []
def dkwX10_land_2 : List UInt8 := [4, 167, 0, 4, 3, 6, 182, 0, 214, 154, 0, 5, 3, 172, 42, 180, 0, 13, 27, 46, 62, 42]
abbrev dktX10_land_2 : List UInt8 := dkwX10_land_2 ++ dktX10_land_3
def dkwX10_land_1 : List UInt8 := [167, 0, 4, 3, 5, 182, 0, 214, 153, 0, 28, 42, 28, 153, 0, 11, 42, 27, 182, 0, 222, 154, 0, 7]
abbrev dktX10_land_1 : List UInt8 := dkwX10_land_1 ++ dktX10_land_2
def dkwX10_land_0 : List UInt8 := [42, 3, 181, 0, 1, 42, 27, 182, 0, 218, 153, 0, 50, 42, 28, 153, 0, 8, 28, 4, 160, 0, 7, 4]
abbrev dktX10_land_0 : List UInt8 := dkwX10_land_0 ++ dktX10_land_1
theorem dksX10_land_0 : cX10_land.data.toList.drop 0 = dktX10_land_0 := by decide +kernel
theorem dksX10_land_1 : cX10_land.data.toList.drop 24 = dktX10_land_1 := dk_seg dksX10_land_0 24 rfl rfl
theorem dksX10_land_2 : cX10_land.data.toList.drop 48 = dktX10_land_2 := dk_seg dksX10_land_1 24 rfl rfl
theorem dksX10_land_3 : cX10_land.data.toList.drop 70 = dktX10_land_3 := dk_seg dksX10_land_2 22 rfl rfl
theorem dX10_land_0 : decode cX10_land 0 = .ok (.aload_n 0, 1) := dk_42 (dk_at dksX10_land_0 0 rfl rfl)
theorem dX10_land_1 : decode cX10_land 1 = .ok (.iconst 0, 1) := dk_3 (dk_at dksX10_land_0 1 rfl rfl)
theorem dX10_land_2 : decode cX10_land 2 = .ok (.putfield 1, 3) := dk_181 0 1 (dk_at dksX10_land_0 2 rfl rfl)
theorem dX10_land_5 : decode cX10_land 5 = .ok (.aload_n 0, 1) := dk_42 (dk_at dksX10_land_0 5 rfl rfl)
theorem dX10_land_6 : decode cX10_land 6 = .ok (.iload_n 1, 1) := dk_27 (dk_at dksX10_land_0 6 rfl rfl)
theorem dX10_land_7 : decode cX10_land 7 = .ok (.invokevirtual 218, 3) := dk_182 0 218 (dk_at dksX10_land_0 7 rfl rfl)
theorem dX10_land_10 : decode cX10_land 10 = .ok (.ifCond .eq 50, 3) := dk_153 0 50 (dk_at dksX10_land_0 10 rfl rfl)
theorem dX10_land_13 : decode cX10_land 13 = .ok (.aload_n 0, 1) := dk_42 (dk_at dksX10_land_0 13 rfl rfl)
theorem dX10_land_14 : decode cX10_land 14 = .ok (.iload_n 2, 1) := dk_28 (dk_at dksX10_land_0 14 rfl rfl)
theorem dX10_land_15 : decode cX10_land 15 = .ok (.ifCond .eq 8, 3) := dk_153 0 8 (dk_at dksX10_land_0 15 rfl rfl)
theorem dX10_land_18 : decode cX10_land 18 = .ok (.iload_n 2, 1) := dk_28 (dk_at dksX10_land_0 18 rfl rfl)
theorem dX10_land_19 : decode cX10_land 19 = .ok (.iconst 1, 1) := dk_4 (dk_at dksX10_land_0 19 rfl rfl)
theorem dX10_land_20 : decode cX10_land 20 = .ok (.if_icmp .ne 7, 3) := dk_160 0 7 (dk_at dksX10_land_0 20 rfl rfl)
theorem dX10_land_23 : decode cX10_land 23 = .ok (.iconst 1, 1) := dk_4 (dk_at dksX10_land_0 23 rfl rfl)
theorem dX10_land_24 : decode cX10_land 24 = .ok (.goto 4, 3) := dk_167 0 4 (dk_at dksX10_land_1 0 rfl rfl)
theorem dX10_land_27 : decode cX10_land 27 = .ok (.iconst 0, 1) := dk_3 (dk_at dksX10_land_1 3 rfl rfl)
theorem dX10_land_28 : decode cX10_land 28 = .ok (.iconst 2, 1) := dk_5 (dk_at dksX10_land_1 4 rfl rfl)
theorem dX10_land_29 : decode cX10_land 29 = .ok (.invokevirtual 214, 3) := dk_182 0 214 (dk_at dksX10_land_1 5 rfl rfl)
theorem dX10_land_32 : decode cX10_land 32 = .ok (.ifCond .eq 28, 3) := dk_153 0 28 (dk_at dksX10_land_1 8 rfl rfl)
theorem dX10_land_35 : decode cX10_land 35 = .ok (.aload_n 0, 1) := dk_42 (dk_at dksX10_land_1 11 rfl rfl)
theorem dX10_land_36 : decode cX10_land 36 = .ok (.iload_n 2, 1) := dk_28 (dk_at dksX10_land_1 12 rfl rfl)
theorem dX10_land_37 : decode cX10_land 37 = .ok (.ifCond .eq 11, 3) := dk_153 0 11 (dk_at dksX10_land_1 13 rfl rfl)
theorem dX10_land_40 : decode cX10_land 40 = .ok (.aload_n 0, 1) := dk_42 (dk_at dksX10_land_1 16 rfl rfl)
theorem dX10_land_41 : decode cX10_land 41 = .ok (.iload_n 1, 1) := dk_27 (dk_at dksX10_land_1 17 rfl rfl)
theorem dX10_land_42 : decode cX10_land 42 = .ok (.invokevirtual 222, 3) := dk_182 0 222 (dk_at dksX10_land_1 18 rfl rfl)
theorem dX10_land_45 : decode cX10_land 45 = .ok (.ifCond .ne 7, 3) := dk_154 0 7 (dk_at dksX10_land_1 21 rfl rfl)
theorem dX10_land_48 : decode cX10_land 48 = .ok (.iconst 1, 1) := dk_4 (dk_at dksX10_land_2 0 rfl rfl)
theorem dX10_land_49 : decode cX10_land 49 = .ok (.goto 4, 3) := dk_167 0 4 (dk_at dksX10_land_2 1 rfl rfl)
theorem dX10_land_52 : decode cX10_land 52 = .ok (.iconst 0, 1) := dk_3 (dk_at dksX10_land_2 4 rfl rfl)
theorem dX10_land_53 : decode cX10_land 53 = .ok (.iconst 3, 1) := dk_6 (dk_at dksX10_land_2 5 rfl rfl)
theorem dX10_land_54 : decode cX10_land 54 = .ok (.invokevirtual 214, 3) := dk_182 0 214 (dk_at dksX10_land_2 6 rfl rfl)
theorem dX10_land_57 : decode cX10_land 57 = .ok (.ifCond .ne 5, 3) := dk_154 0 5 (dk_at dksX10_land_2 9 rfl rfl)
theorem dX10_land_60 : decode cX10_land 60 = .ok (.iconst 0, 1) := dk_3 (dk_at dksX10_land_2 12 rfl rfl)
theorem dX10_land_61 : decode cX10_land 61 = .ok (.ireturn, 1) := dk_172 (dk_at dksX10_land_2 13 rfl rfl)
theorem dX10_land_62 : decode cX10_land 62 = .ok (.aload_n 0, 1) := dk_42 (dk_at dksX10_land_2 14 rfl rfl)
theorem dX10_land_63 : decode cX10_land 63 = .ok (.getfield 13, 3) := dk_180 0 13 (dk_at dksX10_land_2 15 rfl rfl)
theorem dX10_land_66 : decode cX10_land 66 = .ok (.iload_n 1, 1) := dk_27 (dk_at dksX10_land_2 18 rfl rfl)
theorem dX10_land_67 : decode cX10_land 67 = .ok (.iaload, 1) := dk_46 (dk_at dksX10_land_2 19 rfl rfl)
theorem dX10_land_68 : decode cX10_land 68 = .ok (.istore_n 3, 1) := dk_62 (dk_at dksX10_land_2 20 rfl rfl)
theorem dX10_land_69 : decode cX10_land 69 = .ok (.aload_n 0, 1) := dk_42 (dk_at dksX10_land_2 21 rfl rfl)
theorem dX10_land_70 : decode cX10_land 70 = .ok (.getfield 13, 3) := dk_180 0 13 (dk_at dksX10_land_3 0 rfl rfl)
theorem dX10_land_73 : decode cX10_land 73 = .ok (.iload_n 1, 1) := dk_27 (dk_at dksX10_land_3 3 rfl rfl)
theorem dX10_land_74 : decode cX10_land 74 = .ok (.iload_n 2, 1) := dk_28 (dk_at dksX10_land_3 4 rfl rfl)
theorem dX10_land_75 : decode cX10_land 75 = .ok (.iastore, 1) := dk_79 (dk_at dksX10_land_3 5 rfl rfl)
theorem dX10_land_76 : decode cX10_land 76 = .ok (.aload_n 0, 1) := dk_42 (dk_at dksX10_land_3 6 rfl rfl)
theorem dX10_land_77 : decode cX10_land 77 = .ok (.getfield 23, 3) := dk_180 0 23 (dk_at dksX10_land_3 7 rfl rfl)
theorem dX10_land_80 : decode cX10_land 80 = .ok (.iload_n 1, 1) := dk_27 (dk_at dksX10_land_3 10 rfl rfl)
theorem dX10_land_81 : decode cX10_land 81 = .ok (.iconst 0, 1) := dk_3 (dk_at dksX10_land_3 11 rfl rfl)
theorem dX10_land_82 : decode cX10_land 82 = .ok (.iastore, 1) := dk_79 (dk_at dksX10_land_3 12 rfl rfl)
theorem dX10_land_83 : decode cX10_land 83 = .ok (.iload_n 3, 1) := dk_29 (dk_at dksX10_land_3 13 rfl rfl)
theorem dX10_land_84 : decode cX10_land 84 = .ok (.ireturn, 1) := dk_172 (dk_at dksX10_land_3 14 rfl rfl)
def dkwX10_isCell_0 : List UInt8 := [42, 27, 3, 16, 63, 184, 0, 210, 4, 182, 0, 214, 172]
abbrev dktX10_isCell_0 : List UInt8 := dkwX10_isCell_0 ++ []
theorem dksX10_isCell_0 : cX10_isCell.data.toList.drop 0 = dktX10_isCell_0 := by decide +kernel
theorem dX10_isCell_0 : decode cX10_isCell 0 = .ok (.aload_n 0, 1) := dk_42 (dk_at dksX10_isCell_0 0 rfl rfl)
theorem dX10_isCell_1 : decode cX10_isCell 1 = .ok (.iload_n 1, 1) := dk_27 (dk_at dksX10_isCell_0 1 rfl rfl)
theorem dX10_isCell_2 : decode cX10_isCell 2 = .ok (.iconst 0, 1) := dk_3 (dk_at dksX10_isCell_0 2 rfl rfl)
theorem dX10_isCell_3 : decode cX10_isCell 3 = .ok (.bipush 63, 2) := dk_16 63 (dk_at dksX10_isCell_0 3 rfl rfl)
theorem dX10_isCell_5 : decode cX10_isCell 5 = .ok (.invokestatic 210, 3) := dk_184 0 210 (dk_at dksX10_isCell_0 5 rfl rfl)
theorem dX10_isCell_8 : decode cX10_isCell 8 = .ok (.iconst 1, 1) := dk_4 (dk_at dksX10_isCell_0 8 rfl rfl)
theorem dX10_isCell_9 : decode cX10_isCell 9 = .ok (.invokevirtual 214, 3) := dk_182 0 214 (dk_at dksX10_isCell_0 9 rfl rfl)
theorem dX10_isCell_12 : decode cX10_isCell 12 = .ok (.ireturn, 1) := dk_172 (dk_at dksX10_isCell_0 12 rfl rfl)
def dkwX10_within_0 : List UInt8 := [26, 27, 161, 0, 12, 26, 28, 163, 0, 7, 4, 167, 0, 4, 3, 172]
abbrev dktX10_within_0 : List UInt8 := dkwX10_within_0 ++ []
theorem dksX10_within_0 : cX10_within.data.toList.drop 0 = dktX10_within_0 := by decide +kernel
theorem dX10_within_0 : decode cX10_within 0 = .ok (.iload_n 0, 1) := dk_26 (dk_at dksX10_within_0 0 rfl rfl)
theorem dX10_within_1 : decode cX10_within 1 = .ok (.iload_n 1, 1) := dk_27 (dk_at dksX10_within_0 1 rfl rfl)
theorem dX10_within_2 : decode cX10_within 2 = .ok (.if_icmp .lt 12, 3) := dk_161 0 12 (dk_at dksX10_within_0 2 rfl rfl)
theorem dX10_within_5 : decode cX10_within 5 = .ok (.iload_n 0, 1) := dk_26 (dk_at dksX10_within_0 5 rfl rfl)
theorem dX10_within_6 : decode cX10_within 6 = .ok (.iload_n 2, 1) := dk_28 (dk_at dksX10_within_0 6 rfl rfl)
theorem dX10_within_7 : decode cX10_within 7 = .ok (.if_icmp .gt 7, 3) := dk_163 0 7 (dk_at dksX10_within_0 7 rfl rfl)
theorem dX10_within_10 : decode cX10_within 10 = .ok (.iconst 1, 1) := dk_4 (dk_at dksX10_within_0 10 rfl rfl)
theorem dX10_within_11 : decode cX10_within 11 = .ok (.goto 4, 3) := dk_167 0 4 (dk_at dksX10_within_0 11 rfl rfl)
theorem dX10_within_14 : decode cX10_within 14 = .ok (.iconst 0, 1) := dk_3 (dk_at dksX10_within_0 14 rfl rfl)
theorem dX10_within_15 : decode cX10_within 15 = .ok (.ireturn, 1) := dk_172 (dk_at dksX10_within_0 15 rfl rfl)
def dkwX10_may_1 : List UInt8 := [167, 0, 4, 3, 172]
abbrev dktX10_may_1 : List UInt8 := dkwX10_may_1 ++ []
def dkwX10_may_0 : List UInt8 := [27, 154, 0, 15, 42, 180, 0, 1, 154, 0, 8, 42, 28, 181, 0, 1, 42, 180, 0, 1, 154, 0, 7, 4]
abbrev dktX10_may_0 : List UInt8 := dkwX10_may_0 ++ dktX10_may_1
theorem dksX10_may_0 : cX10_may.data.toList.drop 0 = dktX10_may_0 := by decide +kernel
theorem dksX10_may_1 : cX10_may.data.toList.drop 24 = dktX10_may_1 := dk_seg dksX10_may_0 24 rfl rfl
theorem dX10_may_0 : decode cX10_may 0 = .ok (.iload_n 1, 1) := dk_27 (dk_at dksX10_may_0 0 rfl rfl)
theorem dX10_may_1 : decode cX10_may 1 = .ok (.ifCond .ne 15, 3) := dk_154 0 15 (dk_at dksX10_may_0 1 rfl rfl)
theorem dX10_may_4 : decode cX10_may 4 = .ok (.aload_n 0, 1) := dk_42 (dk_at dksX10_may_0 4 rfl rfl)
theorem dX10_may_5 : decode cX10_may 5 = .ok (.getfield 1, 3) := dk_180 0 1 (dk_at dksX10_may_0 5 rfl rfl)
theorem dX10_may_8 : decode cX10_may 8 = .ok (.ifCond .ne 8, 3) := dk_154 0 8 (dk_at dksX10_may_0 8 rfl rfl)
theorem dX10_may_11 : decode cX10_may 11 = .ok (.aload_n 0, 1) := dk_42 (dk_at dksX10_may_0 11 rfl rfl)
theorem dX10_may_12 : decode cX10_may 12 = .ok (.iload_n 2, 1) := dk_28 (dk_at dksX10_may_0 12 rfl rfl)
theorem dX10_may_13 : decode cX10_may 13 = .ok (.putfield 1, 3) := dk_181 0 1 (dk_at dksX10_may_0 13 rfl rfl)
theorem dX10_may_16 : decode cX10_may 16 = .ok (.aload_n 0, 1) := dk_42 (dk_at dksX10_may_0 16 rfl rfl)
theorem dX10_may_17 : decode cX10_may 17 = .ok (.getfield 1, 3) := dk_180 0 1 (dk_at dksX10_may_0 17 rfl rfl)
theorem dX10_may_20 : decode cX10_may 20 = .ok (.ifCond .ne 7, 3) := dk_154 0 7 (dk_at dksX10_may_0 20 rfl rfl)
theorem dX10_may_23 : decode cX10_may 23 = .ok (.iconst 1, 1) := dk_4 (dk_at dksX10_may_0 23 rfl rfl)
theorem dX10_may_24 : decode cX10_may 24 = .ok (.goto 4, 3) := dk_167 0 4 (dk_at dksX10_may_1 0 rfl rfl)
theorem dX10_may_27 : decode cX10_may 27 = .ok (.iconst 0, 1) := dk_3 (dk_at dksX10_may_1 3 rfl rfl)
theorem dX10_may_28 : decode cX10_may 28 = .ok (.ireturn, 1) := dk_172 (dk_at dksX10_may_1 4 rfl rfl)
def dkwX10_isTaken_2 : List UInt8 := [160, 0, 5, 4, 172, 132, 3, 1, 167, 255, 226, 132, 2, 1, 167, 255, 198, 3, 172]
abbrev dktX10_isTaken_2 : List UInt8 := dkwX10_isTaken_2 ++ []
def dkwX10_isTaken_1 : List UInt8 := [29, 42, 180, 0, 156, 28, 46, 162, 0, 26, 42, 180, 0, 162, 16, 20, 28, 104, 29, 96, 46, 27]
abbrev dktX10_isTaken_1 : List UInt8 := dkwX10_isTaken_1 ++ dktX10_isTaken_2
def dkwX10_isTaken_0 : List UInt8 := [3, 61, 28, 42, 180, 0, 225, 162, 0, 56, 42, 180, 0, 71, 28, 46, 27, 160, 0, 5, 4, 172, 3, 62]
abbrev dktX10_isTaken_0 : List UInt8 := dkwX10_isTaken_0 ++ dktX10_isTaken_1
theorem dksX10_isTaken_0 : cX10_isTaken.data.toList.drop 0 = dktX10_isTaken_0 := by decide +kernel
theorem dksX10_isTaken_1 : cX10_isTaken.data.toList.drop 24 = dktX10_isTaken_1 := dk_seg dksX10_isTaken_0 24 rfl rfl
theorem dksX10_isTaken_2 : cX10_isTaken.data.toList.drop 46 = dktX10_isTaken_2 := dk_seg dksX10_isTaken_1 22 rfl rfl
theorem dX10_isTaken_0 : decode cX10_isTaken 0 = .ok (.iconst 0, 1) := dk_3 (dk_at dksX10_isTaken_0 0 rfl rfl)
theorem dX10_isTaken_1 : decode cX10_isTaken 1 = .ok (.istore_n 2, 1) := dk_61 (dk_at dksX10_isTaken_0 1 rfl rfl)
theorem dX10_isTaken_2 : decode cX10_isTaken 2 = .ok (.iload_n 2, 1) := dk_28 (dk_at dksX10_isTaken_0 2 rfl rfl)
theorem dX10_isTaken_3 : decode cX10_isTaken 3 = .ok (.aload_n 0, 1) := dk_42 (dk_at dksX10_isTaken_0 3 rfl rfl)
theorem dX10_isTaken_4 : decode cX10_isTaken 4 = .ok (.getfield 225, 3) := dk_180 0 225 (dk_at dksX10_isTaken_0 4 rfl rfl)
theorem dX10_isTaken_7 : decode cX10_isTaken 7 = .ok (.if_icmp .ge 56, 3) := dk_162 0 56 (dk_at dksX10_isTaken_0 7 rfl rfl)
theorem dX10_isTaken_10 : decode cX10_isTaken 10 = .ok (.aload_n 0, 1) := dk_42 (dk_at dksX10_isTaken_0 10 rfl rfl)
theorem dX10_isTaken_11 : decode cX10_isTaken 11 = .ok (.getfield 71, 3) := dk_180 0 71 (dk_at dksX10_isTaken_0 11 rfl rfl)
theorem dX10_isTaken_14 : decode cX10_isTaken 14 = .ok (.iload_n 2, 1) := dk_28 (dk_at dksX10_isTaken_0 14 rfl rfl)
theorem dX10_isTaken_15 : decode cX10_isTaken 15 = .ok (.iaload, 1) := dk_46 (dk_at dksX10_isTaken_0 15 rfl rfl)
theorem dX10_isTaken_16 : decode cX10_isTaken 16 = .ok (.iload_n 1, 1) := dk_27 (dk_at dksX10_isTaken_0 16 rfl rfl)
theorem dX10_isTaken_17 : decode cX10_isTaken 17 = .ok (.if_icmp .ne 5, 3) := dk_160 0 5 (dk_at dksX10_isTaken_0 17 rfl rfl)
theorem dX10_isTaken_20 : decode cX10_isTaken 20 = .ok (.iconst 1, 1) := dk_4 (dk_at dksX10_isTaken_0 20 rfl rfl)
theorem dX10_isTaken_21 : decode cX10_isTaken 21 = .ok (.ireturn, 1) := dk_172 (dk_at dksX10_isTaken_0 21 rfl rfl)
theorem dX10_isTaken_22 : decode cX10_isTaken 22 = .ok (.iconst 0, 1) := dk_3 (dk_at dksX10_isTaken_0 22 rfl rfl)
theorem dX10_isTaken_23 : decode cX10_isTaken 23 = .ok (.istore_n 3, 1) := dk_62 (dk_at dksX10_isTaken_0 23 rfl rfl)
theorem dX10_isTaken_24 : decode cX10_isTaken 24 = .ok (.iload_n 3, 1) := dk_29 (dk_at dksX10_isTaken_1 0 rfl rfl)
theorem dX10_isTaken_25 : decode cX10_isTaken 25 = .ok (.aload_n 0, 1) := dk_42 (dk_at dksX10_isTaken_1 1 rfl rfl)
theorem dX10_isTaken_26 : decode cX10_isTaken 26 = .ok (.getfield 156, 3) := dk_180 0 156 (dk_at dksX10_isTaken_1 2 rfl rfl)
theorem dX10_isTaken_29 : decode cX10_isTaken 29 = .ok (.iload_n 2, 1) := dk_28 (dk_at dksX10_isTaken_1 5 rfl rfl)
theorem dX10_isTaken_30 : decode cX10_isTaken 30 = .ok (.iaload, 1) := dk_46 (dk_at dksX10_isTaken_1 6 rfl rfl)
theorem dX10_isTaken_31 : decode cX10_isTaken 31 = .ok (.if_icmp .ge 26, 3) := dk_162 0 26 (dk_at dksX10_isTaken_1 7 rfl rfl)
theorem dX10_isTaken_34 : decode cX10_isTaken 34 = .ok (.aload_n 0, 1) := dk_42 (dk_at dksX10_isTaken_1 10 rfl rfl)
theorem dX10_isTaken_35 : decode cX10_isTaken 35 = .ok (.getfield 162, 3) := dk_180 0 162 (dk_at dksX10_isTaken_1 11 rfl rfl)
theorem dX10_isTaken_38 : decode cX10_isTaken 38 = .ok (.bipush 20, 2) := dk_16 20 (dk_at dksX10_isTaken_1 14 rfl rfl)
theorem dX10_isTaken_40 : decode cX10_isTaken 40 = .ok (.iload_n 2, 1) := dk_28 (dk_at dksX10_isTaken_1 16 rfl rfl)
theorem dX10_isTaken_41 : decode cX10_isTaken 41 = .ok (.imul, 1) := dk_104 (dk_at dksX10_isTaken_1 17 rfl rfl)
theorem dX10_isTaken_42 : decode cX10_isTaken 42 = .ok (.iload_n 3, 1) := dk_29 (dk_at dksX10_isTaken_1 18 rfl rfl)
theorem dX10_isTaken_43 : decode cX10_isTaken 43 = .ok (.iadd, 1) := dk_96 (dk_at dksX10_isTaken_1 19 rfl rfl)
theorem dX10_isTaken_44 : decode cX10_isTaken 44 = .ok (.iaload, 1) := dk_46 (dk_at dksX10_isTaken_1 20 rfl rfl)
theorem dX10_isTaken_45 : decode cX10_isTaken 45 = .ok (.iload_n 1, 1) := dk_27 (dk_at dksX10_isTaken_1 21 rfl rfl)
theorem dX10_isTaken_46 : decode cX10_isTaken 46 = .ok (.if_icmp .ne 5, 3) := dk_160 0 5 (dk_at dksX10_isTaken_2 0 rfl rfl)
theorem dX10_isTaken_49 : decode cX10_isTaken 49 = .ok (.iconst 1, 1) := dk_4 (dk_at dksX10_isTaken_2 3 rfl rfl)
theorem dX10_isTaken_50 : decode cX10_isTaken 50 = .ok (.ireturn, 1) := dk_172 (dk_at dksX10_isTaken_2 4 rfl rfl)
theorem dX10_isTaken_51 : decode cX10_isTaken 51 = .ok (.iinc 3 1, 3) := dk_132 3 1 (dk_at dksX10_isTaken_2 5 rfl rfl)
theorem dX10_isTaken_54 : decode cX10_isTaken 54 = .ok (.goto (-30), 3) := dk_167 255 226 (dk_at dksX10_isTaken_2 8 rfl rfl)
theorem dX10_isTaken_57 : decode cX10_isTaken 57 = .ok (.iinc 2 1, 3) := dk_132 2 1 (dk_at dksX10_isTaken_2 11 rfl rfl)
theorem dX10_isTaken_60 : decode cX10_isTaken 60 = .ok (.goto (-58), 3) := dk_167 255 198 (dk_at dksX10_isTaken_2 14 rfl rfl)
theorem dX10_isTaken_63 : decode cX10_isTaken 63 = .ok (.iconst 0, 1) := dk_3 (dk_at dksX10_isTaken_2 17 rfl rfl)
theorem dX10_isTaken_64 : decode cX10_isTaken 64 = .ok (.ireturn, 1) := dk_172 (dk_at dksX10_isTaken_2 18 rfl rfl)
def dkwX10_field_4 : List UInt8 := [27, 21, 4, 79, 21, 5, 172]
abbrev dktX10_field_4 : List UInt8 := dkwX10_field_4 ++ []
def dkwX10_field_3 : List UInt8 := [180, 0, 13, 27, 5, 79, 42, 180, 0, 17, 27, 28, 79, 42, 180, 0, 20, 27, 29, 79, 42, 180, 0, 23]
abbrev dktX10_field_3 : List UInt8 := dkwX10_field_3 ++ dktX10_field_4
def dkwX10_field_2 : List UInt8 := [167, 0, 4, 3, 5, 182, 0, 214, 154, 0, 5, 3, 172, 42, 180, 0, 13, 27, 46, 54, 5, 42]
abbrev dktX10_field_2 : List UInt8 := dkwX10_field_2 ++ dktX10_field_3
def dkwX10_field_1 : List UInt8 := [29, 3, 6, 184, 0, 210, 153, 0, 19, 21, 4, 3, 17, 3, 232, 184, 0, 210, 153, 0, 7, 4]
abbrev dktX10_field_1 : List UInt8 := dkwX10_field_1 ++ dktX10_field_2
def dkwX10_field_0 : List UInt8 := [42, 3, 181, 0, 1, 42, 27, 182, 0, 218, 153, 0, 47, 42, 28, 3, 16, 9, 184, 0, 210, 153, 0, 28]
abbrev dktX10_field_0 : List UInt8 := dkwX10_field_0 ++ dktX10_field_1
theorem dksX10_field_0 : cX10_field.data.toList.drop 0 = dktX10_field_0 := by decide +kernel
theorem dksX10_field_1 : cX10_field.data.toList.drop 24 = dktX10_field_1 := dk_seg dksX10_field_0 24 rfl rfl
theorem dksX10_field_2 : cX10_field.data.toList.drop 46 = dktX10_field_2 := dk_seg dksX10_field_1 22 rfl rfl
theorem dksX10_field_3 : cX10_field.data.toList.drop 68 = dktX10_field_3 := dk_seg dksX10_field_2 22 rfl rfl
theorem dksX10_field_4 : cX10_field.data.toList.drop 92 = dktX10_field_4 := dk_seg dksX10_field_3 24 rfl rfl
theorem dX10_field_0 : decode cX10_field 0 = .ok (.aload_n 0, 1) := dk_42 (dk_at dksX10_field_0 0 rfl rfl)
theorem dX10_field_1 : decode cX10_field 1 = .ok (.iconst 0, 1) := dk_3 (dk_at dksX10_field_0 1 rfl rfl)
theorem dX10_field_2 : decode cX10_field 2 = .ok (.putfield 1, 3) := dk_181 0 1 (dk_at dksX10_field_0 2 rfl rfl)
theorem dX10_field_5 : decode cX10_field 5 = .ok (.aload_n 0, 1) := dk_42 (dk_at dksX10_field_0 5 rfl rfl)
theorem dX10_field_6 : decode cX10_field 6 = .ok (.iload_n 1, 1) := dk_27 (dk_at dksX10_field_0 6 rfl rfl)
theorem dX10_field_7 : decode cX10_field 7 = .ok (.invokevirtual 218, 3) := dk_182 0 218 (dk_at dksX10_field_0 7 rfl rfl)
theorem dX10_field_10 : decode cX10_field 10 = .ok (.ifCond .eq 47, 3) := dk_153 0 47 (dk_at dksX10_field_0 10 rfl rfl)
theorem dX10_field_13 : decode cX10_field 13 = .ok (.aload_n 0, 1) := dk_42 (dk_at dksX10_field_0 13 rfl rfl)
theorem dX10_field_14 : decode cX10_field 14 = .ok (.iload_n 2, 1) := dk_28 (dk_at dksX10_field_0 14 rfl rfl)
theorem dX10_field_15 : decode cX10_field 15 = .ok (.iconst 0, 1) := dk_3 (dk_at dksX10_field_0 15 rfl rfl)
theorem dX10_field_16 : decode cX10_field 16 = .ok (.bipush 9, 2) := dk_16 9 (dk_at dksX10_field_0 16 rfl rfl)
theorem dX10_field_18 : decode cX10_field 18 = .ok (.invokestatic 210, 3) := dk_184 0 210 (dk_at dksX10_field_0 18 rfl rfl)
theorem dX10_field_21 : decode cX10_field 21 = .ok (.ifCond .eq 28, 3) := dk_153 0 28 (dk_at dksX10_field_0 21 rfl rfl)
theorem dX10_field_24 : decode cX10_field 24 = .ok (.iload_n 3, 1) := dk_29 (dk_at dksX10_field_1 0 rfl rfl)
theorem dX10_field_25 : decode cX10_field 25 = .ok (.iconst 0, 1) := dk_3 (dk_at dksX10_field_1 1 rfl rfl)
theorem dX10_field_26 : decode cX10_field 26 = .ok (.iconst 3, 1) := dk_6 (dk_at dksX10_field_1 2 rfl rfl)
theorem dX10_field_27 : decode cX10_field 27 = .ok (.invokestatic 210, 3) := dk_184 0 210 (dk_at dksX10_field_1 3 rfl rfl)
theorem dX10_field_30 : decode cX10_field 30 = .ok (.ifCond .eq 19, 3) := dk_153 0 19 (dk_at dksX10_field_1 6 rfl rfl)
theorem dX10_field_33 : decode cX10_field 33 = .ok (.iload 4, 2) := dk_21 4 (dk_at dksX10_field_1 9 rfl rfl)
theorem dX10_field_35 : decode cX10_field 35 = .ok (.iconst 0, 1) := dk_3 (dk_at dksX10_field_1 11 rfl rfl)
theorem dX10_field_36 : decode cX10_field 36 = .ok (.sipush 1000, 3) := dk_17 3 232 (dk_at dksX10_field_1 12 rfl rfl)
theorem dX10_field_39 : decode cX10_field 39 = .ok (.invokestatic 210, 3) := dk_184 0 210 (dk_at dksX10_field_1 15 rfl rfl)
theorem dX10_field_42 : decode cX10_field 42 = .ok (.ifCond .eq 7, 3) := dk_153 0 7 (dk_at dksX10_field_1 18 rfl rfl)
theorem dX10_field_45 : decode cX10_field 45 = .ok (.iconst 1, 1) := dk_4 (dk_at dksX10_field_1 21 rfl rfl)
theorem dX10_field_46 : decode cX10_field 46 = .ok (.goto 4, 3) := dk_167 0 4 (dk_at dksX10_field_2 0 rfl rfl)
theorem dX10_field_49 : decode cX10_field 49 = .ok (.iconst 0, 1) := dk_3 (dk_at dksX10_field_2 3 rfl rfl)
theorem dX10_field_50 : decode cX10_field 50 = .ok (.iconst 2, 1) := dk_5 (dk_at dksX10_field_2 4 rfl rfl)
theorem dX10_field_51 : decode cX10_field 51 = .ok (.invokevirtual 214, 3) := dk_182 0 214 (dk_at dksX10_field_2 5 rfl rfl)
theorem dX10_field_54 : decode cX10_field 54 = .ok (.ifCond .ne 5, 3) := dk_154 0 5 (dk_at dksX10_field_2 8 rfl rfl)
theorem dX10_field_57 : decode cX10_field 57 = .ok (.iconst 0, 1) := dk_3 (dk_at dksX10_field_2 11 rfl rfl)
theorem dX10_field_58 : decode cX10_field 58 = .ok (.ireturn, 1) := dk_172 (dk_at dksX10_field_2 12 rfl rfl)
theorem dX10_field_59 : decode cX10_field 59 = .ok (.aload_n 0, 1) := dk_42 (dk_at dksX10_field_2 13 rfl rfl)
theorem dX10_field_60 : decode cX10_field 60 = .ok (.getfield 13, 3) := dk_180 0 13 (dk_at dksX10_field_2 14 rfl rfl)
theorem dX10_field_63 : decode cX10_field 63 = .ok (.iload_n 1, 1) := dk_27 (dk_at dksX10_field_2 17 rfl rfl)
theorem dX10_field_64 : decode cX10_field 64 = .ok (.iaload, 1) := dk_46 (dk_at dksX10_field_2 18 rfl rfl)
theorem dX10_field_65 : decode cX10_field 65 = .ok (.istore 5, 2) := dk_54 5 (dk_at dksX10_field_2 19 rfl rfl)
theorem dX10_field_67 : decode cX10_field 67 = .ok (.aload_n 0, 1) := dk_42 (dk_at dksX10_field_2 21 rfl rfl)
theorem dX10_field_68 : decode cX10_field 68 = .ok (.getfield 13, 3) := dk_180 0 13 (dk_at dksX10_field_3 0 rfl rfl)
theorem dX10_field_71 : decode cX10_field 71 = .ok (.iload_n 1, 1) := dk_27 (dk_at dksX10_field_3 3 rfl rfl)
theorem dX10_field_72 : decode cX10_field 72 = .ok (.iconst 2, 1) := dk_5 (dk_at dksX10_field_3 4 rfl rfl)
theorem dX10_field_73 : decode cX10_field 73 = .ok (.iastore, 1) := dk_79 (dk_at dksX10_field_3 5 rfl rfl)
theorem dX10_field_74 : decode cX10_field 74 = .ok (.aload_n 0, 1) := dk_42 (dk_at dksX10_field_3 6 rfl rfl)
theorem dX10_field_75 : decode cX10_field 75 = .ok (.getfield 17, 3) := dk_180 0 17 (dk_at dksX10_field_3 7 rfl rfl)
theorem dX10_field_78 : decode cX10_field 78 = .ok (.iload_n 1, 1) := dk_27 (dk_at dksX10_field_3 10 rfl rfl)
theorem dX10_field_79 : decode cX10_field 79 = .ok (.iload_n 2, 1) := dk_28 (dk_at dksX10_field_3 11 rfl rfl)
theorem dX10_field_80 : decode cX10_field 80 = .ok (.iastore, 1) := dk_79 (dk_at dksX10_field_3 12 rfl rfl)
theorem dX10_field_81 : decode cX10_field 81 = .ok (.aload_n 0, 1) := dk_42 (dk_at dksX10_field_3 13 rfl rfl)
theorem dX10_field_82 : decode cX10_field 82 = .ok (.getfield 20, 3) := dk_180 0 20 (dk_at dksX10_field_3 14 rfl rfl)
theorem dX10_field_85 : decode cX10_field 85 = .ok (.iload_n 1, 1) := dk_27 (dk_at dksX10_field_3 17 rfl rfl)
theorem dX10_field_86 : decode cX10_field 86 = .ok (.iload_n 3, 1) := dk_29 (dk_at dksX10_field_3 18 rfl rfl)
theorem dX10_field_87 : decode cX10_field 87 = .ok (.iastore, 1) := dk_79 (dk_at dksX10_field_3 19 rfl rfl)
theorem dX10_field_88 : decode cX10_field 88 = .ok (.aload_n 0, 1) := dk_42 (dk_at dksX10_field_3 20 rfl rfl)
theorem dX10_field_89 : decode cX10_field 89 = .ok (.getfield 23, 3) := dk_180 0 23 (dk_at dksX10_field_3 21 rfl rfl)
theorem dX10_field_92 : decode cX10_field 92 = .ok (.iload_n 1, 1) := dk_27 (dk_at dksX10_field_4 0 rfl rfl)
theorem dX10_field_93 : decode cX10_field 93 = .ok (.iload 4, 2) := dk_21 4 (dk_at dksX10_field_4 1 rfl rfl)
theorem dX10_field_95 : decode cX10_field 95 = .ok (.iastore, 1) := dk_79 (dk_at dksX10_field_4 3 rfl rfl)
theorem dX10_field_96 : decode cX10_field 96 = .ok (.iload 5, 2) := dk_21 5 (dk_at dksX10_field_4 4 rfl rfl)
theorem dX10_field_98 : decode cX10_field 98 = .ok (.ireturn, 1) := dk_172 (dk_at dksX10_field_4 6 rfl rfl)
def dkwX10_stalks_1 : List UInt8 := [160, 0, 12, 42, 180, 0, 23, 27, 46, 167, 0, 4, 2, 172]
abbrev dktX10_stalks_1 : List UInt8 := dkwX10_stalks_1 ++ []
def dkwX10_stalks_0 : List UInt8 := [42, 3, 181, 0, 1, 42, 27, 182, 0, 218, 154, 0, 5, 3, 172, 42, 180, 0, 13, 27, 46, 5]
abbrev dktX10_stalks_0 : List UInt8 := dkwX10_stalks_0 ++ dktX10_stalks_1
theorem dksX10_stalks_0 : cX10_stalks.data.toList.drop 0 = dktX10_stalks_0 := by decide +kernel
theorem dksX10_stalks_1 : cX10_stalks.data.toList.drop 22 = dktX10_stalks_1 := dk_seg dksX10_stalks_0 22 rfl rfl
theorem dX10_stalks_0 : decode cX10_stalks 0 = .ok (.aload_n 0, 1) := dk_42 (dk_at dksX10_stalks_0 0 rfl rfl)
theorem dX10_stalks_1 : decode cX10_stalks 1 = .ok (.iconst 0, 1) := dk_3 (dk_at dksX10_stalks_0 1 rfl rfl)
theorem dX10_stalks_2 : decode cX10_stalks 2 = .ok (.putfield 1, 3) := dk_181 0 1 (dk_at dksX10_stalks_0 2 rfl rfl)
theorem dX10_stalks_5 : decode cX10_stalks 5 = .ok (.aload_n 0, 1) := dk_42 (dk_at dksX10_stalks_0 5 rfl rfl)
theorem dX10_stalks_6 : decode cX10_stalks 6 = .ok (.iload_n 1, 1) := dk_27 (dk_at dksX10_stalks_0 6 rfl rfl)
theorem dX10_stalks_7 : decode cX10_stalks 7 = .ok (.invokevirtual 218, 3) := dk_182 0 218 (dk_at dksX10_stalks_0 7 rfl rfl)
theorem dX10_stalks_10 : decode cX10_stalks 10 = .ok (.ifCond .ne 5, 3) := dk_154 0 5 (dk_at dksX10_stalks_0 10 rfl rfl)
theorem dX10_stalks_13 : decode cX10_stalks 13 = .ok (.iconst 0, 1) := dk_3 (dk_at dksX10_stalks_0 13 rfl rfl)
theorem dX10_stalks_14 : decode cX10_stalks 14 = .ok (.ireturn, 1) := dk_172 (dk_at dksX10_stalks_0 14 rfl rfl)
theorem dX10_stalks_15 : decode cX10_stalks 15 = .ok (.aload_n 0, 1) := dk_42 (dk_at dksX10_stalks_0 15 rfl rfl)
theorem dX10_stalks_16 : decode cX10_stalks 16 = .ok (.getfield 13, 3) := dk_180 0 13 (dk_at dksX10_stalks_0 16 rfl rfl)
theorem dX10_stalks_19 : decode cX10_stalks 19 = .ok (.iload_n 1, 1) := dk_27 (dk_at dksX10_stalks_0 19 rfl rfl)
theorem dX10_stalks_20 : decode cX10_stalks 20 = .ok (.iaload, 1) := dk_46 (dk_at dksX10_stalks_0 20 rfl rfl)
theorem dX10_stalks_21 : decode cX10_stalks 21 = .ok (.iconst 2, 1) := dk_5 (dk_at dksX10_stalks_0 21 rfl rfl)
theorem dX10_stalks_22 : decode cX10_stalks 22 = .ok (.if_icmp .ne 12, 3) := dk_160 0 12 (dk_at dksX10_stalks_1 0 rfl rfl)
theorem dX10_stalks_25 : decode cX10_stalks 25 = .ok (.aload_n 0, 1) := dk_42 (dk_at dksX10_stalks_1 3 rfl rfl)
theorem dX10_stalks_26 : decode cX10_stalks 26 = .ok (.getfield 23, 3) := dk_180 0 23 (dk_at dksX10_stalks_1 4 rfl rfl)
theorem dX10_stalks_29 : decode cX10_stalks 29 = .ok (.iload_n 1, 1) := dk_27 (dk_at dksX10_stalks_1 7 rfl rfl)
theorem dX10_stalks_30 : decode cX10_stalks 30 = .ok (.iaload, 1) := dk_46 (dk_at dksX10_stalks_1 8 rfl rfl)
theorem dX10_stalks_31 : decode cX10_stalks 31 = .ok (.goto 4, 3) := dk_167 0 4 (dk_at dksX10_stalks_1 9 rfl rfl)
theorem dX10_stalks_34 : decode cX10_stalks 34 = .ok (.iconst (-1), 1) := dk_2 (dk_at dksX10_stalks_1 12 rfl rfl)
theorem dX10_stalks_35 : decode cX10_stalks 35 = .ok (.ireturn, 1) := dk_172 (dk_at dksX10_stalks_1 13 rfl rfl)
def dkwX10_village_2 : List UInt8 := [42, 180, 0, 35, 27, 28, 79, 29, 172]
abbrev dktX10_village_2 : List UInt8 := dkwX10_village_2 ++ []
def dkwX10_village_1 : List UInt8 := [153, 0, 7, 4, 167, 0, 4, 3, 4, 182, 0, 214, 154, 0, 5, 3, 172, 42, 180, 0, 35, 27, 46, 62]
abbrev dktX10_village_1 : List UInt8 := dkwX10_village_1 ++ dktX10_village_2
def dkwX10_village_0 : List UInt8 := [42, 3, 181, 0, 1, 42, 27, 3, 16, 9, 184, 0, 210, 153, 0, 16, 28, 3, 4, 184, 0, 210]
abbrev dktX10_village_0 : List UInt8 := dkwX10_village_0 ++ dktX10_village_1
theorem dksX10_village_0 : cX10_village.data.toList.drop 0 = dktX10_village_0 := by decide +kernel
theorem dksX10_village_1 : cX10_village.data.toList.drop 22 = dktX10_village_1 := dk_seg dksX10_village_0 22 rfl rfl
theorem dksX10_village_2 : cX10_village.data.toList.drop 46 = dktX10_village_2 := dk_seg dksX10_village_1 24 rfl rfl
theorem dX10_village_0 : decode cX10_village 0 = .ok (.aload_n 0, 1) := dk_42 (dk_at dksX10_village_0 0 rfl rfl)
theorem dX10_village_1 : decode cX10_village 1 = .ok (.iconst 0, 1) := dk_3 (dk_at dksX10_village_0 1 rfl rfl)
theorem dX10_village_2 : decode cX10_village 2 = .ok (.putfield 1, 3) := dk_181 0 1 (dk_at dksX10_village_0 2 rfl rfl)
theorem dX10_village_5 : decode cX10_village 5 = .ok (.aload_n 0, 1) := dk_42 (dk_at dksX10_village_0 5 rfl rfl)
theorem dX10_village_6 : decode cX10_village 6 = .ok (.iload_n 1, 1) := dk_27 (dk_at dksX10_village_0 6 rfl rfl)
theorem dX10_village_7 : decode cX10_village 7 = .ok (.iconst 0, 1) := dk_3 (dk_at dksX10_village_0 7 rfl rfl)
theorem dX10_village_8 : decode cX10_village 8 = .ok (.bipush 9, 2) := dk_16 9 (dk_at dksX10_village_0 8 rfl rfl)
theorem dX10_village_10 : decode cX10_village 10 = .ok (.invokestatic 210, 3) := dk_184 0 210 (dk_at dksX10_village_0 10 rfl rfl)
theorem dX10_village_13 : decode cX10_village 13 = .ok (.ifCond .eq 16, 3) := dk_153 0 16 (dk_at dksX10_village_0 13 rfl rfl)
theorem dX10_village_16 : decode cX10_village 16 = .ok (.iload_n 2, 1) := dk_28 (dk_at dksX10_village_0 16 rfl rfl)
theorem dX10_village_17 : decode cX10_village 17 = .ok (.iconst 0, 1) := dk_3 (dk_at dksX10_village_0 17 rfl rfl)
theorem dX10_village_18 : decode cX10_village 18 = .ok (.iconst 1, 1) := dk_4 (dk_at dksX10_village_0 18 rfl rfl)
theorem dX10_village_19 : decode cX10_village 19 = .ok (.invokestatic 210, 3) := dk_184 0 210 (dk_at dksX10_village_0 19 rfl rfl)
theorem dX10_village_22 : decode cX10_village 22 = .ok (.ifCond .eq 7, 3) := dk_153 0 7 (dk_at dksX10_village_1 0 rfl rfl)
theorem dX10_village_25 : decode cX10_village 25 = .ok (.iconst 1, 1) := dk_4 (dk_at dksX10_village_1 3 rfl rfl)
theorem dX10_village_26 : decode cX10_village 26 = .ok (.goto 4, 3) := dk_167 0 4 (dk_at dksX10_village_1 4 rfl rfl)
theorem dX10_village_29 : decode cX10_village 29 = .ok (.iconst 0, 1) := dk_3 (dk_at dksX10_village_1 7 rfl rfl)
theorem dX10_village_30 : decode cX10_village 30 = .ok (.iconst 1, 1) := dk_4 (dk_at dksX10_village_1 8 rfl rfl)
theorem dX10_village_31 : decode cX10_village 31 = .ok (.invokevirtual 214, 3) := dk_182 0 214 (dk_at dksX10_village_1 9 rfl rfl)
theorem dX10_village_34 : decode cX10_village 34 = .ok (.ifCond .ne 5, 3) := dk_154 0 5 (dk_at dksX10_village_1 12 rfl rfl)
theorem dX10_village_37 : decode cX10_village 37 = .ok (.iconst 0, 1) := dk_3 (dk_at dksX10_village_1 15 rfl rfl)
theorem dX10_village_38 : decode cX10_village 38 = .ok (.ireturn, 1) := dk_172 (dk_at dksX10_village_1 16 rfl rfl)
theorem dX10_village_39 : decode cX10_village 39 = .ok (.aload_n 0, 1) := dk_42 (dk_at dksX10_village_1 17 rfl rfl)
theorem dX10_village_40 : decode cX10_village 40 = .ok (.getfield 35, 3) := dk_180 0 35 (dk_at dksX10_village_1 18 rfl rfl)
theorem dX10_village_43 : decode cX10_village 43 = .ok (.iload_n 1, 1) := dk_27 (dk_at dksX10_village_1 21 rfl rfl)
theorem dX10_village_44 : decode cX10_village 44 = .ok (.iaload, 1) := dk_46 (dk_at dksX10_village_1 22 rfl rfl)
theorem dX10_village_45 : decode cX10_village 45 = .ok (.istore_n 3, 1) := dk_62 (dk_at dksX10_village_1 23 rfl rfl)
theorem dX10_village_46 : decode cX10_village 46 = .ok (.aload_n 0, 1) := dk_42 (dk_at dksX10_village_2 0 rfl rfl)
theorem dX10_village_47 : decode cX10_village 47 = .ok (.getfield 35, 3) := dk_180 0 35 (dk_at dksX10_village_2 1 rfl rfl)
theorem dX10_village_50 : decode cX10_village 50 = .ok (.iload_n 1, 1) := dk_27 (dk_at dksX10_village_2 4 rfl rfl)
theorem dX10_village_51 : decode cX10_village 51 = .ok (.iload_n 2, 1) := dk_28 (dk_at dksX10_village_2 5 rfl rfl)
theorem dX10_village_52 : decode cX10_village 52 = .ok (.iastore, 1) := dk_79 (dk_at dksX10_village_2 6 rfl rfl)
theorem dX10_village_53 : decode cX10_village 53 = .ok (.iload_n 3, 1) := dk_29 (dk_at dksX10_village_2 7 rfl rfl)
theorem dX10_village_54 : decode cX10_village 54 = .ok (.ireturn, 1) := dk_172 (dk_at dksX10_village_2 8 rfl rfl)
def dkwX10_fence_4 : List UInt8 := [21, 4, 79, 21, 6, 172]
abbrev dktX10_fence_4 : List UInt8 := dkwX10_fence_4 ++ []
def dkwX10_fence_3 : List UInt8 := [42, 180, 0, 29, 21, 5, 46, 54, 6, 42, 180, 0, 29, 21, 5, 29, 79, 42, 180, 0, 32, 21, 5]
abbrev dktX10_fence_3 : List UInt8 := dkwX10_fence_3 ++ dktX10_fence_4
def dkwX10_fence_2 : List UInt8 := [153, 0, 7, 4, 167, 0, 4, 3, 5, 182, 0, 214, 154, 0, 5, 3, 172, 27, 28, 184, 0, 232, 54, 5]
abbrev dktX10_fence_2 : List UInt8 := dkwX10_fence_2 ++ dktX10_fence_3
def dkwX10_fence_1 : List UInt8 := [184, 0, 228, 153, 0, 27, 29, 3, 16, 100, 184, 0, 210, 153, 0, 17, 21, 4, 3, 4, 184, 0, 210]
abbrev dktX10_fence_1 : List UInt8 := dkwX10_fence_1 ++ dktX10_fence_2
def dkwX10_fence_0 : List UInt8 := [42, 3, 181, 0, 1, 42, 27, 182, 0, 218, 153, 0, 52, 42, 28, 182, 0, 218, 153, 0, 44, 42, 27, 28]
abbrev dktX10_fence_0 : List UInt8 := dkwX10_fence_0 ++ dktX10_fence_1
theorem dksX10_fence_0 : cX10_fence.data.toList.drop 0 = dktX10_fence_0 := by decide +kernel
theorem dksX10_fence_1 : cX10_fence.data.toList.drop 24 = dktX10_fence_1 := dk_seg dksX10_fence_0 24 rfl rfl
theorem dksX10_fence_2 : cX10_fence.data.toList.drop 47 = dktX10_fence_2 := dk_seg dksX10_fence_1 23 rfl rfl
theorem dksX10_fence_3 : cX10_fence.data.toList.drop 71 = dktX10_fence_3 := dk_seg dksX10_fence_2 24 rfl rfl
theorem dksX10_fence_4 : cX10_fence.data.toList.drop 94 = dktX10_fence_4 := dk_seg dksX10_fence_3 23 rfl rfl
theorem dX10_fence_0 : decode cX10_fence 0 = .ok (.aload_n 0, 1) := dk_42 (dk_at dksX10_fence_0 0 rfl rfl)
theorem dX10_fence_1 : decode cX10_fence 1 = .ok (.iconst 0, 1) := dk_3 (dk_at dksX10_fence_0 1 rfl rfl)
theorem dX10_fence_2 : decode cX10_fence 2 = .ok (.putfield 1, 3) := dk_181 0 1 (dk_at dksX10_fence_0 2 rfl rfl)
theorem dX10_fence_5 : decode cX10_fence 5 = .ok (.aload_n 0, 1) := dk_42 (dk_at dksX10_fence_0 5 rfl rfl)
theorem dX10_fence_6 : decode cX10_fence 6 = .ok (.iload_n 1, 1) := dk_27 (dk_at dksX10_fence_0 6 rfl rfl)
theorem dX10_fence_7 : decode cX10_fence 7 = .ok (.invokevirtual 218, 3) := dk_182 0 218 (dk_at dksX10_fence_0 7 rfl rfl)
theorem dX10_fence_10 : decode cX10_fence 10 = .ok (.ifCond .eq 52, 3) := dk_153 0 52 (dk_at dksX10_fence_0 10 rfl rfl)
theorem dX10_fence_13 : decode cX10_fence 13 = .ok (.aload_n 0, 1) := dk_42 (dk_at dksX10_fence_0 13 rfl rfl)
theorem dX10_fence_14 : decode cX10_fence 14 = .ok (.iload_n 2, 1) := dk_28 (dk_at dksX10_fence_0 14 rfl rfl)
theorem dX10_fence_15 : decode cX10_fence 15 = .ok (.invokevirtual 218, 3) := dk_182 0 218 (dk_at dksX10_fence_0 15 rfl rfl)
theorem dX10_fence_18 : decode cX10_fence 18 = .ok (.ifCond .eq 44, 3) := dk_153 0 44 (dk_at dksX10_fence_0 18 rfl rfl)
theorem dX10_fence_21 : decode cX10_fence 21 = .ok (.aload_n 0, 1) := dk_42 (dk_at dksX10_fence_0 21 rfl rfl)
theorem dX10_fence_22 : decode cX10_fence 22 = .ok (.iload_n 1, 1) := dk_27 (dk_at dksX10_fence_0 22 rfl rfl)
theorem dX10_fence_23 : decode cX10_fence 23 = .ok (.iload_n 2, 1) := dk_28 (dk_at dksX10_fence_0 23 rfl rfl)
theorem dX10_fence_24 : decode cX10_fence 24 = .ok (.invokestatic 228, 3) := dk_184 0 228 (dk_at dksX10_fence_1 0 rfl rfl)
theorem dX10_fence_27 : decode cX10_fence 27 = .ok (.ifCond .eq 27, 3) := dk_153 0 27 (dk_at dksX10_fence_1 3 rfl rfl)
theorem dX10_fence_30 : decode cX10_fence 30 = .ok (.iload_n 3, 1) := dk_29 (dk_at dksX10_fence_1 6 rfl rfl)
theorem dX10_fence_31 : decode cX10_fence 31 = .ok (.iconst 0, 1) := dk_3 (dk_at dksX10_fence_1 7 rfl rfl)
theorem dX10_fence_32 : decode cX10_fence 32 = .ok (.bipush 100, 2) := dk_16 100 (dk_at dksX10_fence_1 8 rfl rfl)
theorem dX10_fence_34 : decode cX10_fence 34 = .ok (.invokestatic 210, 3) := dk_184 0 210 (dk_at dksX10_fence_1 10 rfl rfl)
theorem dX10_fence_37 : decode cX10_fence 37 = .ok (.ifCond .eq 17, 3) := dk_153 0 17 (dk_at dksX10_fence_1 13 rfl rfl)
theorem dX10_fence_40 : decode cX10_fence 40 = .ok (.iload 4, 2) := dk_21 4 (dk_at dksX10_fence_1 16 rfl rfl)
theorem dX10_fence_42 : decode cX10_fence 42 = .ok (.iconst 0, 1) := dk_3 (dk_at dksX10_fence_1 18 rfl rfl)
theorem dX10_fence_43 : decode cX10_fence 43 = .ok (.iconst 1, 1) := dk_4 (dk_at dksX10_fence_1 19 rfl rfl)
theorem dX10_fence_44 : decode cX10_fence 44 = .ok (.invokestatic 210, 3) := dk_184 0 210 (dk_at dksX10_fence_1 20 rfl rfl)
theorem dX10_fence_47 : decode cX10_fence 47 = .ok (.ifCond .eq 7, 3) := dk_153 0 7 (dk_at dksX10_fence_2 0 rfl rfl)
theorem dX10_fence_50 : decode cX10_fence 50 = .ok (.iconst 1, 1) := dk_4 (dk_at dksX10_fence_2 3 rfl rfl)
theorem dX10_fence_51 : decode cX10_fence 51 = .ok (.goto 4, 3) := dk_167 0 4 (dk_at dksX10_fence_2 4 rfl rfl)
theorem dX10_fence_54 : decode cX10_fence 54 = .ok (.iconst 0, 1) := dk_3 (dk_at dksX10_fence_2 7 rfl rfl)
theorem dX10_fence_55 : decode cX10_fence 55 = .ok (.iconst 2, 1) := dk_5 (dk_at dksX10_fence_2 8 rfl rfl)
theorem dX10_fence_56 : decode cX10_fence 56 = .ok (.invokevirtual 214, 3) := dk_182 0 214 (dk_at dksX10_fence_2 9 rfl rfl)
theorem dX10_fence_59 : decode cX10_fence 59 = .ok (.ifCond .ne 5, 3) := dk_154 0 5 (dk_at dksX10_fence_2 12 rfl rfl)
theorem dX10_fence_62 : decode cX10_fence 62 = .ok (.iconst 0, 1) := dk_3 (dk_at dksX10_fence_2 15 rfl rfl)
theorem dX10_fence_63 : decode cX10_fence 63 = .ok (.ireturn, 1) := dk_172 (dk_at dksX10_fence_2 16 rfl rfl)
theorem dX10_fence_64 : decode cX10_fence 64 = .ok (.iload_n 1, 1) := dk_27 (dk_at dksX10_fence_2 17 rfl rfl)
theorem dX10_fence_65 : decode cX10_fence 65 = .ok (.iload_n 2, 1) := dk_28 (dk_at dksX10_fence_2 18 rfl rfl)
theorem dX10_fence_66 : decode cX10_fence 66 = .ok (.invokestatic 232, 3) := dk_184 0 232 (dk_at dksX10_fence_2 19 rfl rfl)
theorem dX10_fence_69 : decode cX10_fence 69 = .ok (.istore 5, 2) := dk_54 5 (dk_at dksX10_fence_2 22 rfl rfl)
theorem dX10_fence_71 : decode cX10_fence 71 = .ok (.aload_n 0, 1) := dk_42 (dk_at dksX10_fence_3 0 rfl rfl)
theorem dX10_fence_72 : decode cX10_fence 72 = .ok (.getfield 29, 3) := dk_180 0 29 (dk_at dksX10_fence_3 1 rfl rfl)
theorem dX10_fence_75 : decode cX10_fence 75 = .ok (.iload 5, 2) := dk_21 5 (dk_at dksX10_fence_3 4 rfl rfl)
theorem dX10_fence_77 : decode cX10_fence 77 = .ok (.iaload, 1) := dk_46 (dk_at dksX10_fence_3 6 rfl rfl)
theorem dX10_fence_78 : decode cX10_fence 78 = .ok (.istore 6, 2) := dk_54 6 (dk_at dksX10_fence_3 7 rfl rfl)
theorem dX10_fence_80 : decode cX10_fence 80 = .ok (.aload_n 0, 1) := dk_42 (dk_at dksX10_fence_3 9 rfl rfl)
theorem dX10_fence_81 : decode cX10_fence 81 = .ok (.getfield 29, 3) := dk_180 0 29 (dk_at dksX10_fence_3 10 rfl rfl)
theorem dX10_fence_84 : decode cX10_fence 84 = .ok (.iload 5, 2) := dk_21 5 (dk_at dksX10_fence_3 13 rfl rfl)
theorem dX10_fence_86 : decode cX10_fence 86 = .ok (.iload_n 3, 1) := dk_29 (dk_at dksX10_fence_3 15 rfl rfl)
theorem dX10_fence_87 : decode cX10_fence 87 = .ok (.iastore, 1) := dk_79 (dk_at dksX10_fence_3 16 rfl rfl)
theorem dX10_fence_88 : decode cX10_fence 88 = .ok (.aload_n 0, 1) := dk_42 (dk_at dksX10_fence_3 17 rfl rfl)
theorem dX10_fence_89 : decode cX10_fence 89 = .ok (.getfield 32, 3) := dk_180 0 32 (dk_at dksX10_fence_3 18 rfl rfl)
theorem dX10_fence_92 : decode cX10_fence 92 = .ok (.iload 5, 2) := dk_21 5 (dk_at dksX10_fence_3 21 rfl rfl)
theorem dX10_fence_94 : decode cX10_fence 94 = .ok (.iload 4, 2) := dk_21 4 (dk_at dksX10_fence_4 0 rfl rfl)
theorem dX10_fence_96 : decode cX10_fence 96 = .ok (.iastore, 1) := dk_79 (dk_at dksX10_fence_4 2 rfl rfl)
theorem dX10_fence_97 : decode cX10_fence 97 = .ok (.iload 6, 2) := dk_21 6 (dk_at dksX10_fence_4 3 rfl rfl)
theorem dX10_fence_99 : decode cX10_fence 99 = .ok (.ireturn, 1) := dk_172 (dk_at dksX10_fence_4 5 rfl rfl)
def dkwX10_areNeighbours_2 : List UInt8 := [3, 172]
abbrev dktX10_areNeighbours_2 : List UInt8 := dkwX10_areNeighbours_2 ++ []
def dkwX10_areNeighbours_1 : List UInt8 := [100, 16, 8, 159, 0, 17, 29, 28, 100, 4, 160, 0, 14, 29, 16, 8, 112, 153, 0, 7, 4, 167, 0, 4]
abbrev dktX10_areNeighbours_1 : List UInt8 := dkwX10_areNeighbours_1 ++ dktX10_areNeighbours_2
def dkwX10_areNeighbours_0 : List UInt8 := [26, 27, 162, 0, 7, 26, 167, 0, 4, 27, 61, 26, 27, 162, 0, 7, 27, 167, 0, 4, 26, 62, 29, 28]
abbrev dktX10_areNeighbours_0 : List UInt8 := dkwX10_areNeighbours_0 ++ dktX10_areNeighbours_1
theorem dksX10_areNeighbours_0 : cX10_areNeighbours.data.toList.drop 0 = dktX10_areNeighbours_0 := by decide +kernel
theorem dksX10_areNeighbours_1 : cX10_areNeighbours.data.toList.drop 24 = dktX10_areNeighbours_1 := dk_seg dksX10_areNeighbours_0 24 rfl rfl
theorem dksX10_areNeighbours_2 : cX10_areNeighbours.data.toList.drop 48 = dktX10_areNeighbours_2 := dk_seg dksX10_areNeighbours_1 24 rfl rfl
theorem dX10_areNeighbours_0 : decode cX10_areNeighbours 0 = .ok (.iload_n 0, 1) := dk_26 (dk_at dksX10_areNeighbours_0 0 rfl rfl)
theorem dX10_areNeighbours_1 : decode cX10_areNeighbours 1 = .ok (.iload_n 1, 1) := dk_27 (dk_at dksX10_areNeighbours_0 1 rfl rfl)
theorem dX10_areNeighbours_2 : decode cX10_areNeighbours 2 = .ok (.if_icmp .ge 7, 3) := dk_162 0 7 (dk_at dksX10_areNeighbours_0 2 rfl rfl)
theorem dX10_areNeighbours_5 : decode cX10_areNeighbours 5 = .ok (.iload_n 0, 1) := dk_26 (dk_at dksX10_areNeighbours_0 5 rfl rfl)
theorem dX10_areNeighbours_6 : decode cX10_areNeighbours 6 = .ok (.goto 4, 3) := dk_167 0 4 (dk_at dksX10_areNeighbours_0 6 rfl rfl)
theorem dX10_areNeighbours_9 : decode cX10_areNeighbours 9 = .ok (.iload_n 1, 1) := dk_27 (dk_at dksX10_areNeighbours_0 9 rfl rfl)
theorem dX10_areNeighbours_10 : decode cX10_areNeighbours 10 = .ok (.istore_n 2, 1) := dk_61 (dk_at dksX10_areNeighbours_0 10 rfl rfl)
theorem dX10_areNeighbours_11 : decode cX10_areNeighbours 11 = .ok (.iload_n 0, 1) := dk_26 (dk_at dksX10_areNeighbours_0 11 rfl rfl)
theorem dX10_areNeighbours_12 : decode cX10_areNeighbours 12 = .ok (.iload_n 1, 1) := dk_27 (dk_at dksX10_areNeighbours_0 12 rfl rfl)
theorem dX10_areNeighbours_13 : decode cX10_areNeighbours 13 = .ok (.if_icmp .ge 7, 3) := dk_162 0 7 (dk_at dksX10_areNeighbours_0 13 rfl rfl)
theorem dX10_areNeighbours_16 : decode cX10_areNeighbours 16 = .ok (.iload_n 1, 1) := dk_27 (dk_at dksX10_areNeighbours_0 16 rfl rfl)
theorem dX10_areNeighbours_17 : decode cX10_areNeighbours 17 = .ok (.goto 4, 3) := dk_167 0 4 (dk_at dksX10_areNeighbours_0 17 rfl rfl)
theorem dX10_areNeighbours_20 : decode cX10_areNeighbours 20 = .ok (.iload_n 0, 1) := dk_26 (dk_at dksX10_areNeighbours_0 20 rfl rfl)
theorem dX10_areNeighbours_21 : decode cX10_areNeighbours 21 = .ok (.istore_n 3, 1) := dk_62 (dk_at dksX10_areNeighbours_0 21 rfl rfl)
theorem dX10_areNeighbours_22 : decode cX10_areNeighbours 22 = .ok (.iload_n 3, 1) := dk_29 (dk_at dksX10_areNeighbours_0 22 rfl rfl)
theorem dX10_areNeighbours_23 : decode cX10_areNeighbours 23 = .ok (.iload_n 2, 1) := dk_28 (dk_at dksX10_areNeighbours_0 23 rfl rfl)
theorem dX10_areNeighbours_24 : decode cX10_areNeighbours 24 = .ok (.isub, 1) := dk_100 (dk_at dksX10_areNeighbours_1 0 rfl rfl)
theorem dX10_areNeighbours_25 : decode cX10_areNeighbours 25 = .ok (.bipush 8, 2) := dk_16 8 (dk_at dksX10_areNeighbours_1 1 rfl rfl)
theorem dX10_areNeighbours_27 : decode cX10_areNeighbours 27 = .ok (.if_icmp .eq 17, 3) := dk_159 0 17 (dk_at dksX10_areNeighbours_1 3 rfl rfl)
theorem dX10_areNeighbours_30 : decode cX10_areNeighbours 30 = .ok (.iload_n 3, 1) := dk_29 (dk_at dksX10_areNeighbours_1 6 rfl rfl)
theorem dX10_areNeighbours_31 : decode cX10_areNeighbours 31 = .ok (.iload_n 2, 1) := dk_28 (dk_at dksX10_areNeighbours_1 7 rfl rfl)
theorem dX10_areNeighbours_32 : decode cX10_areNeighbours 32 = .ok (.isub, 1) := dk_100 (dk_at dksX10_areNeighbours_1 8 rfl rfl)
theorem dX10_areNeighbours_33 : decode cX10_areNeighbours 33 = .ok (.iconst 1, 1) := dk_4 (dk_at dksX10_areNeighbours_1 9 rfl rfl)
theorem dX10_areNeighbours_34 : decode cX10_areNeighbours 34 = .ok (.if_icmp .ne 14, 3) := dk_160 0 14 (dk_at dksX10_areNeighbours_1 10 rfl rfl)
theorem dX10_areNeighbours_37 : decode cX10_areNeighbours 37 = .ok (.iload_n 3, 1) := dk_29 (dk_at dksX10_areNeighbours_1 13 rfl rfl)
theorem dX10_areNeighbours_38 : decode cX10_areNeighbours 38 = .ok (.bipush 8, 2) := dk_16 8 (dk_at dksX10_areNeighbours_1 14 rfl rfl)
theorem dX10_areNeighbours_40 : decode cX10_areNeighbours 40 = .ok (.irem, 1) := dk_112 (dk_at dksX10_areNeighbours_1 16 rfl rfl)
theorem dX10_areNeighbours_41 : decode cX10_areNeighbours 41 = .ok (.ifCond .eq 7, 3) := dk_153 0 7 (dk_at dksX10_areNeighbours_1 17 rfl rfl)
theorem dX10_areNeighbours_44 : decode cX10_areNeighbours 44 = .ok (.iconst 1, 1) := dk_4 (dk_at dksX10_areNeighbours_1 20 rfl rfl)
theorem dX10_areNeighbours_45 : decode cX10_areNeighbours 45 = .ok (.goto 4, 3) := dk_167 0 4 (dk_at dksX10_areNeighbours_1 21 rfl rfl)
theorem dX10_areNeighbours_48 : decode cX10_areNeighbours 48 = .ok (.iconst 0, 1) := dk_3 (dk_at dksX10_areNeighbours_2 0 rfl rfl)
theorem dX10_areNeighbours_49 : decode cX10_areNeighbours 49 = .ok (.ireturn, 1) := dk_172 (dk_at dksX10_areNeighbours_2 1 rfl rfl)
def dkwX10_edge_1 : List UInt8 := [100, 16, 8, 160, 0, 7, 4, 167, 0, 4, 3, 96, 172]
abbrev dktX10_edge_1 : List UInt8 := dkwX10_edge_1 ++ []
def dkwX10_edge_0 : List UInt8 := [26, 27, 162, 0, 7, 26, 167, 0, 4, 27, 61, 5, 28, 104, 26, 27, 100, 16, 8, 159, 0, 11, 27, 26]
abbrev dktX10_edge_0 : List UInt8 := dkwX10_edge_0 ++ dktX10_edge_1
theorem dksX10_edge_0 : cX10_edge.data.toList.drop 0 = dktX10_edge_0 := by decide +kernel
theorem dksX10_edge_1 : cX10_edge.data.toList.drop 24 = dktX10_edge_1 := dk_seg dksX10_edge_0 24 rfl rfl
theorem dX10_edge_0 : decode cX10_edge 0 = .ok (.iload_n 0, 1) := dk_26 (dk_at dksX10_edge_0 0 rfl rfl)
theorem dX10_edge_1 : decode cX10_edge 1 = .ok (.iload_n 1, 1) := dk_27 (dk_at dksX10_edge_0 1 rfl rfl)
theorem dX10_edge_2 : decode cX10_edge 2 = .ok (.if_icmp .ge 7, 3) := dk_162 0 7 (dk_at dksX10_edge_0 2 rfl rfl)
theorem dX10_edge_5 : decode cX10_edge 5 = .ok (.iload_n 0, 1) := dk_26 (dk_at dksX10_edge_0 5 rfl rfl)
theorem dX10_edge_6 : decode cX10_edge 6 = .ok (.goto 4, 3) := dk_167 0 4 (dk_at dksX10_edge_0 6 rfl rfl)
theorem dX10_edge_9 : decode cX10_edge 9 = .ok (.iload_n 1, 1) := dk_27 (dk_at dksX10_edge_0 9 rfl rfl)
theorem dX10_edge_10 : decode cX10_edge 10 = .ok (.istore_n 2, 1) := dk_61 (dk_at dksX10_edge_0 10 rfl rfl)
theorem dX10_edge_11 : decode cX10_edge 11 = .ok (.iconst 2, 1) := dk_5 (dk_at dksX10_edge_0 11 rfl rfl)
theorem dX10_edge_12 : decode cX10_edge 12 = .ok (.iload_n 2, 1) := dk_28 (dk_at dksX10_edge_0 12 rfl rfl)
theorem dX10_edge_13 : decode cX10_edge 13 = .ok (.imul, 1) := dk_104 (dk_at dksX10_edge_0 13 rfl rfl)
theorem dX10_edge_14 : decode cX10_edge 14 = .ok (.iload_n 0, 1) := dk_26 (dk_at dksX10_edge_0 14 rfl rfl)
theorem dX10_edge_15 : decode cX10_edge 15 = .ok (.iload_n 1, 1) := dk_27 (dk_at dksX10_edge_0 15 rfl rfl)
theorem dX10_edge_16 : decode cX10_edge 16 = .ok (.isub, 1) := dk_100 (dk_at dksX10_edge_0 16 rfl rfl)
theorem dX10_edge_17 : decode cX10_edge 17 = .ok (.bipush 8, 2) := dk_16 8 (dk_at dksX10_edge_0 17 rfl rfl)
theorem dX10_edge_19 : decode cX10_edge 19 = .ok (.if_icmp .eq 11, 3) := dk_159 0 11 (dk_at dksX10_edge_0 19 rfl rfl)
theorem dX10_edge_22 : decode cX10_edge 22 = .ok (.iload_n 1, 1) := dk_27 (dk_at dksX10_edge_0 22 rfl rfl)
theorem dX10_edge_23 : decode cX10_edge 23 = .ok (.iload_n 0, 1) := dk_26 (dk_at dksX10_edge_0 23 rfl rfl)
theorem dX10_edge_24 : decode cX10_edge 24 = .ok (.isub, 1) := dk_100 (dk_at dksX10_edge_1 0 rfl rfl)
theorem dX10_edge_25 : decode cX10_edge 25 = .ok (.bipush 8, 2) := dk_16 8 (dk_at dksX10_edge_1 1 rfl rfl)
theorem dX10_edge_27 : decode cX10_edge 27 = .ok (.if_icmp .ne 7, 3) := dk_160 0 7 (dk_at dksX10_edge_1 3 rfl rfl)
theorem dX10_edge_30 : decode cX10_edge 30 = .ok (.iconst 1, 1) := dk_4 (dk_at dksX10_edge_1 6 rfl rfl)
theorem dX10_edge_31 : decode cX10_edge 31 = .ok (.goto 4, 3) := dk_167 0 4 (dk_at dksX10_edge_1 7 rfl rfl)
theorem dX10_edge_34 : decode cX10_edge 34 = .ok (.iconst 0, 1) := dk_3 (dk_at dksX10_edge_1 10 rfl rfl)
theorem dX10_edge_35 : decode cX10_edge 35 = .ok (.iadd, 1) := dk_96 (dk_at dksX10_edge_1 11 rfl rfl)
theorem dX10_edge_36 : decode cX10_edge 36 = .ok (.ireturn, 1) := dk_172 (dk_at dksX10_edge_1 12 rfl rfl)
def dkwX10_fenced_1 : List UInt8 := [184, 0, 228, 5, 182, 0, 214, 154, 0, 5, 3, 172, 42, 180, 0, 29, 27, 28, 184, 0, 232, 46, 172]
abbrev dktX10_fenced_1 : List UInt8 := dkwX10_fenced_1 ++ []
def dkwX10_fenced_0 : List UInt8 := [42, 3, 181, 0, 1, 42, 27, 182, 0, 218, 153, 0, 24, 42, 28, 182, 0, 218, 153, 0, 16, 42, 27, 28]
abbrev dktX10_fenced_0 : List UInt8 := dkwX10_fenced_0 ++ dktX10_fenced_1
theorem dksX10_fenced_0 : cX10_fenced.data.toList.drop 0 = dktX10_fenced_0 := by decide +kernel
theorem dksX10_fenced_1 : cX10_fenced.data.toList.drop 24 = dktX10_fenced_1 := dk_seg dksX10_fenced_0 24 rfl rfl
theorem dX10_fenced_0 : decode cX10_fenced 0 = .ok (.aload_n 0, 1) := dk_42 (dk_at dksX10_fenced_0 0 rfl rfl)
theorem dX10_fenced_1 : decode cX10_fenced 1 = .ok (.iconst 0, 1) := dk_3 (dk_at dksX10_fenced_0 1 rfl rfl)
theorem dX10_fenced_2 : decode cX10_fenced 2 = .ok (.putfield 1, 3) := dk_181 0 1 (dk_at dksX10_fenced_0 2 rfl rfl)
theorem dX10_fenced_5 : decode cX10_fenced 5 = .ok (.aload_n 0, 1) := dk_42 (dk_at dksX10_fenced_0 5 rfl rfl)
theorem dX10_fenced_6 : decode cX10_fenced 6 = .ok (.iload_n 1, 1) := dk_27 (dk_at dksX10_fenced_0 6 rfl rfl)
theorem dX10_fenced_7 : decode cX10_fenced 7 = .ok (.invokevirtual 218, 3) := dk_182 0 218 (dk_at dksX10_fenced_0 7 rfl rfl)
theorem dX10_fenced_10 : decode cX10_fenced 10 = .ok (.ifCond .eq 24, 3) := dk_153 0 24 (dk_at dksX10_fenced_0 10 rfl rfl)
theorem dX10_fenced_13 : decode cX10_fenced 13 = .ok (.aload_n 0, 1) := dk_42 (dk_at dksX10_fenced_0 13 rfl rfl)
theorem dX10_fenced_14 : decode cX10_fenced 14 = .ok (.iload_n 2, 1) := dk_28 (dk_at dksX10_fenced_0 14 rfl rfl)
theorem dX10_fenced_15 : decode cX10_fenced 15 = .ok (.invokevirtual 218, 3) := dk_182 0 218 (dk_at dksX10_fenced_0 15 rfl rfl)
theorem dX10_fenced_18 : decode cX10_fenced 18 = .ok (.ifCond .eq 16, 3) := dk_153 0 16 (dk_at dksX10_fenced_0 18 rfl rfl)
theorem dX10_fenced_21 : decode cX10_fenced 21 = .ok (.aload_n 0, 1) := dk_42 (dk_at dksX10_fenced_0 21 rfl rfl)
theorem dX10_fenced_22 : decode cX10_fenced 22 = .ok (.iload_n 1, 1) := dk_27 (dk_at dksX10_fenced_0 22 rfl rfl)
theorem dX10_fenced_23 : decode cX10_fenced 23 = .ok (.iload_n 2, 1) := dk_28 (dk_at dksX10_fenced_0 23 rfl rfl)
theorem dX10_fenced_24 : decode cX10_fenced 24 = .ok (.invokestatic 228, 3) := dk_184 0 228 (dk_at dksX10_fenced_1 0 rfl rfl)
theorem dX10_fenced_27 : decode cX10_fenced 27 = .ok (.iconst 2, 1) := dk_5 (dk_at dksX10_fenced_1 3 rfl rfl)
theorem dX10_fenced_28 : decode cX10_fenced 28 = .ok (.invokevirtual 214, 3) := dk_182 0 214 (dk_at dksX10_fenced_1 4 rfl rfl)
theorem dX10_fenced_31 : decode cX10_fenced 31 = .ok (.ifCond .ne 5, 3) := dk_154 0 5 (dk_at dksX10_fenced_1 7 rfl rfl)
theorem dX10_fenced_34 : decode cX10_fenced 34 = .ok (.iconst 0, 1) := dk_3 (dk_at dksX10_fenced_1 10 rfl rfl)
theorem dX10_fenced_35 : decode cX10_fenced 35 = .ok (.ireturn, 1) := dk_172 (dk_at dksX10_fenced_1 11 rfl rfl)
theorem dX10_fenced_36 : decode cX10_fenced 36 = .ok (.aload_n 0, 1) := dk_42 (dk_at dksX10_fenced_1 12 rfl rfl)
theorem dX10_fenced_37 : decode cX10_fenced 37 = .ok (.getfield 29, 3) := dk_180 0 29 (dk_at dksX10_fenced_1 13 rfl rfl)
theorem dX10_fenced_40 : decode cX10_fenced 40 = .ok (.iload_n 1, 1) := dk_27 (dk_at dksX10_fenced_1 16 rfl rfl)
theorem dX10_fenced_41 : decode cX10_fenced 41 = .ok (.iload_n 2, 1) := dk_28 (dk_at dksX10_fenced_1 17 rfl rfl)
theorem dX10_fenced_42 : decode cX10_fenced 42 = .ok (.invokestatic 232, 3) := dk_184 0 232 (dk_at dksX10_fenced_1 18 rfl rfl)
theorem dX10_fenced_45 : decode cX10_fenced 45 = .ok (.iaload, 1) := dk_46 (dk_at dksX10_fenced_1 21 rfl rfl)
theorem dX10_fenced_46 : decode cX10_fenced 46 = .ok (.ireturn, 1) := dk_172 (dk_at dksX10_fenced_1 22 rfl rfl)
def dkwX10_fear_0 : List UInt8 := [42, 3, 181, 0, 1, 42, 27, 182, 0, 218, 154, 0, 5, 3, 172, 42, 180, 0, 26, 27, 46, 172]
abbrev dktX10_fear_0 : List UInt8 := dkwX10_fear_0 ++ []
theorem dksX10_fear_0 : cX10_fear.data.toList.drop 0 = dktX10_fear_0 := by decide +kernel
theorem dX10_fear_0 : decode cX10_fear 0 = .ok (.aload_n 0, 1) := dk_42 (dk_at dksX10_fear_0 0 rfl rfl)
theorem dX10_fear_1 : decode cX10_fear 1 = .ok (.iconst 0, 1) := dk_3 (dk_at dksX10_fear_0 1 rfl rfl)
theorem dX10_fear_2 : decode cX10_fear 2 = .ok (.putfield 1, 3) := dk_181 0 1 (dk_at dksX10_fear_0 2 rfl rfl)
theorem dX10_fear_5 : decode cX10_fear 5 = .ok (.aload_n 0, 1) := dk_42 (dk_at dksX10_fear_0 5 rfl rfl)
theorem dX10_fear_6 : decode cX10_fear 6 = .ok (.iload_n 1, 1) := dk_27 (dk_at dksX10_fear_0 6 rfl rfl)
theorem dX10_fear_7 : decode cX10_fear 7 = .ok (.invokevirtual 218, 3) := dk_182 0 218 (dk_at dksX10_fear_0 7 rfl rfl)
theorem dX10_fear_10 : decode cX10_fear 10 = .ok (.ifCond .ne 5, 3) := dk_154 0 5 (dk_at dksX10_fear_0 10 rfl rfl)
theorem dX10_fear_13 : decode cX10_fear 13 = .ok (.iconst 0, 1) := dk_3 (dk_at dksX10_fear_0 13 rfl rfl)
theorem dX10_fear_14 : decode cX10_fear 14 = .ok (.ireturn, 1) := dk_172 (dk_at dksX10_fear_0 14 rfl rfl)
theorem dX10_fear_15 : decode cX10_fear 15 = .ok (.aload_n 0, 1) := dk_42 (dk_at dksX10_fear_0 15 rfl rfl)
theorem dX10_fear_16 : decode cX10_fear 16 = .ok (.getfield 26, 3) := dk_180 0 26 (dk_at dksX10_fear_0 16 rfl rfl)
theorem dX10_fear_19 : decode cX10_fear 19 = .ok (.iload_n 1, 1) := dk_27 (dk_at dksX10_fear_0 19 rfl rfl)
theorem dX10_fear_20 : decode cX10_fear 20 = .ok (.iaload, 1) := dk_46 (dk_at dksX10_fear_0 20 rfl rfl)
theorem dX10_fear_21 : decode cX10_fear 21 = .ok (.ireturn, 1) := dk_172 (dk_at dksX10_fear_0 21 rfl rfl)
def dkwX10_feed_5 : List UInt8 := [167, 255, 162, 42, 180, 1, 22, 172]
abbrev dktX10_feed_5 : List UInt8 := dkwX10_feed_5 ++ []
def dkwX10_feed_4 : List UInt8 := [112, 104, 100, 122, 17, 0, 255, 126, 79, 42, 89, 180, 1, 22, 4, 96, 181, 1, 22, 132, 6, 1]
abbrev dktX10_feed_4 : List UInt8 := dkwX10_feed_4 ++ dktX10_feed_5
def dkwX10_feed_3 : List UInt8 := [167, 0, 5, 21, 5, 54, 7, 42, 180, 0, 38, 42, 180, 1, 22, 21, 7, 16, 24, 16, 8, 21, 6, 7]
abbrev dktX10_feed_3 : List UInt8 := dkwX10_feed_3 ++ dktX10_feed_4
def dkwX10_feed_2 : List UInt8 := [28, 167, 0, 28, 21, 6, 16, 12, 162, 0, 7, 29, 167, 0, 17, 21, 6, 16, 16, 162, 0, 8, 21, 4]
abbrev dktX10_feed_2 : List UInt8 := dkwX10_feed_2 ++ dktX10_feed_3
def dkwX10_feed_1 : List UInt8 := [21, 6, 16, 20, 162, 0, 93, 21, 6, 7, 162, 0, 7, 27, 167, 0, 39, 21, 6, 16, 8, 162, 0, 7]
abbrev dktX10_feed_1 : List UInt8 := dkwX10_feed_1 ++ dktX10_feed_2
def dkwX10_feed_0 : List UInt8 := [42, 3, 181, 0, 1, 42, 180, 1, 22, 16, 20, 96, 17, 1, 144, 164, 0, 5, 2, 172, 3, 54, 6]
abbrev dktX10_feed_0 : List UInt8 := dkwX10_feed_0 ++ dktX10_feed_1
theorem dksX10_feed_0 : cX10_feed.data.toList.drop 0 = dktX10_feed_0 := by decide +kernel
theorem dksX10_feed_1 : cX10_feed.data.toList.drop 23 = dktX10_feed_1 := dk_seg dksX10_feed_0 23 rfl rfl
theorem dksX10_feed_2 : cX10_feed.data.toList.drop 47 = dktX10_feed_2 := dk_seg dksX10_feed_1 24 rfl rfl
theorem dksX10_feed_3 : cX10_feed.data.toList.drop 71 = dktX10_feed_3 := dk_seg dksX10_feed_2 24 rfl rfl
theorem dksX10_feed_4 : cX10_feed.data.toList.drop 95 = dktX10_feed_4 := dk_seg dksX10_feed_3 24 rfl rfl
theorem dksX10_feed_5 : cX10_feed.data.toList.drop 117 = dktX10_feed_5 := dk_seg dksX10_feed_4 22 rfl rfl
theorem dX10_feed_0 : decode cX10_feed 0 = .ok (.aload_n 0, 1) := dk_42 (dk_at dksX10_feed_0 0 rfl rfl)
theorem dX10_feed_1 : decode cX10_feed 1 = .ok (.iconst 0, 1) := dk_3 (dk_at dksX10_feed_0 1 rfl rfl)
theorem dX10_feed_2 : decode cX10_feed 2 = .ok (.putfield 1, 3) := dk_181 0 1 (dk_at dksX10_feed_0 2 rfl rfl)
theorem dX10_feed_5 : decode cX10_feed 5 = .ok (.aload_n 0, 1) := dk_42 (dk_at dksX10_feed_0 5 rfl rfl)
theorem dX10_feed_6 : decode cX10_feed 6 = .ok (.getfield 278, 3) := dk_180 1 22 (dk_at dksX10_feed_0 6 rfl rfl)
theorem dX10_feed_9 : decode cX10_feed 9 = .ok (.bipush 20, 2) := dk_16 20 (dk_at dksX10_feed_0 9 rfl rfl)
theorem dX10_feed_11 : decode cX10_feed 11 = .ok (.iadd, 1) := dk_96 (dk_at dksX10_feed_0 11 rfl rfl)
theorem dX10_feed_12 : decode cX10_feed 12 = .ok (.sipush 400, 3) := dk_17 1 144 (dk_at dksX10_feed_0 12 rfl rfl)
theorem dX10_feed_15 : decode cX10_feed 15 = .ok (.if_icmp .le 5, 3) := dk_164 0 5 (dk_at dksX10_feed_0 15 rfl rfl)
theorem dX10_feed_18 : decode cX10_feed 18 = .ok (.iconst (-1), 1) := dk_2 (dk_at dksX10_feed_0 18 rfl rfl)
theorem dX10_feed_19 : decode cX10_feed 19 = .ok (.ireturn, 1) := dk_172 (dk_at dksX10_feed_0 19 rfl rfl)
theorem dX10_feed_20 : decode cX10_feed 20 = .ok (.iconst 0, 1) := dk_3 (dk_at dksX10_feed_0 20 rfl rfl)
theorem dX10_feed_21 : decode cX10_feed 21 = .ok (.istore 6, 2) := dk_54 6 (dk_at dksX10_feed_0 21 rfl rfl)
theorem dX10_feed_23 : decode cX10_feed 23 = .ok (.iload 6, 2) := dk_21 6 (dk_at dksX10_feed_1 0 rfl rfl)
theorem dX10_feed_25 : decode cX10_feed 25 = .ok (.bipush 20, 2) := dk_16 20 (dk_at dksX10_feed_1 2 rfl rfl)
theorem dX10_feed_27 : decode cX10_feed 27 = .ok (.if_icmp .ge 93, 3) := dk_162 0 93 (dk_at dksX10_feed_1 4 rfl rfl)
theorem dX10_feed_30 : decode cX10_feed 30 = .ok (.iload 6, 2) := dk_21 6 (dk_at dksX10_feed_1 7 rfl rfl)
theorem dX10_feed_32 : decode cX10_feed 32 = .ok (.iconst 4, 1) := dk_7 (dk_at dksX10_feed_1 9 rfl rfl)
theorem dX10_feed_33 : decode cX10_feed 33 = .ok (.if_icmp .ge 7, 3) := dk_162 0 7 (dk_at dksX10_feed_1 10 rfl rfl)
theorem dX10_feed_36 : decode cX10_feed 36 = .ok (.iload_n 1, 1) := dk_27 (dk_at dksX10_feed_1 13 rfl rfl)
theorem dX10_feed_37 : decode cX10_feed 37 = .ok (.goto 39, 3) := dk_167 0 39 (dk_at dksX10_feed_1 14 rfl rfl)
theorem dX10_feed_40 : decode cX10_feed 40 = .ok (.iload 6, 2) := dk_21 6 (dk_at dksX10_feed_1 17 rfl rfl)
theorem dX10_feed_42 : decode cX10_feed 42 = .ok (.bipush 8, 2) := dk_16 8 (dk_at dksX10_feed_1 19 rfl rfl)
theorem dX10_feed_44 : decode cX10_feed 44 = .ok (.if_icmp .ge 7, 3) := dk_162 0 7 (dk_at dksX10_feed_1 21 rfl rfl)
theorem dX10_feed_47 : decode cX10_feed 47 = .ok (.iload_n 2, 1) := dk_28 (dk_at dksX10_feed_2 0 rfl rfl)
theorem dX10_feed_48 : decode cX10_feed 48 = .ok (.goto 28, 3) := dk_167 0 28 (dk_at dksX10_feed_2 1 rfl rfl)
theorem dX10_feed_51 : decode cX10_feed 51 = .ok (.iload 6, 2) := dk_21 6 (dk_at dksX10_feed_2 4 rfl rfl)
theorem dX10_feed_53 : decode cX10_feed 53 = .ok (.bipush 12, 2) := dk_16 12 (dk_at dksX10_feed_2 6 rfl rfl)
theorem dX10_feed_55 : decode cX10_feed 55 = .ok (.if_icmp .ge 7, 3) := dk_162 0 7 (dk_at dksX10_feed_2 8 rfl rfl)
theorem dX10_feed_58 : decode cX10_feed 58 = .ok (.iload_n 3, 1) := dk_29 (dk_at dksX10_feed_2 11 rfl rfl)
theorem dX10_feed_59 : decode cX10_feed 59 = .ok (.goto 17, 3) := dk_167 0 17 (dk_at dksX10_feed_2 12 rfl rfl)
theorem dX10_feed_62 : decode cX10_feed 62 = .ok (.iload 6, 2) := dk_21 6 (dk_at dksX10_feed_2 15 rfl rfl)
theorem dX10_feed_64 : decode cX10_feed 64 = .ok (.bipush 16, 2) := dk_16 16 (dk_at dksX10_feed_2 17 rfl rfl)
theorem dX10_feed_66 : decode cX10_feed 66 = .ok (.if_icmp .ge 8, 3) := dk_162 0 8 (dk_at dksX10_feed_2 19 rfl rfl)
theorem dX10_feed_69 : decode cX10_feed 69 = .ok (.iload 4, 2) := dk_21 4 (dk_at dksX10_feed_2 22 rfl rfl)
theorem dX10_feed_71 : decode cX10_feed 71 = .ok (.goto 5, 3) := dk_167 0 5 (dk_at dksX10_feed_3 0 rfl rfl)
theorem dX10_feed_74 : decode cX10_feed 74 = .ok (.iload 5, 2) := dk_21 5 (dk_at dksX10_feed_3 3 rfl rfl)
theorem dX10_feed_76 : decode cX10_feed 76 = .ok (.istore 7, 2) := dk_54 7 (dk_at dksX10_feed_3 5 rfl rfl)
theorem dX10_feed_78 : decode cX10_feed 78 = .ok (.aload_n 0, 1) := dk_42 (dk_at dksX10_feed_3 7 rfl rfl)
theorem dX10_feed_79 : decode cX10_feed 79 = .ok (.getfield 38, 3) := dk_180 0 38 (dk_at dksX10_feed_3 8 rfl rfl)
theorem dX10_feed_82 : decode cX10_feed 82 = .ok (.aload_n 0, 1) := dk_42 (dk_at dksX10_feed_3 11 rfl rfl)
theorem dX10_feed_83 : decode cX10_feed 83 = .ok (.getfield 278, 3) := dk_180 1 22 (dk_at dksX10_feed_3 12 rfl rfl)
theorem dX10_feed_86 : decode cX10_feed 86 = .ok (.iload 7, 2) := dk_21 7 (dk_at dksX10_feed_3 15 rfl rfl)
theorem dX10_feed_88 : decode cX10_feed 88 = .ok (.bipush 24, 2) := dk_16 24 (dk_at dksX10_feed_3 17 rfl rfl)
theorem dX10_feed_90 : decode cX10_feed 90 = .ok (.bipush 8, 2) := dk_16 8 (dk_at dksX10_feed_3 19 rfl rfl)
theorem dX10_feed_92 : decode cX10_feed 92 = .ok (.iload 6, 2) := dk_21 6 (dk_at dksX10_feed_3 21 rfl rfl)
theorem dX10_feed_94 : decode cX10_feed 94 = .ok (.iconst 4, 1) := dk_7 (dk_at dksX10_feed_3 23 rfl rfl)
theorem dX10_feed_95 : decode cX10_feed 95 = .ok (.irem, 1) := dk_112 (dk_at dksX10_feed_4 0 rfl rfl)
theorem dX10_feed_96 : decode cX10_feed 96 = .ok (.imul, 1) := dk_104 (dk_at dksX10_feed_4 1 rfl rfl)
theorem dX10_feed_97 : decode cX10_feed 97 = .ok (.isub, 1) := dk_100 (dk_at dksX10_feed_4 2 rfl rfl)
theorem dX10_feed_98 : decode cX10_feed 98 = .ok (.ishr, 1) := dk_122 (dk_at dksX10_feed_4 3 rfl rfl)
theorem dX10_feed_99 : decode cX10_feed 99 = .ok (.sipush 255, 3) := dk_17 0 255 (dk_at dksX10_feed_4 4 rfl rfl)
theorem dX10_feed_102 : decode cX10_feed 102 = .ok (.iand, 1) := dk_126 (dk_at dksX10_feed_4 7 rfl rfl)
theorem dX10_feed_103 : decode cX10_feed 103 = .ok (.iastore, 1) := dk_79 (dk_at dksX10_feed_4 8 rfl rfl)
theorem dX10_feed_104 : decode cX10_feed 104 = .ok (.aload_n 0, 1) := dk_42 (dk_at dksX10_feed_4 9 rfl rfl)
theorem dX10_feed_105 : decode cX10_feed 105 = .ok (.dup, 1) := dk_89 (dk_at dksX10_feed_4 10 rfl rfl)
theorem dX10_feed_106 : decode cX10_feed 106 = .ok (.getfield 278, 3) := dk_180 1 22 (dk_at dksX10_feed_4 11 rfl rfl)
theorem dX10_feed_109 : decode cX10_feed 109 = .ok (.iconst 1, 1) := dk_4 (dk_at dksX10_feed_4 14 rfl rfl)
theorem dX10_feed_110 : decode cX10_feed 110 = .ok (.iadd, 1) := dk_96 (dk_at dksX10_feed_4 15 rfl rfl)
theorem dX10_feed_111 : decode cX10_feed 111 = .ok (.putfield 278, 3) := dk_181 1 22 (dk_at dksX10_feed_4 16 rfl rfl)
theorem dX10_feed_114 : decode cX10_feed 114 = .ok (.iinc 6 1, 3) := dk_132 6 1 (dk_at dksX10_feed_4 19 rfl rfl)
theorem dX10_feed_117 : decode cX10_feed 117 = .ok (.goto (-94), 3) := dk_167 255 162 (dk_at dksX10_feed_5 0 rfl rfl)
theorem dX10_feed_120 : decode cX10_feed 120 = .ok (.aload_n 0, 1) := dk_42 (dk_at dksX10_feed_5 3 rfl rfl)
theorem dX10_feed_121 : decode cX10_feed 121 = .ok (.getfield 278, 3) := dk_180 1 22 (dk_at dksX10_feed_5 4 rfl rfl)
theorem dX10_feed_124 : decode cX10_feed 124 = .ok (.ireturn, 1) := dk_172 (dk_at dksX10_feed_5 7 rfl rfl)
def dkwX10_rule_4 : List UInt8 := [182, 0, 239, 42, 180, 1, 4, 172]
abbrev dktX10_rule_4 : List UInt8 := dkwX10_rule_4 ++ []
def dkwX10_rule_3 : List UInt8 := [182, 1, 116, 167, 255, 238, 42, 182, 1, 41, 154, 0, 11, 16, 254, 42, 180, 1, 25, 100, 172, 42]
abbrev dktX10_rule_3 : List UInt8 := dkwX10_rule_3 ++ dktX10_rule_4
def dkwX10_rule_2 : List UInt8 := [2, 181, 1, 25, 42, 182, 0, 236, 42, 182, 1, 41, 153, 0, 17, 42, 182, 1, 113, 153, 0, 10, 42]
abbrev dktX10_rule_2 : List UInt8 := dkwX10_rule_2 ++ dktX10_rule_3
def dkwX10_rule_1 : List UInt8 := [182, 0, 214, 154, 0, 5, 3, 172, 42, 3, 181, 1, 22, 42, 27, 181, 1, 31, 42, 3, 181, 1, 28, 42]
abbrev dktX10_rule_1 : List UInt8 := dkwX10_rule_1 ++ dktX10_rule_2
def dkwX10_rule_0 : List UInt8 := [42, 3, 181, 0, 1, 42, 27, 155, 0, 15, 27, 42, 180, 1, 22, 163, 0, 7, 4, 167, 0, 4, 3, 4]
abbrev dktX10_rule_0 : List UInt8 := dkwX10_rule_0 ++ dktX10_rule_1
theorem dksX10_rule_0 : cX10_rule.data.toList.drop 0 = dktX10_rule_0 := by decide +kernel
theorem dksX10_rule_1 : cX10_rule.data.toList.drop 24 = dktX10_rule_1 := dk_seg dksX10_rule_0 24 rfl rfl
theorem dksX10_rule_2 : cX10_rule.data.toList.drop 48 = dktX10_rule_2 := dk_seg dksX10_rule_1 24 rfl rfl
theorem dksX10_rule_3 : cX10_rule.data.toList.drop 71 = dktX10_rule_3 := dk_seg dksX10_rule_2 23 rfl rfl
theorem dksX10_rule_4 : cX10_rule.data.toList.drop 93 = dktX10_rule_4 := dk_seg dksX10_rule_3 22 rfl rfl
theorem dX10_rule_0 : decode cX10_rule 0 = .ok (.aload_n 0, 1) := dk_42 (dk_at dksX10_rule_0 0 rfl rfl)
theorem dX10_rule_1 : decode cX10_rule 1 = .ok (.iconst 0, 1) := dk_3 (dk_at dksX10_rule_0 1 rfl rfl)
theorem dX10_rule_2 : decode cX10_rule 2 = .ok (.putfield 1, 3) := dk_181 0 1 (dk_at dksX10_rule_0 2 rfl rfl)
theorem dX10_rule_5 : decode cX10_rule 5 = .ok (.aload_n 0, 1) := dk_42 (dk_at dksX10_rule_0 5 rfl rfl)
theorem dX10_rule_6 : decode cX10_rule 6 = .ok (.iload_n 1, 1) := dk_27 (dk_at dksX10_rule_0 6 rfl rfl)
theorem dX10_rule_7 : decode cX10_rule 7 = .ok (.ifCond .lt 15, 3) := dk_155 0 15 (dk_at dksX10_rule_0 7 rfl rfl)
theorem dX10_rule_10 : decode cX10_rule 10 = .ok (.iload_n 1, 1) := dk_27 (dk_at dksX10_rule_0 10 rfl rfl)
theorem dX10_rule_11 : decode cX10_rule 11 = .ok (.aload_n 0, 1) := dk_42 (dk_at dksX10_rule_0 11 rfl rfl)
theorem dX10_rule_12 : decode cX10_rule 12 = .ok (.getfield 278, 3) := dk_180 1 22 (dk_at dksX10_rule_0 12 rfl rfl)
theorem dX10_rule_15 : decode cX10_rule 15 = .ok (.if_icmp .gt 7, 3) := dk_163 0 7 (dk_at dksX10_rule_0 15 rfl rfl)
theorem dX10_rule_18 : decode cX10_rule 18 = .ok (.iconst 1, 1) := dk_4 (dk_at dksX10_rule_0 18 rfl rfl)
theorem dX10_rule_19 : decode cX10_rule 19 = .ok (.goto 4, 3) := dk_167 0 4 (dk_at dksX10_rule_0 19 rfl rfl)
theorem dX10_rule_22 : decode cX10_rule 22 = .ok (.iconst 0, 1) := dk_3 (dk_at dksX10_rule_0 22 rfl rfl)
theorem dX10_rule_23 : decode cX10_rule 23 = .ok (.iconst 1, 1) := dk_4 (dk_at dksX10_rule_0 23 rfl rfl)
theorem dX10_rule_24 : decode cX10_rule 24 = .ok (.invokevirtual 214, 3) := dk_182 0 214 (dk_at dksX10_rule_1 0 rfl rfl)
theorem dX10_rule_27 : decode cX10_rule 27 = .ok (.ifCond .ne 5, 3) := dk_154 0 5 (dk_at dksX10_rule_1 3 rfl rfl)
theorem dX10_rule_30 : decode cX10_rule 30 = .ok (.iconst 0, 1) := dk_3 (dk_at dksX10_rule_1 6 rfl rfl)
theorem dX10_rule_31 : decode cX10_rule 31 = .ok (.ireturn, 1) := dk_172 (dk_at dksX10_rule_1 7 rfl rfl)
theorem dX10_rule_32 : decode cX10_rule 32 = .ok (.aload_n 0, 1) := dk_42 (dk_at dksX10_rule_1 8 rfl rfl)
theorem dX10_rule_33 : decode cX10_rule 33 = .ok (.iconst 0, 1) := dk_3 (dk_at dksX10_rule_1 9 rfl rfl)
theorem dX10_rule_34 : decode cX10_rule 34 = .ok (.putfield 278, 3) := dk_181 1 22 (dk_at dksX10_rule_1 10 rfl rfl)
theorem dX10_rule_37 : decode cX10_rule 37 = .ok (.aload_n 0, 1) := dk_42 (dk_at dksX10_rule_1 13 rfl rfl)
theorem dX10_rule_38 : decode cX10_rule 38 = .ok (.iload_n 1, 1) := dk_27 (dk_at dksX10_rule_1 14 rfl rfl)
theorem dX10_rule_39 : decode cX10_rule 39 = .ok (.putfield 287, 3) := dk_181 1 31 (dk_at dksX10_rule_1 15 rfl rfl)
theorem dX10_rule_42 : decode cX10_rule 42 = .ok (.aload_n 0, 1) := dk_42 (dk_at dksX10_rule_1 18 rfl rfl)
theorem dX10_rule_43 : decode cX10_rule 43 = .ok (.iconst 0, 1) := dk_3 (dk_at dksX10_rule_1 19 rfl rfl)
theorem dX10_rule_44 : decode cX10_rule 44 = .ok (.putfield 284, 3) := dk_181 1 28 (dk_at dksX10_rule_1 20 rfl rfl)
theorem dX10_rule_47 : decode cX10_rule 47 = .ok (.aload_n 0, 1) := dk_42 (dk_at dksX10_rule_1 23 rfl rfl)
theorem dX10_rule_48 : decode cX10_rule 48 = .ok (.iconst (-1), 1) := dk_2 (dk_at dksX10_rule_2 0 rfl rfl)
theorem dX10_rule_49 : decode cX10_rule 49 = .ok (.putfield 281, 3) := dk_181 1 25 (dk_at dksX10_rule_2 1 rfl rfl)
theorem dX10_rule_52 : decode cX10_rule 52 = .ok (.aload_n 0, 1) := dk_42 (dk_at dksX10_rule_2 4 rfl rfl)
theorem dX10_rule_53 : decode cX10_rule 53 = .ok (.invokevirtual 236, 3) := dk_182 0 236 (dk_at dksX10_rule_2 5 rfl rfl)
theorem dX10_rule_56 : decode cX10_rule 56 = .ok (.aload_n 0, 1) := dk_42 (dk_at dksX10_rule_2 8 rfl rfl)
theorem dX10_rule_57 : decode cX10_rule 57 = .ok (.invokevirtual 297, 3) := dk_182 1 41 (dk_at dksX10_rule_2 9 rfl rfl)
theorem dX10_rule_60 : decode cX10_rule 60 = .ok (.ifCond .eq 17, 3) := dk_153 0 17 (dk_at dksX10_rule_2 12 rfl rfl)
theorem dX10_rule_63 : decode cX10_rule 63 = .ok (.aload_n 0, 1) := dk_42 (dk_at dksX10_rule_2 15 rfl rfl)
theorem dX10_rule_64 : decode cX10_rule 64 = .ok (.invokevirtual 369, 3) := dk_182 1 113 (dk_at dksX10_rule_2 16 rfl rfl)
theorem dX10_rule_67 : decode cX10_rule 67 = .ok (.ifCond .eq 10, 3) := dk_153 0 10 (dk_at dksX10_rule_2 19 rfl rfl)
theorem dX10_rule_70 : decode cX10_rule 70 = .ok (.aload_n 0, 1) := dk_42 (dk_at dksX10_rule_2 22 rfl rfl)
theorem dX10_rule_71 : decode cX10_rule 71 = .ok (.invokevirtual 372, 3) := dk_182 1 116 (dk_at dksX10_rule_3 0 rfl rfl)
theorem dX10_rule_74 : decode cX10_rule 74 = .ok (.goto (-18), 3) := dk_167 255 238 (dk_at dksX10_rule_3 3 rfl rfl)
theorem dX10_rule_77 : decode cX10_rule 77 = .ok (.aload_n 0, 1) := dk_42 (dk_at dksX10_rule_3 6 rfl rfl)
theorem dX10_rule_78 : decode cX10_rule 78 = .ok (.invokevirtual 297, 3) := dk_182 1 41 (dk_at dksX10_rule_3 7 rfl rfl)
theorem dX10_rule_81 : decode cX10_rule 81 = .ok (.ifCond .ne 11, 3) := dk_154 0 11 (dk_at dksX10_rule_3 10 rfl rfl)
theorem dX10_rule_84 : decode cX10_rule 84 = .ok (.bipush (-2), 2) := dk_16 254 (dk_at dksX10_rule_3 13 rfl rfl)
theorem dX10_rule_86 : decode cX10_rule 86 = .ok (.aload_n 0, 1) := dk_42 (dk_at dksX10_rule_3 15 rfl rfl)
theorem dX10_rule_87 : decode cX10_rule 87 = .ok (.getfield 281, 3) := dk_180 1 25 (dk_at dksX10_rule_3 16 rfl rfl)
theorem dX10_rule_90 : decode cX10_rule 90 = .ok (.isub, 1) := dk_100 (dk_at dksX10_rule_3 19 rfl rfl)
theorem dX10_rule_91 : decode cX10_rule 91 = .ok (.ireturn, 1) := dk_172 (dk_at dksX10_rule_3 20 rfl rfl)
theorem dX10_rule_92 : decode cX10_rule 92 = .ok (.aload_n 0, 1) := dk_42 (dk_at dksX10_rule_3 21 rfl rfl)
theorem dX10_rule_93 : decode cX10_rule 93 = .ok (.invokevirtual 239, 3) := dk_182 0 239 (dk_at dksX10_rule_4 0 rfl rfl)
theorem dX10_rule_96 : decode cX10_rule 96 = .ok (.aload_n 0, 1) := dk_42 (dk_at dksX10_rule_4 3 rfl rfl)
theorem dX10_rule_97 : decode cX10_rule 97 = .ok (.getfield 260, 3) := dk_180 1 4 (dk_at dksX10_rule_4 4 rfl rfl)
theorem dX10_rule_100 : decode cX10_rule 100 = .ok (.ireturn, 1) := dk_172 (dk_at dksX10_rule_4 7 rfl rfl)
def dkwX10_fine_0 : List UInt8 := [42, 180, 1, 25, 2, 160, 0, 7, 4, 167, 0, 4, 3, 172]
abbrev dktX10_fine_0 : List UInt8 := dkwX10_fine_0 ++ []
theorem dksX10_fine_0 : cX10_fine.data.toList.drop 0 = dktX10_fine_0 := by decide +kernel
theorem dX10_fine_0 : decode cX10_fine 0 = .ok (.aload_n 0, 1) := dk_42 (dk_at dksX10_fine_0 0 rfl rfl)
theorem dX10_fine_1 : decode cX10_fine 1 = .ok (.getfield 281, 3) := dk_180 1 25 (dk_at dksX10_fine_0 1 rfl rfl)
theorem dX10_fine_4 : decode cX10_fine 4 = .ok (.iconst (-1), 1) := dk_2 (dk_at dksX10_fine_0 4 rfl rfl)
theorem dX10_fine_5 : decode cX10_fine 5 = .ok (.if_icmp .ne 7, 3) := dk_160 0 7 (dk_at dksX10_fine_0 5 rfl rfl)
theorem dX10_fine_8 : decode cX10_fine 8 = .ok (.iconst 1, 1) := dk_4 (dk_at dksX10_fine_0 8 rfl rfl)
theorem dX10_fine_9 : decode cX10_fine 9 = .ok (.goto 4, 3) := dk_167 0 4 (dk_at dksX10_fine_0 9 rfl rfl)
theorem dX10_fine_12 : decode cX10_fine 12 = .ok (.iconst 0, 1) := dk_3 (dk_at dksX10_fine_0 12 rfl rfl)
theorem dX10_fine_13 : decode cX10_fine 13 = .ok (.ireturn, 1) := dk_172 (dk_at dksX10_fine_0 13 rfl rfl)
def dkwX10_isMore_0 : List UInt8 := [42, 182, 1, 34, 87, 42, 180, 1, 28, 42, 180, 1, 31, 162, 0, 7, 4, 167, 0, 4, 3, 172]
abbrev dktX10_isMore_0 : List UInt8 := dkwX10_isMore_0 ++ []
theorem dksX10_isMore_0 : cX10_isMore.data.toList.drop 0 = dktX10_isMore_0 := by decide +kernel
theorem dX10_isMore_0 : decode cX10_isMore 0 = .ok (.aload_n 0, 1) := dk_42 (dk_at dksX10_isMore_0 0 rfl rfl)
theorem dX10_isMore_1 : decode cX10_isMore 1 = .ok (.invokevirtual 290, 3) := dk_182 1 34 (dk_at dksX10_isMore_0 1 rfl rfl)
theorem dX10_isMore_4 : decode cX10_isMore 4 = .ok (.pop, 1) := dk_87 (dk_at dksX10_isMore_0 4 rfl rfl)
theorem dX10_isMore_5 : decode cX10_isMore 5 = .ok (.aload_n 0, 1) := dk_42 (dk_at dksX10_isMore_0 5 rfl rfl)
theorem dX10_isMore_6 : decode cX10_isMore 6 = .ok (.getfield 284, 3) := dk_180 1 28 (dk_at dksX10_isMore_0 6 rfl rfl)
theorem dX10_isMore_9 : decode cX10_isMore 9 = .ok (.aload_n 0, 1) := dk_42 (dk_at dksX10_isMore_0 9 rfl rfl)
theorem dX10_isMore_10 : decode cX10_isMore 10 = .ok (.getfield 287, 3) := dk_180 1 31 (dk_at dksX10_isMore_0 10 rfl rfl)
theorem dX10_isMore_13 : decode cX10_isMore 13 = .ok (.if_icmp .ge 7, 3) := dk_162 0 7 (dk_at dksX10_isMore_0 13 rfl rfl)
theorem dX10_isMore_16 : decode cX10_isMore 16 = .ok (.iconst 1, 1) := dk_4 (dk_at dksX10_isMore_0 16 rfl rfl)
theorem dX10_isMore_17 : decode cX10_isMore 17 = .ok (.goto 4, 3) := dk_167 0 4 (dk_at dksX10_isMore_0 17 rfl rfl)
theorem dX10_isMore_20 : decode cX10_isMore 20 = .ok (.iconst 0, 1) := dk_3 (dk_at dksX10_isMore_0 20 rfl rfl)
theorem dX10_isMore_21 : decode cX10_isMore 21 = .ok (.ireturn, 1) := dk_172 (dk_at dksX10_isMore_0 21 rfl rfl)
def dkwX10_here_2 : List UInt8 := [162, 0, 15, 42, 180, 0, 38, 42, 180, 1, 28, 46, 167, 0, 4, 3, 172]
abbrev dktX10_here_2 : List UInt8 := dkwX10_here_2 ++ []
def dkwX10_here_1 : List UInt8 := [160, 0, 16, 42, 89, 180, 1, 28, 4, 96, 181, 1, 28, 167, 255, 221, 42, 180, 1, 28, 42, 180, 1, 31]
abbrev dktX10_here_1 : List UInt8 := dkwX10_here_1 ++ dktX10_here_2
def dkwX10_here_0 : List UInt8 := [42, 180, 1, 28, 42, 180, 1, 31, 162, 0, 30, 42, 180, 0, 38, 42, 180, 1, 28, 46, 16, 32]
abbrev dktX10_here_0 : List UInt8 := dkwX10_here_0 ++ dktX10_here_1
theorem dksX10_here_0 : cX10_here.data.toList.drop 0 = dktX10_here_0 := by decide +kernel
theorem dksX10_here_1 : cX10_here.data.toList.drop 22 = dktX10_here_1 := dk_seg dksX10_here_0 22 rfl rfl
theorem dksX10_here_2 : cX10_here.data.toList.drop 46 = dktX10_here_2 := dk_seg dksX10_here_1 24 rfl rfl
theorem dX10_here_0 : decode cX10_here 0 = .ok (.aload_n 0, 1) := dk_42 (dk_at dksX10_here_0 0 rfl rfl)
theorem dX10_here_1 : decode cX10_here 1 = .ok (.getfield 284, 3) := dk_180 1 28 (dk_at dksX10_here_0 1 rfl rfl)
theorem dX10_here_4 : decode cX10_here 4 = .ok (.aload_n 0, 1) := dk_42 (dk_at dksX10_here_0 4 rfl rfl)
theorem dX10_here_5 : decode cX10_here 5 = .ok (.getfield 287, 3) := dk_180 1 31 (dk_at dksX10_here_0 5 rfl rfl)
theorem dX10_here_8 : decode cX10_here 8 = .ok (.if_icmp .ge 30, 3) := dk_162 0 30 (dk_at dksX10_here_0 8 rfl rfl)
theorem dX10_here_11 : decode cX10_here 11 = .ok (.aload_n 0, 1) := dk_42 (dk_at dksX10_here_0 11 rfl rfl)
theorem dX10_here_12 : decode cX10_here 12 = .ok (.getfield 38, 3) := dk_180 0 38 (dk_at dksX10_here_0 12 rfl rfl)
theorem dX10_here_15 : decode cX10_here 15 = .ok (.aload_n 0, 1) := dk_42 (dk_at dksX10_here_0 15 rfl rfl)
theorem dX10_here_16 : decode cX10_here 16 = .ok (.getfield 284, 3) := dk_180 1 28 (dk_at dksX10_here_0 16 rfl rfl)
theorem dX10_here_19 : decode cX10_here 19 = .ok (.iaload, 1) := dk_46 (dk_at dksX10_here_0 19 rfl rfl)
theorem dX10_here_20 : decode cX10_here 20 = .ok (.bipush 32, 2) := dk_16 32 (dk_at dksX10_here_0 20 rfl rfl)
theorem dX10_here_22 : decode cX10_here 22 = .ok (.if_icmp .ne 16, 3) := dk_160 0 16 (dk_at dksX10_here_1 0 rfl rfl)
theorem dX10_here_25 : decode cX10_here 25 = .ok (.aload_n 0, 1) := dk_42 (dk_at dksX10_here_1 3 rfl rfl)
theorem dX10_here_26 : decode cX10_here 26 = .ok (.dup, 1) := dk_89 (dk_at dksX10_here_1 4 rfl rfl)
theorem dX10_here_27 : decode cX10_here 27 = .ok (.getfield 284, 3) := dk_180 1 28 (dk_at dksX10_here_1 5 rfl rfl)
theorem dX10_here_30 : decode cX10_here 30 = .ok (.iconst 1, 1) := dk_4 (dk_at dksX10_here_1 8 rfl rfl)
theorem dX10_here_31 : decode cX10_here 31 = .ok (.iadd, 1) := dk_96 (dk_at dksX10_here_1 9 rfl rfl)
theorem dX10_here_32 : decode cX10_here 32 = .ok (.putfield 284, 3) := dk_181 1 28 (dk_at dksX10_here_1 10 rfl rfl)
theorem dX10_here_35 : decode cX10_here 35 = .ok (.goto (-35), 3) := dk_167 255 221 (dk_at dksX10_here_1 13 rfl rfl)
theorem dX10_here_38 : decode cX10_here 38 = .ok (.aload_n 0, 1) := dk_42 (dk_at dksX10_here_1 16 rfl rfl)
theorem dX10_here_39 : decode cX10_here 39 = .ok (.getfield 284, 3) := dk_180 1 28 (dk_at dksX10_here_1 17 rfl rfl)
theorem dX10_here_42 : decode cX10_here 42 = .ok (.aload_n 0, 1) := dk_42 (dk_at dksX10_here_1 20 rfl rfl)
theorem dX10_here_43 : decode cX10_here 43 = .ok (.getfield 287, 3) := dk_180 1 31 (dk_at dksX10_here_1 21 rfl rfl)
theorem dX10_here_46 : decode cX10_here 46 = .ok (.if_icmp .ge 15, 3) := dk_162 0 15 (dk_at dksX10_here_2 0 rfl rfl)
theorem dX10_here_49 : decode cX10_here 49 = .ok (.aload_n 0, 1) := dk_42 (dk_at dksX10_here_2 3 rfl rfl)
theorem dX10_here_50 : decode cX10_here 50 = .ok (.getfield 38, 3) := dk_180 0 38 (dk_at dksX10_here_2 4 rfl rfl)
theorem dX10_here_53 : decode cX10_here 53 = .ok (.aload_n 0, 1) := dk_42 (dk_at dksX10_here_2 7 rfl rfl)
theorem dX10_here_54 : decode cX10_here 54 = .ok (.getfield 284, 3) := dk_180 1 28 (dk_at dksX10_here_2 8 rfl rfl)
theorem dX10_here_57 : decode cX10_here 57 = .ok (.iaload, 1) := dk_46 (dk_at dksX10_here_2 11 rfl rfl)
theorem dX10_here_58 : decode cX10_here 58 = .ok (.goto 4, 3) := dk_167 0 4 (dk_at dksX10_here_2 12 rfl rfl)
theorem dX10_here_61 : decode cX10_here 61 = .ok (.iconst 0, 1) := dk_3 (dk_at dksX10_here_2 15 rfl rfl)
theorem dX10_here_62 : decode cX10_here 62 = .ok (.ireturn, 1) := dk_172 (dk_at dksX10_here_2 16 rfl rfl)
def dkwX10_readClause_8 : List UInt8 := [182, 1, 58, 42, 89, 180, 0, 242, 4, 96, 181, 0, 242, 177]
abbrev dktX10_readClause_8 : List UInt8 := dkwX10_readClause_8 ++ []
def dkwX10_readClause_7 : List UInt8 := [42, 42, 3, 17, 3, 231, 182, 1, 61, 181, 0, 254, 167, 0, 7, 42, 182, 1, 110, 42, 16, 59]
abbrev dktX10_readClause_7 : List UInt8 := dkwX10_readClause_7 ++ dktX10_readClause_8
def dkwX10_readClause_6 : List UInt8 := [160, 0, 17, 42, 42, 3, 16, 100, 182, 1, 61, 181, 0, 251, 167, 0, 29, 27, 17, 12, 48, 160, 0, 18]
abbrev dktX10_readClause_6 : List UInt8 := dkwX10_readClause_6 ++ dktX10_readClause_7
def dkwX10_readClause_5 : List UInt8 := [160, 0, 18, 42, 42, 3, 17, 1, 244, 182, 1, 61, 181, 0, 248, 167, 0, 50, 27, 19, 1, 106]
abbrev dktX10_readClause_5 : List UInt8 := dkwX10_readClause_5 ++ dktX10_readClause_6
def dkwX10_readClause_4 : List UInt8 := [19, 1, 104, 160, 0, 17, 42, 42, 4, 16, 50, 182, 1, 61, 181, 0, 245, 167, 0, 72, 27, 19, 1, 105]
abbrev dktX10_readClause_4 : List UInt8 := dkwX10_readClause_4 ++ dktX10_readClause_5
def dkwX10_readClause_3 : List UInt8 := [182, 1, 48, 177, 42, 182, 1, 87, 27, 19, 1, 103, 160, 0, 10, 42, 182, 1, 107, 167, 0, 93, 27]
abbrev dktX10_readClause_3 : List UInt8 := dkwX10_readClause_3 ++ dktX10_readClause_4
def dkwX10_readClause_2 : List UInt8 := [4, 167, 0, 4, 3, 61, 28, 153, 0, 12, 42, 180, 0, 242, 16, 12, 160, 0, 12, 42, 42, 180, 1, 28]
abbrev dktX10_readClause_2 : List UInt8 := dkwX10_readClause_2 ++ dktX10_readClause_3
def dkwX10_readClause_1 : List UInt8 := [159, 0, 24, 27, 19, 1, 106, 159, 0, 17, 27, 17, 12, 48, 159, 0, 10, 27, 17, 64, 57, 160, 0, 7]
abbrev dktX10_readClause_1 : List UInt8 := dkwX10_readClause_1 ++ dktX10_readClause_2
def dkwX10_readClause_0 : List UInt8 := [42, 182, 1, 77, 60, 27, 19, 1, 103, 159, 0, 38, 27, 19, 1, 104, 159, 0, 31, 27, 19, 1, 105]
abbrev dktX10_readClause_0 : List UInt8 := dkwX10_readClause_0 ++ dktX10_readClause_1
theorem dksX10_readClause_0 : cX10_readClause.data.toList.drop 0 = dktX10_readClause_0 := by decide +kernel
theorem dksX10_readClause_1 : cX10_readClause.data.toList.drop 23 = dktX10_readClause_1 := dk_seg dksX10_readClause_0 23 rfl rfl
theorem dksX10_readClause_2 : cX10_readClause.data.toList.drop 47 = dktX10_readClause_2 := dk_seg dksX10_readClause_1 24 rfl rfl
theorem dksX10_readClause_3 : cX10_readClause.data.toList.drop 71 = dktX10_readClause_3 := dk_seg dksX10_readClause_2 24 rfl rfl
theorem dksX10_readClause_4 : cX10_readClause.data.toList.drop 94 = dktX10_readClause_4 := dk_seg dksX10_readClause_3 23 rfl rfl
theorem dksX10_readClause_5 : cX10_readClause.data.toList.drop 118 = dktX10_readClause_5 := dk_seg dksX10_readClause_4 24 rfl rfl
theorem dksX10_readClause_6 : cX10_readClause.data.toList.drop 140 = dktX10_readClause_6 := dk_seg dksX10_readClause_5 22 rfl rfl
theorem dksX10_readClause_7 : cX10_readClause.data.toList.drop 164 = dktX10_readClause_7 := dk_seg dksX10_readClause_6 24 rfl rfl
theorem dksX10_readClause_8 : cX10_readClause.data.toList.drop 186 = dktX10_readClause_8 := dk_seg dksX10_readClause_7 22 rfl rfl
theorem dX10_readClause_0 : decode cX10_readClause 0 = .ok (.aload_n 0, 1) := dk_42 (dk_at dksX10_readClause_0 0 rfl rfl)
theorem dX10_readClause_1 : decode cX10_readClause 1 = .ok (.invokevirtual 333, 3) := dk_182 1 77 (dk_at dksX10_readClause_0 1 rfl rfl)
theorem dX10_readClause_4 : decode cX10_readClause 4 = .ok (.istore_n 1, 1) := dk_60 (dk_at dksX10_readClause_0 4 rfl rfl)
theorem dX10_readClause_5 : decode cX10_readClause 5 = .ok (.iload_n 1, 1) := dk_27 (dk_at dksX10_readClause_0 5 rfl rfl)
theorem dX10_readClause_6 : decode cX10_readClause 6 = .ok (.ldc_w 359, 3) := dk_19 1 103 (dk_at dksX10_readClause_0 6 rfl rfl)
theorem dX10_readClause_9 : decode cX10_readClause 9 = .ok (.if_icmp .eq 38, 3) := dk_159 0 38 (dk_at dksX10_readClause_0 9 rfl rfl)
theorem dX10_readClause_12 : decode cX10_readClause 12 = .ok (.iload_n 1, 1) := dk_27 (dk_at dksX10_readClause_0 12 rfl rfl)
theorem dX10_readClause_13 : decode cX10_readClause 13 = .ok (.ldc_w 360, 3) := dk_19 1 104 (dk_at dksX10_readClause_0 13 rfl rfl)
theorem dX10_readClause_16 : decode cX10_readClause 16 = .ok (.if_icmp .eq 31, 3) := dk_159 0 31 (dk_at dksX10_readClause_0 16 rfl rfl)
theorem dX10_readClause_19 : decode cX10_readClause 19 = .ok (.iload_n 1, 1) := dk_27 (dk_at dksX10_readClause_0 19 rfl rfl)
theorem dX10_readClause_20 : decode cX10_readClause 20 = .ok (.ldc_w 361, 3) := dk_19 1 105 (dk_at dksX10_readClause_0 20 rfl rfl)
theorem dX10_readClause_23 : decode cX10_readClause 23 = .ok (.if_icmp .eq 24, 3) := dk_159 0 24 (dk_at dksX10_readClause_1 0 rfl rfl)
theorem dX10_readClause_26 : decode cX10_readClause 26 = .ok (.iload_n 1, 1) := dk_27 (dk_at dksX10_readClause_1 3 rfl rfl)
theorem dX10_readClause_27 : decode cX10_readClause 27 = .ok (.ldc_w 362, 3) := dk_19 1 106 (dk_at dksX10_readClause_1 4 rfl rfl)
theorem dX10_readClause_30 : decode cX10_readClause 30 = .ok (.if_icmp .eq 17, 3) := dk_159 0 17 (dk_at dksX10_readClause_1 7 rfl rfl)
theorem dX10_readClause_33 : decode cX10_readClause 33 = .ok (.iload_n 1, 1) := dk_27 (dk_at dksX10_readClause_1 10 rfl rfl)
theorem dX10_readClause_34 : decode cX10_readClause 34 = .ok (.sipush 3120, 3) := dk_17 12 48 (dk_at dksX10_readClause_1 11 rfl rfl)
theorem dX10_readClause_37 : decode cX10_readClause 37 = .ok (.if_icmp .eq 10, 3) := dk_159 0 10 (dk_at dksX10_readClause_1 14 rfl rfl)
theorem dX10_readClause_40 : decode cX10_readClause 40 = .ok (.iload_n 1, 1) := dk_27 (dk_at dksX10_readClause_1 17 rfl rfl)
theorem dX10_readClause_41 : decode cX10_readClause 41 = .ok (.sipush 16441, 3) := dk_17 64 57 (dk_at dksX10_readClause_1 18 rfl rfl)
theorem dX10_readClause_44 : decode cX10_readClause 44 = .ok (.if_icmp .ne 7, 3) := dk_160 0 7 (dk_at dksX10_readClause_1 21 rfl rfl)
theorem dX10_readClause_47 : decode cX10_readClause 47 = .ok (.iconst 1, 1) := dk_4 (dk_at dksX10_readClause_2 0 rfl rfl)
theorem dX10_readClause_48 : decode cX10_readClause 48 = .ok (.goto 4, 3) := dk_167 0 4 (dk_at dksX10_readClause_2 1 rfl rfl)
theorem dX10_readClause_51 : decode cX10_readClause 51 = .ok (.iconst 0, 1) := dk_3 (dk_at dksX10_readClause_2 4 rfl rfl)
theorem dX10_readClause_52 : decode cX10_readClause 52 = .ok (.istore_n 2, 1) := dk_61 (dk_at dksX10_readClause_2 5 rfl rfl)
theorem dX10_readClause_53 : decode cX10_readClause 53 = .ok (.iload_n 2, 1) := dk_28 (dk_at dksX10_readClause_2 6 rfl rfl)
theorem dX10_readClause_54 : decode cX10_readClause 54 = .ok (.ifCond .eq 12, 3) := dk_153 0 12 (dk_at dksX10_readClause_2 7 rfl rfl)
theorem dX10_readClause_57 : decode cX10_readClause 57 = .ok (.aload_n 0, 1) := dk_42 (dk_at dksX10_readClause_2 10 rfl rfl)
theorem dX10_readClause_58 : decode cX10_readClause 58 = .ok (.getfield 242, 3) := dk_180 0 242 (dk_at dksX10_readClause_2 11 rfl rfl)
theorem dX10_readClause_61 : decode cX10_readClause 61 = .ok (.bipush 12, 2) := dk_16 12 (dk_at dksX10_readClause_2 14 rfl rfl)
theorem dX10_readClause_63 : decode cX10_readClause 63 = .ok (.if_icmp .ne 12, 3) := dk_160 0 12 (dk_at dksX10_readClause_2 16 rfl rfl)
theorem dX10_readClause_66 : decode cX10_readClause 66 = .ok (.aload_n 0, 1) := dk_42 (dk_at dksX10_readClause_2 19 rfl rfl)
theorem dX10_readClause_67 : decode cX10_readClause 67 = .ok (.aload_n 0, 1) := dk_42 (dk_at dksX10_readClause_2 20 rfl rfl)
theorem dX10_readClause_68 : decode cX10_readClause 68 = .ok (.getfield 284, 3) := dk_180 1 28 (dk_at dksX10_readClause_2 21 rfl rfl)
theorem dX10_readClause_71 : decode cX10_readClause 71 = .ok (.invokevirtual 304, 3) := dk_182 1 48 (dk_at dksX10_readClause_3 0 rfl rfl)
theorem dX10_readClause_74 : decode cX10_readClause 74 = .ok (.return_, 1) := dk_177 (dk_at dksX10_readClause_3 3 rfl rfl)
theorem dX10_readClause_75 : decode cX10_readClause 75 = .ok (.aload_n 0, 1) := dk_42 (dk_at dksX10_readClause_3 4 rfl rfl)
theorem dX10_readClause_76 : decode cX10_readClause 76 = .ok (.invokevirtual 343, 3) := dk_182 1 87 (dk_at dksX10_readClause_3 5 rfl rfl)
theorem dX10_readClause_79 : decode cX10_readClause 79 = .ok (.iload_n 1, 1) := dk_27 (dk_at dksX10_readClause_3 8 rfl rfl)
theorem dX10_readClause_80 : decode cX10_readClause 80 = .ok (.ldc_w 359, 3) := dk_19 1 103 (dk_at dksX10_readClause_3 9 rfl rfl)
theorem dX10_readClause_83 : decode cX10_readClause 83 = .ok (.if_icmp .ne 10, 3) := dk_160 0 10 (dk_at dksX10_readClause_3 12 rfl rfl)
theorem dX10_readClause_86 : decode cX10_readClause 86 = .ok (.aload_n 0, 1) := dk_42 (dk_at dksX10_readClause_3 15 rfl rfl)
theorem dX10_readClause_87 : decode cX10_readClause 87 = .ok (.invokevirtual 363, 3) := dk_182 1 107 (dk_at dksX10_readClause_3 16 rfl rfl)
theorem dX10_readClause_90 : decode cX10_readClause 90 = .ok (.goto 93, 3) := dk_167 0 93 (dk_at dksX10_readClause_3 19 rfl rfl)
theorem dX10_readClause_93 : decode cX10_readClause 93 = .ok (.iload_n 1, 1) := dk_27 (dk_at dksX10_readClause_3 22 rfl rfl)
theorem dX10_readClause_94 : decode cX10_readClause 94 = .ok (.ldc_w 360, 3) := dk_19 1 104 (dk_at dksX10_readClause_4 0 rfl rfl)
theorem dX10_readClause_97 : decode cX10_readClause 97 = .ok (.if_icmp .ne 17, 3) := dk_160 0 17 (dk_at dksX10_readClause_4 3 rfl rfl)
theorem dX10_readClause_100 : decode cX10_readClause 100 = .ok (.aload_n 0, 1) := dk_42 (dk_at dksX10_readClause_4 6 rfl rfl)
theorem dX10_readClause_101 : decode cX10_readClause 101 = .ok (.aload_n 0, 1) := dk_42 (dk_at dksX10_readClause_4 7 rfl rfl)
theorem dX10_readClause_102 : decode cX10_readClause 102 = .ok (.iconst 1, 1) := dk_4 (dk_at dksX10_readClause_4 8 rfl rfl)
theorem dX10_readClause_103 : decode cX10_readClause 103 = .ok (.bipush 50, 2) := dk_16 50 (dk_at dksX10_readClause_4 9 rfl rfl)
theorem dX10_readClause_105 : decode cX10_readClause 105 = .ok (.invokevirtual 317, 3) := dk_182 1 61 (dk_at dksX10_readClause_4 11 rfl rfl)
theorem dX10_readClause_108 : decode cX10_readClause 108 = .ok (.putfield 245, 3) := dk_181 0 245 (dk_at dksX10_readClause_4 14 rfl rfl)
theorem dX10_readClause_111 : decode cX10_readClause 111 = .ok (.goto 72, 3) := dk_167 0 72 (dk_at dksX10_readClause_4 17 rfl rfl)
theorem dX10_readClause_114 : decode cX10_readClause 114 = .ok (.iload_n 1, 1) := dk_27 (dk_at dksX10_readClause_4 20 rfl rfl)
theorem dX10_readClause_115 : decode cX10_readClause 115 = .ok (.ldc_w 361, 3) := dk_19 1 105 (dk_at dksX10_readClause_4 21 rfl rfl)
theorem dX10_readClause_118 : decode cX10_readClause 118 = .ok (.if_icmp .ne 18, 3) := dk_160 0 18 (dk_at dksX10_readClause_5 0 rfl rfl)
theorem dX10_readClause_121 : decode cX10_readClause 121 = .ok (.aload_n 0, 1) := dk_42 (dk_at dksX10_readClause_5 3 rfl rfl)
theorem dX10_readClause_122 : decode cX10_readClause 122 = .ok (.aload_n 0, 1) := dk_42 (dk_at dksX10_readClause_5 4 rfl rfl)
theorem dX10_readClause_123 : decode cX10_readClause 123 = .ok (.iconst 0, 1) := dk_3 (dk_at dksX10_readClause_5 5 rfl rfl)
theorem dX10_readClause_124 : decode cX10_readClause 124 = .ok (.sipush 500, 3) := dk_17 1 244 (dk_at dksX10_readClause_5 6 rfl rfl)
theorem dX10_readClause_127 : decode cX10_readClause 127 = .ok (.invokevirtual 317, 3) := dk_182 1 61 (dk_at dksX10_readClause_5 9 rfl rfl)
theorem dX10_readClause_130 : decode cX10_readClause 130 = .ok (.putfield 248, 3) := dk_181 0 248 (dk_at dksX10_readClause_5 12 rfl rfl)
theorem dX10_readClause_133 : decode cX10_readClause 133 = .ok (.goto 50, 3) := dk_167 0 50 (dk_at dksX10_readClause_5 15 rfl rfl)
theorem dX10_readClause_136 : decode cX10_readClause 136 = .ok (.iload_n 1, 1) := dk_27 (dk_at dksX10_readClause_5 18 rfl rfl)
theorem dX10_readClause_137 : decode cX10_readClause 137 = .ok (.ldc_w 362, 3) := dk_19 1 106 (dk_at dksX10_readClause_5 19 rfl rfl)
theorem dX10_readClause_140 : decode cX10_readClause 140 = .ok (.if_icmp .ne 17, 3) := dk_160 0 17 (dk_at dksX10_readClause_6 0 rfl rfl)
theorem dX10_readClause_143 : decode cX10_readClause 143 = .ok (.aload_n 0, 1) := dk_42 (dk_at dksX10_readClause_6 3 rfl rfl)
theorem dX10_readClause_144 : decode cX10_readClause 144 = .ok (.aload_n 0, 1) := dk_42 (dk_at dksX10_readClause_6 4 rfl rfl)
theorem dX10_readClause_145 : decode cX10_readClause 145 = .ok (.iconst 0, 1) := dk_3 (dk_at dksX10_readClause_6 5 rfl rfl)
theorem dX10_readClause_146 : decode cX10_readClause 146 = .ok (.bipush 100, 2) := dk_16 100 (dk_at dksX10_readClause_6 6 rfl rfl)
theorem dX10_readClause_148 : decode cX10_readClause 148 = .ok (.invokevirtual 317, 3) := dk_182 1 61 (dk_at dksX10_readClause_6 8 rfl rfl)
theorem dX10_readClause_151 : decode cX10_readClause 151 = .ok (.putfield 251, 3) := dk_181 0 251 (dk_at dksX10_readClause_6 11 rfl rfl)
theorem dX10_readClause_154 : decode cX10_readClause 154 = .ok (.goto 29, 3) := dk_167 0 29 (dk_at dksX10_readClause_6 14 rfl rfl)
theorem dX10_readClause_157 : decode cX10_readClause 157 = .ok (.iload_n 1, 1) := dk_27 (dk_at dksX10_readClause_6 17 rfl rfl)
theorem dX10_readClause_158 : decode cX10_readClause 158 = .ok (.sipush 3120, 3) := dk_17 12 48 (dk_at dksX10_readClause_6 18 rfl rfl)
theorem dX10_readClause_161 : decode cX10_readClause 161 = .ok (.if_icmp .ne 18, 3) := dk_160 0 18 (dk_at dksX10_readClause_6 21 rfl rfl)
theorem dX10_readClause_164 : decode cX10_readClause 164 = .ok (.aload_n 0, 1) := dk_42 (dk_at dksX10_readClause_7 0 rfl rfl)
theorem dX10_readClause_165 : decode cX10_readClause 165 = .ok (.aload_n 0, 1) := dk_42 (dk_at dksX10_readClause_7 1 rfl rfl)
theorem dX10_readClause_166 : decode cX10_readClause 166 = .ok (.iconst 0, 1) := dk_3 (dk_at dksX10_readClause_7 2 rfl rfl)
theorem dX10_readClause_167 : decode cX10_readClause 167 = .ok (.sipush 999, 3) := dk_17 3 231 (dk_at dksX10_readClause_7 3 rfl rfl)
theorem dX10_readClause_170 : decode cX10_readClause 170 = .ok (.invokevirtual 317, 3) := dk_182 1 61 (dk_at dksX10_readClause_7 6 rfl rfl)
theorem dX10_readClause_173 : decode cX10_readClause 173 = .ok (.putfield 254, 3) := dk_181 0 254 (dk_at dksX10_readClause_7 9 rfl rfl)
theorem dX10_readClause_176 : decode cX10_readClause 176 = .ok (.goto 7, 3) := dk_167 0 7 (dk_at dksX10_readClause_7 12 rfl rfl)
theorem dX10_readClause_179 : decode cX10_readClause 179 = .ok (.aload_n 0, 1) := dk_42 (dk_at dksX10_readClause_7 15 rfl rfl)
theorem dX10_readClause_180 : decode cX10_readClause 180 = .ok (.invokevirtual 366, 3) := dk_182 1 110 (dk_at dksX10_readClause_7 16 rfl rfl)
theorem dX10_readClause_183 : decode cX10_readClause 183 = .ok (.aload_n 0, 1) := dk_42 (dk_at dksX10_readClause_7 19 rfl rfl)
theorem dX10_readClause_184 : decode cX10_readClause 184 = .ok (.bipush 59, 2) := dk_16 59 (dk_at dksX10_readClause_7 20 rfl rfl)
theorem dX10_readClause_186 : decode cX10_readClause 186 = .ok (.invokevirtual 314, 3) := dk_182 1 58 (dk_at dksX10_readClause_8 0 rfl rfl)
theorem dX10_readClause_189 : decode cX10_readClause 189 = .ok (.aload_n 0, 1) := dk_42 (dk_at dksX10_readClause_8 3 rfl rfl)
theorem dX10_readClause_190 : decode cX10_readClause 190 = .ok (.dup, 1) := dk_89 (dk_at dksX10_readClause_8 4 rfl rfl)
theorem dX10_readClause_191 : decode cX10_readClause 191 = .ok (.getfield 242, 3) := dk_180 0 242 (dk_at dksX10_readClause_8 5 rfl rfl)
theorem dX10_readClause_194 : decode cX10_readClause 194 = .ok (.iconst 1, 1) := dk_4 (dk_at dksX10_readClause_8 8 rfl rfl)
theorem dX10_readClause_195 : decode cX10_readClause 195 = .ok (.iadd, 1) := dk_96 (dk_at dksX10_readClause_8 9 rfl rfl)
theorem dX10_readClause_196 : decode cX10_readClause 196 = .ok (.putfield 242, 3) := dk_181 0 242 (dk_at dksX10_readClause_8 10 rfl rfl)
theorem dX10_readClause_199 : decode cX10_readClause 199 = .ok (.return_, 1) := dk_177 (dk_at dksX10_readClause_8 13 rfl rfl)
def dkwX10_word_3 : List UInt8 := [164, 0, 7, 3, 167, 0, 4, 27, 172]
abbrev dktX10_word_3 : List UInt8 := dkwX10_word_3 ++ []
def dkwX10_word_2 : List UInt8 := [29, 46, 16, 96, 100, 128, 167, 0, 4, 3, 60, 132, 2, 1, 132, 3, 1, 167, 255, 206, 28, 16, 6]
abbrev dktX10_word_2 : List UInt8 := dkwX10_word_2 ++ dktX10_word_3
def dkwX10_word_1 : List UInt8 := [180, 0, 38, 29, 46, 184, 1, 38, 153, 0, 36, 28, 16, 6, 162, 0, 19, 27, 8, 120, 42, 180, 0, 38]
abbrev dktX10_word_1 : List UInt8 := dkwX10_word_1 ++ dktX10_word_2
def dkwX10_word_0 : List UInt8 := [42, 182, 1, 34, 87, 3, 60, 3, 61, 42, 180, 1, 28, 62, 29, 42, 180, 1, 31, 162, 0, 48, 42]
abbrev dktX10_word_0 : List UInt8 := dkwX10_word_0 ++ dktX10_word_1
theorem dksX10_word_0 : cX10_word.data.toList.drop 0 = dktX10_word_0 := by decide +kernel
theorem dksX10_word_1 : cX10_word.data.toList.drop 23 = dktX10_word_1 := dk_seg dksX10_word_0 23 rfl rfl
theorem dksX10_word_2 : cX10_word.data.toList.drop 47 = dktX10_word_2 := dk_seg dksX10_word_1 24 rfl rfl
theorem dksX10_word_3 : cX10_word.data.toList.drop 70 = dktX10_word_3 := dk_seg dksX10_word_2 23 rfl rfl
theorem dX10_word_0 : decode cX10_word 0 = .ok (.aload_n 0, 1) := dk_42 (dk_at dksX10_word_0 0 rfl rfl)
theorem dX10_word_1 : decode cX10_word 1 = .ok (.invokevirtual 290, 3) := dk_182 1 34 (dk_at dksX10_word_0 1 rfl rfl)
theorem dX10_word_4 : decode cX10_word 4 = .ok (.pop, 1) := dk_87 (dk_at dksX10_word_0 4 rfl rfl)
theorem dX10_word_5 : decode cX10_word 5 = .ok (.iconst 0, 1) := dk_3 (dk_at dksX10_word_0 5 rfl rfl)
theorem dX10_word_6 : decode cX10_word 6 = .ok (.istore_n 1, 1) := dk_60 (dk_at dksX10_word_0 6 rfl rfl)
theorem dX10_word_7 : decode cX10_word 7 = .ok (.iconst 0, 1) := dk_3 (dk_at dksX10_word_0 7 rfl rfl)
theorem dX10_word_8 : decode cX10_word 8 = .ok (.istore_n 2, 1) := dk_61 (dk_at dksX10_word_0 8 rfl rfl)
theorem dX10_word_9 : decode cX10_word 9 = .ok (.aload_n 0, 1) := dk_42 (dk_at dksX10_word_0 9 rfl rfl)
theorem dX10_word_10 : decode cX10_word 10 = .ok (.getfield 284, 3) := dk_180 1 28 (dk_at dksX10_word_0 10 rfl rfl)
theorem dX10_word_13 : decode cX10_word 13 = .ok (.istore_n 3, 1) := dk_62 (dk_at dksX10_word_0 13 rfl rfl)
theorem dX10_word_14 : decode cX10_word 14 = .ok (.iload_n 3, 1) := dk_29 (dk_at dksX10_word_0 14 rfl rfl)
theorem dX10_word_15 : decode cX10_word 15 = .ok (.aload_n 0, 1) := dk_42 (dk_at dksX10_word_0 15 rfl rfl)
theorem dX10_word_16 : decode cX10_word 16 = .ok (.getfield 287, 3) := dk_180 1 31 (dk_at dksX10_word_0 16 rfl rfl)
theorem dX10_word_19 : decode cX10_word 19 = .ok (.if_icmp .ge 48, 3) := dk_162 0 48 (dk_at dksX10_word_0 19 rfl rfl)
theorem dX10_word_22 : decode cX10_word 22 = .ok (.aload_n 0, 1) := dk_42 (dk_at dksX10_word_0 22 rfl rfl)
theorem dX10_word_23 : decode cX10_word 23 = .ok (.getfield 38, 3) := dk_180 0 38 (dk_at dksX10_word_1 0 rfl rfl)
theorem dX10_word_26 : decode cX10_word 26 = .ok (.iload_n 3, 1) := dk_29 (dk_at dksX10_word_1 3 rfl rfl)
theorem dX10_word_27 : decode cX10_word 27 = .ok (.iaload, 1) := dk_46 (dk_at dksX10_word_1 4 rfl rfl)
theorem dX10_word_28 : decode cX10_word 28 = .ok (.invokestatic 294, 3) := dk_184 1 38 (dk_at dksX10_word_1 5 rfl rfl)
theorem dX10_word_31 : decode cX10_word 31 = .ok (.ifCond .eq 36, 3) := dk_153 0 36 (dk_at dksX10_word_1 8 rfl rfl)
theorem dX10_word_34 : decode cX10_word 34 = .ok (.iload_n 2, 1) := dk_28 (dk_at dksX10_word_1 11 rfl rfl)
theorem dX10_word_35 : decode cX10_word 35 = .ok (.bipush 6, 2) := dk_16 6 (dk_at dksX10_word_1 12 rfl rfl)
theorem dX10_word_37 : decode cX10_word 37 = .ok (.if_icmp .ge 19, 3) := dk_162 0 19 (dk_at dksX10_word_1 14 rfl rfl)
theorem dX10_word_40 : decode cX10_word 40 = .ok (.iload_n 1, 1) := dk_27 (dk_at dksX10_word_1 17 rfl rfl)
theorem dX10_word_41 : decode cX10_word 41 = .ok (.iconst 5, 1) := dk_8 (dk_at dksX10_word_1 18 rfl rfl)
theorem dX10_word_42 : decode cX10_word 42 = .ok (.ishl, 1) := dk_120 (dk_at dksX10_word_1 19 rfl rfl)
theorem dX10_word_43 : decode cX10_word 43 = .ok (.aload_n 0, 1) := dk_42 (dk_at dksX10_word_1 20 rfl rfl)
theorem dX10_word_44 : decode cX10_word 44 = .ok (.getfield 38, 3) := dk_180 0 38 (dk_at dksX10_word_1 21 rfl rfl)
theorem dX10_word_47 : decode cX10_word 47 = .ok (.iload_n 3, 1) := dk_29 (dk_at dksX10_word_2 0 rfl rfl)
theorem dX10_word_48 : decode cX10_word 48 = .ok (.iaload, 1) := dk_46 (dk_at dksX10_word_2 1 rfl rfl)
theorem dX10_word_49 : decode cX10_word 49 = .ok (.bipush 96, 2) := dk_16 96 (dk_at dksX10_word_2 2 rfl rfl)
theorem dX10_word_51 : decode cX10_word 51 = .ok (.isub, 1) := dk_100 (dk_at dksX10_word_2 4 rfl rfl)
theorem dX10_word_52 : decode cX10_word 52 = .ok (.ior, 1) := dk_128 (dk_at dksX10_word_2 5 rfl rfl)
theorem dX10_word_53 : decode cX10_word 53 = .ok (.goto 4, 3) := dk_167 0 4 (dk_at dksX10_word_2 6 rfl rfl)
theorem dX10_word_56 : decode cX10_word 56 = .ok (.iconst 0, 1) := dk_3 (dk_at dksX10_word_2 9 rfl rfl)
theorem dX10_word_57 : decode cX10_word 57 = .ok (.istore_n 1, 1) := dk_60 (dk_at dksX10_word_2 10 rfl rfl)
theorem dX10_word_58 : decode cX10_word 58 = .ok (.iinc 2 1, 3) := dk_132 2 1 (dk_at dksX10_word_2 11 rfl rfl)
theorem dX10_word_61 : decode cX10_word 61 = .ok (.iinc 3 1, 3) := dk_132 3 1 (dk_at dksX10_word_2 14 rfl rfl)
theorem dX10_word_64 : decode cX10_word 64 = .ok (.goto (-50), 3) := dk_167 255 206 (dk_at dksX10_word_2 17 rfl rfl)
theorem dX10_word_67 : decode cX10_word 67 = .ok (.iload_n 2, 1) := dk_28 (dk_at dksX10_word_2 20 rfl rfl)
theorem dX10_word_68 : decode cX10_word 68 = .ok (.bipush 6, 2) := dk_16 6 (dk_at dksX10_word_2 21 rfl rfl)
theorem dX10_word_70 : decode cX10_word 70 = .ok (.if_icmp .le 7, 3) := dk_164 0 7 (dk_at dksX10_word_3 0 rfl rfl)
theorem dX10_word_73 : decode cX10_word 73 = .ok (.iconst 0, 1) := dk_3 (dk_at dksX10_word_3 3 rfl rfl)
theorem dX10_word_74 : decode cX10_word 74 = .ok (.goto 4, 3) := dk_167 0 4 (dk_at dksX10_word_3 4 rfl rfl)
theorem dX10_word_77 : decode cX10_word 77 = .ok (.iload_n 1, 1) := dk_27 (dk_at dksX10_word_3 7 rfl rfl)
theorem dX10_word_78 : decode cX10_word 78 = .ok (.ireturn, 1) := dk_172 (dk_at dksX10_word_3 8 rfl rfl)
def dkwX10_isSmall_0 : List UInt8 := [26, 16, 97, 161, 0, 13, 26, 16, 122, 163, 0, 7, 4, 167, 0, 4, 3, 172]
abbrev dktX10_isSmall_0 : List UInt8 := dkwX10_isSmall_0 ++ []
theorem dksX10_isSmall_0 : cX10_isSmall.data.toList.drop 0 = dktX10_isSmall_0 := by decide +kernel
theorem dX10_isSmall_0 : decode cX10_isSmall 0 = .ok (.iload_n 0, 1) := dk_26 (dk_at dksX10_isSmall_0 0 rfl rfl)
theorem dX10_isSmall_1 : decode cX10_isSmall 1 = .ok (.bipush 97, 2) := dk_16 97 (dk_at dksX10_isSmall_0 1 rfl rfl)
theorem dX10_isSmall_3 : decode cX10_isSmall 3 = .ok (.if_icmp .lt 13, 3) := dk_161 0 13 (dk_at dksX10_isSmall_0 3 rfl rfl)
theorem dX10_isSmall_6 : decode cX10_isSmall 6 = .ok (.iload_n 0, 1) := dk_26 (dk_at dksX10_isSmall_0 6 rfl rfl)
theorem dX10_isSmall_7 : decode cX10_isSmall 7 = .ok (.bipush 122, 2) := dk_16 122 (dk_at dksX10_isSmall_0 7 rfl rfl)
theorem dX10_isSmall_9 : decode cX10_isSmall 9 = .ok (.if_icmp .gt 7, 3) := dk_163 0 7 (dk_at dksX10_isSmall_0 9 rfl rfl)
theorem dX10_isSmall_12 : decode cX10_isSmall 12 = .ok (.iconst 1, 1) := dk_4 (dk_at dksX10_isSmall_0 12 rfl rfl)
theorem dX10_isSmall_13 : decode cX10_isSmall 13 = .ok (.goto 4, 3) := dk_167 0 4 (dk_at dksX10_isSmall_0 13 rfl rfl)
theorem dX10_isSmall_16 : decode cX10_isSmall 16 = .ok (.iconst 0, 1) := dk_3 (dk_at dksX10_isSmall_0 16 rfl rfl)
theorem dX10_isSmall_17 : decode cX10_isSmall 17 = .ok (.ireturn, 1) := dk_172 (dk_at dksX10_isSmall_0 17 rfl rfl)
def dkwX10_wrong_0 : List UInt8 := [42, 180, 1, 25, 2, 160, 0, 8, 42, 27, 181, 1, 25, 177]
abbrev dktX10_wrong_0 : List UInt8 := dkwX10_wrong_0 ++ []
theorem dksX10_wrong_0 : cX10_wrong.data.toList.drop 0 = dktX10_wrong_0 := by decide +kernel
theorem dX10_wrong_0 : decode cX10_wrong 0 = .ok (.aload_n 0, 1) := dk_42 (dk_at dksX10_wrong_0 0 rfl rfl)
theorem dX10_wrong_1 : decode cX10_wrong 1 = .ok (.getfield 281, 3) := dk_180 1 25 (dk_at dksX10_wrong_0 1 rfl rfl)
theorem dX10_wrong_4 : decode cX10_wrong 4 = .ok (.iconst (-1), 1) := dk_2 (dk_at dksX10_wrong_0 4 rfl rfl)
theorem dX10_wrong_5 : decode cX10_wrong 5 = .ok (.if_icmp .ne 8, 3) := dk_160 0 8 (dk_at dksX10_wrong_0 5 rfl rfl)
theorem dX10_wrong_8 : decode cX10_wrong 8 = .ok (.aload_n 0, 1) := dk_42 (dk_at dksX10_wrong_0 8 rfl rfl)
theorem dX10_wrong_9 : decode cX10_wrong 9 = .ok (.iload_n 1, 1) := dk_27 (dk_at dksX10_wrong_0 9 rfl rfl)
theorem dX10_wrong_10 : decode cX10_wrong 10 = .ok (.putfield 281, 3) := dk_181 1 25 (dk_at dksX10_wrong_0 10 rfl rfl)
theorem dX10_wrong_13 : decode cX10_wrong 13 = .ok (.return_, 1) := dk_177 (dk_at dksX10_wrong_0 13 rfl rfl)
def dkwX10_pass_1 : List UInt8 := [153, 0, 16, 42, 89, 180, 1, 28, 4, 96, 181, 1, 28, 167, 255, 220, 177]
abbrev dktX10_pass_1 : List UInt8 := dkwX10_pass_1 ++ []
def dkwX10_pass_0 : List UInt8 := [42, 180, 1, 28, 42, 180, 1, 31, 162, 0, 31, 42, 180, 0, 38, 42, 180, 1, 28, 46, 184, 1, 38]
abbrev dktX10_pass_0 : List UInt8 := dkwX10_pass_0 ++ dktX10_pass_1
theorem dksX10_pass_0 : cX10_pass.data.toList.drop 0 = dktX10_pass_0 := by decide +kernel
theorem dksX10_pass_1 : cX10_pass.data.toList.drop 23 = dktX10_pass_1 := dk_seg dksX10_pass_0 23 rfl rfl
theorem dX10_pass_0 : decode cX10_pass 0 = .ok (.aload_n 0, 1) := dk_42 (dk_at dksX10_pass_0 0 rfl rfl)
theorem dX10_pass_1 : decode cX10_pass 1 = .ok (.getfield 284, 3) := dk_180 1 28 (dk_at dksX10_pass_0 1 rfl rfl)
theorem dX10_pass_4 : decode cX10_pass 4 = .ok (.aload_n 0, 1) := dk_42 (dk_at dksX10_pass_0 4 rfl rfl)
theorem dX10_pass_5 : decode cX10_pass 5 = .ok (.getfield 287, 3) := dk_180 1 31 (dk_at dksX10_pass_0 5 rfl rfl)
theorem dX10_pass_8 : decode cX10_pass 8 = .ok (.if_icmp .ge 31, 3) := dk_162 0 31 (dk_at dksX10_pass_0 8 rfl rfl)
theorem dX10_pass_11 : decode cX10_pass 11 = .ok (.aload_n 0, 1) := dk_42 (dk_at dksX10_pass_0 11 rfl rfl)
theorem dX10_pass_12 : decode cX10_pass 12 = .ok (.getfield 38, 3) := dk_180 0 38 (dk_at dksX10_pass_0 12 rfl rfl)
theorem dX10_pass_15 : decode cX10_pass 15 = .ok (.aload_n 0, 1) := dk_42 (dk_at dksX10_pass_0 15 rfl rfl)
theorem dX10_pass_16 : decode cX10_pass 16 = .ok (.getfield 284, 3) := dk_180 1 28 (dk_at dksX10_pass_0 16 rfl rfl)
theorem dX10_pass_19 : decode cX10_pass 19 = .ok (.iaload, 1) := dk_46 (dk_at dksX10_pass_0 19 rfl rfl)
theorem dX10_pass_20 : decode cX10_pass 20 = .ok (.invokestatic 294, 3) := dk_184 1 38 (dk_at dksX10_pass_0 20 rfl rfl)
theorem dX10_pass_23 : decode cX10_pass 23 = .ok (.ifCond .eq 16, 3) := dk_153 0 16 (dk_at dksX10_pass_1 0 rfl rfl)
theorem dX10_pass_26 : decode cX10_pass 26 = .ok (.aload_n 0, 1) := dk_42 (dk_at dksX10_pass_1 3 rfl rfl)
theorem dX10_pass_27 : decode cX10_pass 27 = .ok (.dup, 1) := dk_89 (dk_at dksX10_pass_1 4 rfl rfl)
theorem dX10_pass_28 : decode cX10_pass 28 = .ok (.getfield 284, 3) := dk_180 1 28 (dk_at dksX10_pass_1 5 rfl rfl)
theorem dX10_pass_31 : decode cX10_pass 31 = .ok (.iconst 1, 1) := dk_4 (dk_at dksX10_pass_1 8 rfl rfl)
theorem dX10_pass_32 : decode cX10_pass 32 = .ok (.iadd, 1) := dk_96 (dk_at dksX10_pass_1 9 rfl rfl)
theorem dX10_pass_33 : decode cX10_pass 33 = .ok (.putfield 284, 3) := dk_181 1 28 (dk_at dksX10_pass_1 10 rfl rfl)
theorem dX10_pass_36 : decode cX10_pass 36 = .ok (.goto (-36), 3) := dk_167 255 220 (dk_at dksX10_pass_1 13 rfl rfl)
theorem dX10_pass_39 : decode cX10_pass 39 = .ok (.return_, 1) := dk_177 (dk_at dksX10_pass_1 16 rfl rfl)
def dkwX10_readLike_5 : List UInt8 := [182, 1, 34, 184, 1, 45, 154, 255, 204, 42, 180, 0, 62, 28, 29, 79, 177]
abbrev dktX10_readLike_5 : List UInt8 := dkwX10_readLike_5 ++ []
def dkwX10_readLike_4 : List UInt8 := [28, 104, 29, 96, 42, 3, 16, 100, 182, 1, 61, 79, 132, 3, 1, 42, 182, 1, 41, 153, 0, 13, 42]
abbrev dktX10_readLike_4 : List UInt8 := dkwX10_readLike_4 ++ dktX10_readLike_5
def dkwX10_readLike_3 : List UInt8 := [62, 29, 16, 12, 160, 0, 14, 42, 42, 180, 1, 28, 182, 1, 48, 167, 0, 24, 42, 180, 0, 59, 16, 12]
abbrev dktX10_readLike_3 : List UInt8 := dkwX10_readLike_3 ++ dktX10_readLike_4
def dkwX10_readLike_2 : List UInt8 := [167, 0, 4, 2, 61, 28, 2, 160, 0, 12, 42, 42, 180, 1, 28, 182, 1, 48, 177, 42, 182, 1, 87, 3]
abbrev dktX10_readLike_2 : List UInt8 := dkwX10_readLike_2 ++ dktX10_readLike_3
def dkwX10_readLike_1 : List UInt8 := [167, 0, 26, 27, 19, 1, 101, 160, 0, 7, 5, 167, 0, 15, 27, 19, 1, 102, 160, 0, 7, 6]
abbrev dktX10_readLike_1 : List UInt8 := dkwX10_readLike_1 ++ dktX10_readLike_2
def dkwX10_readLike_0 : List UInt8 := [42, 182, 1, 77, 60, 27, 19, 1, 99, 160, 0, 7, 3, 167, 0, 37, 27, 19, 1, 100, 160, 0, 7, 4]
abbrev dktX10_readLike_0 : List UInt8 := dkwX10_readLike_0 ++ dktX10_readLike_1
theorem dksX10_readLike_0 : cX10_readLike.data.toList.drop 0 = dktX10_readLike_0 := by decide +kernel
theorem dksX10_readLike_1 : cX10_readLike.data.toList.drop 24 = dktX10_readLike_1 := dk_seg dksX10_readLike_0 24 rfl rfl
theorem dksX10_readLike_2 : cX10_readLike.data.toList.drop 46 = dktX10_readLike_2 := dk_seg dksX10_readLike_1 22 rfl rfl
theorem dksX10_readLike_3 : cX10_readLike.data.toList.drop 70 = dktX10_readLike_3 := dk_seg dksX10_readLike_2 24 rfl rfl
theorem dksX10_readLike_4 : cX10_readLike.data.toList.drop 94 = dktX10_readLike_4 := dk_seg dksX10_readLike_3 24 rfl rfl
theorem dksX10_readLike_5 : cX10_readLike.data.toList.drop 117 = dktX10_readLike_5 := dk_seg dksX10_readLike_4 23 rfl rfl
theorem dX10_readLike_0 : decode cX10_readLike 0 = .ok (.aload_n 0, 1) := dk_42 (dk_at dksX10_readLike_0 0 rfl rfl)
theorem dX10_readLike_1 : decode cX10_readLike 1 = .ok (.invokevirtual 333, 3) := dk_182 1 77 (dk_at dksX10_readLike_0 1 rfl rfl)
theorem dX10_readLike_4 : decode cX10_readLike 4 = .ok (.istore_n 1, 1) := dk_60 (dk_at dksX10_readLike_0 4 rfl rfl)
theorem dX10_readLike_5 : decode cX10_readLike 5 = .ok (.iload_n 1, 1) := dk_27 (dk_at dksX10_readLike_0 5 rfl rfl)
theorem dX10_readLike_6 : decode cX10_readLike 6 = .ok (.ldc_w 355, 3) := dk_19 1 99 (dk_at dksX10_readLike_0 6 rfl rfl)
theorem dX10_readLike_9 : decode cX10_readLike 9 = .ok (.if_icmp .ne 7, 3) := dk_160 0 7 (dk_at dksX10_readLike_0 9 rfl rfl)
theorem dX10_readLike_12 : decode cX10_readLike 12 = .ok (.iconst 0, 1) := dk_3 (dk_at dksX10_readLike_0 12 rfl rfl)
theorem dX10_readLike_13 : decode cX10_readLike 13 = .ok (.goto 37, 3) := dk_167 0 37 (dk_at dksX10_readLike_0 13 rfl rfl)
theorem dX10_readLike_16 : decode cX10_readLike 16 = .ok (.iload_n 1, 1) := dk_27 (dk_at dksX10_readLike_0 16 rfl rfl)
theorem dX10_readLike_17 : decode cX10_readLike 17 = .ok (.ldc_w 356, 3) := dk_19 1 100 (dk_at dksX10_readLike_0 17 rfl rfl)
theorem dX10_readLike_20 : decode cX10_readLike 20 = .ok (.if_icmp .ne 7, 3) := dk_160 0 7 (dk_at dksX10_readLike_0 20 rfl rfl)
theorem dX10_readLike_23 : decode cX10_readLike 23 = .ok (.iconst 1, 1) := dk_4 (dk_at dksX10_readLike_0 23 rfl rfl)
theorem dX10_readLike_24 : decode cX10_readLike 24 = .ok (.goto 26, 3) := dk_167 0 26 (dk_at dksX10_readLike_1 0 rfl rfl)
theorem dX10_readLike_27 : decode cX10_readLike 27 = .ok (.iload_n 1, 1) := dk_27 (dk_at dksX10_readLike_1 3 rfl rfl)
theorem dX10_readLike_28 : decode cX10_readLike 28 = .ok (.ldc_w 357, 3) := dk_19 1 101 (dk_at dksX10_readLike_1 4 rfl rfl)
theorem dX10_readLike_31 : decode cX10_readLike 31 = .ok (.if_icmp .ne 7, 3) := dk_160 0 7 (dk_at dksX10_readLike_1 7 rfl rfl)
theorem dX10_readLike_34 : decode cX10_readLike 34 = .ok (.iconst 2, 1) := dk_5 (dk_at dksX10_readLike_1 10 rfl rfl)
theorem dX10_readLike_35 : decode cX10_readLike 35 = .ok (.goto 15, 3) := dk_167 0 15 (dk_at dksX10_readLike_1 11 rfl rfl)
theorem dX10_readLike_38 : decode cX10_readLike 38 = .ok (.iload_n 1, 1) := dk_27 (dk_at dksX10_readLike_1 14 rfl rfl)
theorem dX10_readLike_39 : decode cX10_readLike 39 = .ok (.ldc_w 358, 3) := dk_19 1 102 (dk_at dksX10_readLike_1 15 rfl rfl)
theorem dX10_readLike_42 : decode cX10_readLike 42 = .ok (.if_icmp .ne 7, 3) := dk_160 0 7 (dk_at dksX10_readLike_1 18 rfl rfl)
theorem dX10_readLike_45 : decode cX10_readLike 45 = .ok (.iconst 3, 1) := dk_6 (dk_at dksX10_readLike_1 21 rfl rfl)
theorem dX10_readLike_46 : decode cX10_readLike 46 = .ok (.goto 4, 3) := dk_167 0 4 (dk_at dksX10_readLike_2 0 rfl rfl)
theorem dX10_readLike_49 : decode cX10_readLike 49 = .ok (.iconst (-1), 1) := dk_2 (dk_at dksX10_readLike_2 3 rfl rfl)
theorem dX10_readLike_50 : decode cX10_readLike 50 = .ok (.istore_n 2, 1) := dk_61 (dk_at dksX10_readLike_2 4 rfl rfl)
theorem dX10_readLike_51 : decode cX10_readLike 51 = .ok (.iload_n 2, 1) := dk_28 (dk_at dksX10_readLike_2 5 rfl rfl)
theorem dX10_readLike_52 : decode cX10_readLike 52 = .ok (.iconst (-1), 1) := dk_2 (dk_at dksX10_readLike_2 6 rfl rfl)
theorem dX10_readLike_53 : decode cX10_readLike 53 = .ok (.if_icmp .ne 12, 3) := dk_160 0 12 (dk_at dksX10_readLike_2 7 rfl rfl)
theorem dX10_readLike_56 : decode cX10_readLike 56 = .ok (.aload_n 0, 1) := dk_42 (dk_at dksX10_readLike_2 10 rfl rfl)
theorem dX10_readLike_57 : decode cX10_readLike 57 = .ok (.aload_n 0, 1) := dk_42 (dk_at dksX10_readLike_2 11 rfl rfl)
theorem dX10_readLike_58 : decode cX10_readLike 58 = .ok (.getfield 284, 3) := dk_180 1 28 (dk_at dksX10_readLike_2 12 rfl rfl)
theorem dX10_readLike_61 : decode cX10_readLike 61 = .ok (.invokevirtual 304, 3) := dk_182 1 48 (dk_at dksX10_readLike_2 15 rfl rfl)
theorem dX10_readLike_64 : decode cX10_readLike 64 = .ok (.return_, 1) := dk_177 (dk_at dksX10_readLike_2 18 rfl rfl)
theorem dX10_readLike_65 : decode cX10_readLike 65 = .ok (.aload_n 0, 1) := dk_42 (dk_at dksX10_readLike_2 19 rfl rfl)
theorem dX10_readLike_66 : decode cX10_readLike 66 = .ok (.invokevirtual 343, 3) := dk_182 1 87 (dk_at dksX10_readLike_2 20 rfl rfl)
theorem dX10_readLike_69 : decode cX10_readLike 69 = .ok (.iconst 0, 1) := dk_3 (dk_at dksX10_readLike_2 23 rfl rfl)
theorem dX10_readLike_70 : decode cX10_readLike 70 = .ok (.istore_n 3, 1) := dk_62 (dk_at dksX10_readLike_3 0 rfl rfl)
theorem dX10_readLike_71 : decode cX10_readLike 71 = .ok (.iload_n 3, 1) := dk_29 (dk_at dksX10_readLike_3 1 rfl rfl)
theorem dX10_readLike_72 : decode cX10_readLike 72 = .ok (.bipush 12, 2) := dk_16 12 (dk_at dksX10_readLike_3 2 rfl rfl)
theorem dX10_readLike_74 : decode cX10_readLike 74 = .ok (.if_icmp .ne 14, 3) := dk_160 0 14 (dk_at dksX10_readLike_3 4 rfl rfl)
theorem dX10_readLike_77 : decode cX10_readLike 77 = .ok (.aload_n 0, 1) := dk_42 (dk_at dksX10_readLike_3 7 rfl rfl)
theorem dX10_readLike_78 : decode cX10_readLike 78 = .ok (.aload_n 0, 1) := dk_42 (dk_at dksX10_readLike_3 8 rfl rfl)
theorem dX10_readLike_79 : decode cX10_readLike 79 = .ok (.getfield 284, 3) := dk_180 1 28 (dk_at dksX10_readLike_3 9 rfl rfl)
theorem dX10_readLike_82 : decode cX10_readLike 82 = .ok (.invokevirtual 304, 3) := dk_182 1 48 (dk_at dksX10_readLike_3 12 rfl rfl)
theorem dX10_readLike_85 : decode cX10_readLike 85 = .ok (.goto 24, 3) := dk_167 0 24 (dk_at dksX10_readLike_3 15 rfl rfl)
theorem dX10_readLike_88 : decode cX10_readLike 88 = .ok (.aload_n 0, 1) := dk_42 (dk_at dksX10_readLike_3 18 rfl rfl)
theorem dX10_readLike_89 : decode cX10_readLike 89 = .ok (.getfield 59, 3) := dk_180 0 59 (dk_at dksX10_readLike_3 19 rfl rfl)
theorem dX10_readLike_92 : decode cX10_readLike 92 = .ok (.bipush 12, 2) := dk_16 12 (dk_at dksX10_readLike_3 22 rfl rfl)
theorem dX10_readLike_94 : decode cX10_readLike 94 = .ok (.iload_n 2, 1) := dk_28 (dk_at dksX10_readLike_4 0 rfl rfl)
theorem dX10_readLike_95 : decode cX10_readLike 95 = .ok (.imul, 1) := dk_104 (dk_at dksX10_readLike_4 1 rfl rfl)
theorem dX10_readLike_96 : decode cX10_readLike 96 = .ok (.iload_n 3, 1) := dk_29 (dk_at dksX10_readLike_4 2 rfl rfl)
theorem dX10_readLike_97 : decode cX10_readLike 97 = .ok (.iadd, 1) := dk_96 (dk_at dksX10_readLike_4 3 rfl rfl)
theorem dX10_readLike_98 : decode cX10_readLike 98 = .ok (.aload_n 0, 1) := dk_42 (dk_at dksX10_readLike_4 4 rfl rfl)
theorem dX10_readLike_99 : decode cX10_readLike 99 = .ok (.iconst 0, 1) := dk_3 (dk_at dksX10_readLike_4 5 rfl rfl)
theorem dX10_readLike_100 : decode cX10_readLike 100 = .ok (.bipush 100, 2) := dk_16 100 (dk_at dksX10_readLike_4 6 rfl rfl)
theorem dX10_readLike_102 : decode cX10_readLike 102 = .ok (.invokevirtual 317, 3) := dk_182 1 61 (dk_at dksX10_readLike_4 8 rfl rfl)
theorem dX10_readLike_105 : decode cX10_readLike 105 = .ok (.iastore, 1) := dk_79 (dk_at dksX10_readLike_4 11 rfl rfl)
theorem dX10_readLike_106 : decode cX10_readLike 106 = .ok (.iinc 3 1, 3) := dk_132 3 1 (dk_at dksX10_readLike_4 12 rfl rfl)
theorem dX10_readLike_109 : decode cX10_readLike 109 = .ok (.aload_n 0, 1) := dk_42 (dk_at dksX10_readLike_4 15 rfl rfl)
theorem dX10_readLike_110 : decode cX10_readLike 110 = .ok (.invokevirtual 297, 3) := dk_182 1 41 (dk_at dksX10_readLike_4 16 rfl rfl)
theorem dX10_readLike_113 : decode cX10_readLike 113 = .ok (.ifCond .eq 13, 3) := dk_153 0 13 (dk_at dksX10_readLike_4 19 rfl rfl)
theorem dX10_readLike_116 : decode cX10_readLike 116 = .ok (.aload_n 0, 1) := dk_42 (dk_at dksX10_readLike_4 22 rfl rfl)
theorem dX10_readLike_117 : decode cX10_readLike 117 = .ok (.invokevirtual 290, 3) := dk_182 1 34 (dk_at dksX10_readLike_5 0 rfl rfl)
theorem dX10_readLike_120 : decode cX10_readLike 120 = .ok (.invokestatic 301, 3) := dk_184 1 45 (dk_at dksX10_readLike_5 3 rfl rfl)
theorem dX10_readLike_123 : decode cX10_readLike 123 = .ok (.ifCond .ne (-52), 3) := dk_154 255 204 (dk_at dksX10_readLike_5 6 rfl rfl)
theorem dX10_readLike_126 : decode cX10_readLike 126 = .ok (.aload_n 0, 1) := dk_42 (dk_at dksX10_readLike_5 9 rfl rfl)
theorem dX10_readLike_127 : decode cX10_readLike 127 = .ok (.getfield 62, 3) := dk_180 0 62 (dk_at dksX10_readLike_5 10 rfl rfl)
theorem dX10_readLike_130 : decode cX10_readLike 130 = .ok (.iload_n 2, 1) := dk_28 (dk_at dksX10_readLike_5 13 rfl rfl)
theorem dX10_readLike_131 : decode cX10_readLike 131 = .ok (.iload_n 3, 1) := dk_29 (dk_at dksX10_readLike_5 14 rfl rfl)
theorem dX10_readLike_132 : decode cX10_readLike 132 = .ok (.iastore, 1) := dk_79 (dk_at dksX10_readLike_5 15 rfl rfl)
theorem dX10_readLike_133 : decode cX10_readLike 133 = .ok (.return_, 1) := dk_177 (dk_at dksX10_readLike_5 16 rfl rfl)
def dkwX10_digits_6 : List UInt8 := [154, 0, 9, 42, 21, 4, 182, 1, 48, 21, 5, 172]
abbrev dktX10_digits_6 : List UInt8 := dkwX10_digits_6 ++ []
def dkwX10_digits_5 : List UInt8 := [4, 96, 181, 1, 28, 167, 255, 173, 42, 182, 1, 41, 153, 0, 19, 21, 5, 27, 28, 184, 0, 210]
abbrev dktX10_digits_5 : List UInt8 := dkwX10_digits_5 ++ dktX10_digits_6
def dkwX10_digits_4 : List UInt8 := [104, 42, 180, 0, 38, 42, 180, 1, 28, 46, 96, 16, 48, 100, 54, 5, 132, 6, 1, 42, 89, 180, 1, 28]
abbrev dktX10_digits_4 : List UInt8 := dkwX10_digits_4 ++ dktX10_digits_5
def dkwX10_digits_3 : List UInt8 := [153, 0, 56, 21, 6, 6, 160, 0, 14, 42, 42, 180, 1, 28, 182, 1, 48, 167, 255, 209, 16, 10, 21, 5]
abbrev dktX10_digits_3 : List UInt8 := dkwX10_digits_3 ++ dktX10_digits_4
def dkwX10_digits_2 : List UInt8 := [42, 180, 1, 28, 42, 180, 1, 31, 162, 0, 71, 42, 180, 0, 38, 42, 180, 1, 28, 46, 184, 1, 45]
abbrev dktX10_digits_2 : List UInt8 := dkwX10_digits_2 ++ dktX10_digits_3
def dkwX10_digits_1 : List UInt8 := [54, 6, 29, 184, 1, 45, 154, 0, 11, 42, 42, 180, 1, 28, 182, 1, 48, 42, 182, 1, 41, 153, 0, 82]
abbrev dktX10_digits_1 : List UInt8 := dkwX10_digits_1 ++ dktX10_digits_2
def dkwX10_digits_0 : List UInt8 := [42, 182, 1, 41, 154, 0, 5, 3, 172, 42, 182, 1, 34, 62, 42, 180, 1, 28, 54, 4, 3, 54, 5, 3]
abbrev dktX10_digits_0 : List UInt8 := dkwX10_digits_0 ++ dktX10_digits_1
theorem dksX10_digits_0 : cX10_digits.data.toList.drop 0 = dktX10_digits_0 := by decide +kernel
theorem dksX10_digits_1 : cX10_digits.data.toList.drop 24 = dktX10_digits_1 := dk_seg dksX10_digits_0 24 rfl rfl
theorem dksX10_digits_2 : cX10_digits.data.toList.drop 48 = dktX10_digits_2 := dk_seg dksX10_digits_1 24 rfl rfl
theorem dksX10_digits_3 : cX10_digits.data.toList.drop 71 = dktX10_digits_3 := dk_seg dksX10_digits_2 23 rfl rfl
theorem dksX10_digits_4 : cX10_digits.data.toList.drop 95 = dktX10_digits_4 := dk_seg dksX10_digits_3 24 rfl rfl
theorem dksX10_digits_5 : cX10_digits.data.toList.drop 119 = dktX10_digits_5 := dk_seg dksX10_digits_4 24 rfl rfl
theorem dksX10_digits_6 : cX10_digits.data.toList.drop 141 = dktX10_digits_6 := dk_seg dksX10_digits_5 22 rfl rfl
theorem dX10_digits_0 : decode cX10_digits 0 = .ok (.aload_n 0, 1) := dk_42 (dk_at dksX10_digits_0 0 rfl rfl)
theorem dX10_digits_1 : decode cX10_digits 1 = .ok (.invokevirtual 297, 3) := dk_182 1 41 (dk_at dksX10_digits_0 1 rfl rfl)
theorem dX10_digits_4 : decode cX10_digits 4 = .ok (.ifCond .ne 5, 3) := dk_154 0 5 (dk_at dksX10_digits_0 4 rfl rfl)
theorem dX10_digits_7 : decode cX10_digits 7 = .ok (.iconst 0, 1) := dk_3 (dk_at dksX10_digits_0 7 rfl rfl)
theorem dX10_digits_8 : decode cX10_digits 8 = .ok (.ireturn, 1) := dk_172 (dk_at dksX10_digits_0 8 rfl rfl)
theorem dX10_digits_9 : decode cX10_digits 9 = .ok (.aload_n 0, 1) := dk_42 (dk_at dksX10_digits_0 9 rfl rfl)
theorem dX10_digits_10 : decode cX10_digits 10 = .ok (.invokevirtual 290, 3) := dk_182 1 34 (dk_at dksX10_digits_0 10 rfl rfl)
theorem dX10_digits_13 : decode cX10_digits 13 = .ok (.istore_n 3, 1) := dk_62 (dk_at dksX10_digits_0 13 rfl rfl)
theorem dX10_digits_14 : decode cX10_digits 14 = .ok (.aload_n 0, 1) := dk_42 (dk_at dksX10_digits_0 14 rfl rfl)
theorem dX10_digits_15 : decode cX10_digits 15 = .ok (.getfield 284, 3) := dk_180 1 28 (dk_at dksX10_digits_0 15 rfl rfl)
theorem dX10_digits_18 : decode cX10_digits 18 = .ok (.istore 4, 2) := dk_54 4 (dk_at dksX10_digits_0 18 rfl rfl)
theorem dX10_digits_20 : decode cX10_digits 20 = .ok (.iconst 0, 1) := dk_3 (dk_at dksX10_digits_0 20 rfl rfl)
theorem dX10_digits_21 : decode cX10_digits 21 = .ok (.istore 5, 2) := dk_54 5 (dk_at dksX10_digits_0 21 rfl rfl)
theorem dX10_digits_23 : decode cX10_digits 23 = .ok (.iconst 0, 1) := dk_3 (dk_at dksX10_digits_0 23 rfl rfl)
theorem dX10_digits_24 : decode cX10_digits 24 = .ok (.istore 6, 2) := dk_54 6 (dk_at dksX10_digits_1 0 rfl rfl)
theorem dX10_digits_26 : decode cX10_digits 26 = .ok (.iload_n 3, 1) := dk_29 (dk_at dksX10_digits_1 2 rfl rfl)
theorem dX10_digits_27 : decode cX10_digits 27 = .ok (.invokestatic 301, 3) := dk_184 1 45 (dk_at dksX10_digits_1 3 rfl rfl)
theorem dX10_digits_30 : decode cX10_digits 30 = .ok (.ifCond .ne 11, 3) := dk_154 0 11 (dk_at dksX10_digits_1 6 rfl rfl)
theorem dX10_digits_33 : decode cX10_digits 33 = .ok (.aload_n 0, 1) := dk_42 (dk_at dksX10_digits_1 9 rfl rfl)
theorem dX10_digits_34 : decode cX10_digits 34 = .ok (.aload_n 0, 1) := dk_42 (dk_at dksX10_digits_1 10 rfl rfl)
theorem dX10_digits_35 : decode cX10_digits 35 = .ok (.getfield 284, 3) := dk_180 1 28 (dk_at dksX10_digits_1 11 rfl rfl)
theorem dX10_digits_38 : decode cX10_digits 38 = .ok (.invokevirtual 304, 3) := dk_182 1 48 (dk_at dksX10_digits_1 14 rfl rfl)
theorem dX10_digits_41 : decode cX10_digits 41 = .ok (.aload_n 0, 1) := dk_42 (dk_at dksX10_digits_1 17 rfl rfl)
theorem dX10_digits_42 : decode cX10_digits 42 = .ok (.invokevirtual 297, 3) := dk_182 1 41 (dk_at dksX10_digits_1 18 rfl rfl)
theorem dX10_digits_45 : decode cX10_digits 45 = .ok (.ifCond .eq 82, 3) := dk_153 0 82 (dk_at dksX10_digits_1 21 rfl rfl)
theorem dX10_digits_48 : decode cX10_digits 48 = .ok (.aload_n 0, 1) := dk_42 (dk_at dksX10_digits_2 0 rfl rfl)
theorem dX10_digits_49 : decode cX10_digits 49 = .ok (.getfield 284, 3) := dk_180 1 28 (dk_at dksX10_digits_2 1 rfl rfl)
theorem dX10_digits_52 : decode cX10_digits 52 = .ok (.aload_n 0, 1) := dk_42 (dk_at dksX10_digits_2 4 rfl rfl)
theorem dX10_digits_53 : decode cX10_digits 53 = .ok (.getfield 287, 3) := dk_180 1 31 (dk_at dksX10_digits_2 5 rfl rfl)
theorem dX10_digits_56 : decode cX10_digits 56 = .ok (.if_icmp .ge 71, 3) := dk_162 0 71 (dk_at dksX10_digits_2 8 rfl rfl)
theorem dX10_digits_59 : decode cX10_digits 59 = .ok (.aload_n 0, 1) := dk_42 (dk_at dksX10_digits_2 11 rfl rfl)
theorem dX10_digits_60 : decode cX10_digits 60 = .ok (.getfield 38, 3) := dk_180 0 38 (dk_at dksX10_digits_2 12 rfl rfl)
theorem dX10_digits_63 : decode cX10_digits 63 = .ok (.aload_n 0, 1) := dk_42 (dk_at dksX10_digits_2 15 rfl rfl)
theorem dX10_digits_64 : decode cX10_digits 64 = .ok (.getfield 284, 3) := dk_180 1 28 (dk_at dksX10_digits_2 16 rfl rfl)
theorem dX10_digits_67 : decode cX10_digits 67 = .ok (.iaload, 1) := dk_46 (dk_at dksX10_digits_2 19 rfl rfl)
theorem dX10_digits_68 : decode cX10_digits 68 = .ok (.invokestatic 301, 3) := dk_184 1 45 (dk_at dksX10_digits_2 20 rfl rfl)
theorem dX10_digits_71 : decode cX10_digits 71 = .ok (.ifCond .eq 56, 3) := dk_153 0 56 (dk_at dksX10_digits_3 0 rfl rfl)
theorem dX10_digits_74 : decode cX10_digits 74 = .ok (.iload 6, 2) := dk_21 6 (dk_at dksX10_digits_3 3 rfl rfl)
theorem dX10_digits_76 : decode cX10_digits 76 = .ok (.iconst 3, 1) := dk_6 (dk_at dksX10_digits_3 5 rfl rfl)
theorem dX10_digits_77 : decode cX10_digits 77 = .ok (.if_icmp .ne 14, 3) := dk_160 0 14 (dk_at dksX10_digits_3 6 rfl rfl)
theorem dX10_digits_80 : decode cX10_digits 80 = .ok (.aload_n 0, 1) := dk_42 (dk_at dksX10_digits_3 9 rfl rfl)
theorem dX10_digits_81 : decode cX10_digits 81 = .ok (.aload_n 0, 1) := dk_42 (dk_at dksX10_digits_3 10 rfl rfl)
theorem dX10_digits_82 : decode cX10_digits 82 = .ok (.getfield 284, 3) := dk_180 1 28 (dk_at dksX10_digits_3 11 rfl rfl)
theorem dX10_digits_85 : decode cX10_digits 85 = .ok (.invokevirtual 304, 3) := dk_182 1 48 (dk_at dksX10_digits_3 14 rfl rfl)
theorem dX10_digits_88 : decode cX10_digits 88 = .ok (.goto (-47), 3) := dk_167 255 209 (dk_at dksX10_digits_3 17 rfl rfl)
theorem dX10_digits_91 : decode cX10_digits 91 = .ok (.bipush 10, 2) := dk_16 10 (dk_at dksX10_digits_3 20 rfl rfl)
theorem dX10_digits_93 : decode cX10_digits 93 = .ok (.iload 5, 2) := dk_21 5 (dk_at dksX10_digits_3 22 rfl rfl)
theorem dX10_digits_95 : decode cX10_digits 95 = .ok (.imul, 1) := dk_104 (dk_at dksX10_digits_4 0 rfl rfl)
theorem dX10_digits_96 : decode cX10_digits 96 = .ok (.aload_n 0, 1) := dk_42 (dk_at dksX10_digits_4 1 rfl rfl)
theorem dX10_digits_97 : decode cX10_digits 97 = .ok (.getfield 38, 3) := dk_180 0 38 (dk_at dksX10_digits_4 2 rfl rfl)
theorem dX10_digits_100 : decode cX10_digits 100 = .ok (.aload_n 0, 1) := dk_42 (dk_at dksX10_digits_4 5 rfl rfl)
theorem dX10_digits_101 : decode cX10_digits 101 = .ok (.getfield 284, 3) := dk_180 1 28 (dk_at dksX10_digits_4 6 rfl rfl)
theorem dX10_digits_104 : decode cX10_digits 104 = .ok (.iaload, 1) := dk_46 (dk_at dksX10_digits_4 9 rfl rfl)
theorem dX10_digits_105 : decode cX10_digits 105 = .ok (.iadd, 1) := dk_96 (dk_at dksX10_digits_4 10 rfl rfl)
theorem dX10_digits_106 : decode cX10_digits 106 = .ok (.bipush 48, 2) := dk_16 48 (dk_at dksX10_digits_4 11 rfl rfl)
theorem dX10_digits_108 : decode cX10_digits 108 = .ok (.isub, 1) := dk_100 (dk_at dksX10_digits_4 13 rfl rfl)
theorem dX10_digits_109 : decode cX10_digits 109 = .ok (.istore 5, 2) := dk_54 5 (dk_at dksX10_digits_4 14 rfl rfl)
theorem dX10_digits_111 : decode cX10_digits 111 = .ok (.iinc 6 1, 3) := dk_132 6 1 (dk_at dksX10_digits_4 16 rfl rfl)
theorem dX10_digits_114 : decode cX10_digits 114 = .ok (.aload_n 0, 1) := dk_42 (dk_at dksX10_digits_4 19 rfl rfl)
theorem dX10_digits_115 : decode cX10_digits 115 = .ok (.dup, 1) := dk_89 (dk_at dksX10_digits_4 20 rfl rfl)
theorem dX10_digits_116 : decode cX10_digits 116 = .ok (.getfield 284, 3) := dk_180 1 28 (dk_at dksX10_digits_4 21 rfl rfl)
theorem dX10_digits_119 : decode cX10_digits 119 = .ok (.iconst 1, 1) := dk_4 (dk_at dksX10_digits_5 0 rfl rfl)
theorem dX10_digits_120 : decode cX10_digits 120 = .ok (.iadd, 1) := dk_96 (dk_at dksX10_digits_5 1 rfl rfl)
theorem dX10_digits_121 : decode cX10_digits 121 = .ok (.putfield 284, 3) := dk_181 1 28 (dk_at dksX10_digits_5 2 rfl rfl)
theorem dX10_digits_124 : decode cX10_digits 124 = .ok (.goto (-83), 3) := dk_167 255 173 (dk_at dksX10_digits_5 5 rfl rfl)
theorem dX10_digits_127 : decode cX10_digits 127 = .ok (.aload_n 0, 1) := dk_42 (dk_at dksX10_digits_5 8 rfl rfl)
theorem dX10_digits_128 : decode cX10_digits 128 = .ok (.invokevirtual 297, 3) := dk_182 1 41 (dk_at dksX10_digits_5 9 rfl rfl)
theorem dX10_digits_131 : decode cX10_digits 131 = .ok (.ifCond .eq 19, 3) := dk_153 0 19 (dk_at dksX10_digits_5 12 rfl rfl)
theorem dX10_digits_134 : decode cX10_digits 134 = .ok (.iload 5, 2) := dk_21 5 (dk_at dksX10_digits_5 15 rfl rfl)
theorem dX10_digits_136 : decode cX10_digits 136 = .ok (.iload_n 1, 1) := dk_27 (dk_at dksX10_digits_5 17 rfl rfl)
theorem dX10_digits_137 : decode cX10_digits 137 = .ok (.iload_n 2, 1) := dk_28 (dk_at dksX10_digits_5 18 rfl rfl)
theorem dX10_digits_138 : decode cX10_digits 138 = .ok (.invokestatic 210, 3) := dk_184 0 210 (dk_at dksX10_digits_5 19 rfl rfl)
theorem dX10_digits_141 : decode cX10_digits 141 = .ok (.ifCond .ne 9, 3) := dk_154 0 9 (dk_at dksX10_digits_6 0 rfl rfl)
theorem dX10_digits_144 : decode cX10_digits 144 = .ok (.aload_n 0, 1) := dk_42 (dk_at dksX10_digits_6 3 rfl rfl)
theorem dX10_digits_145 : decode cX10_digits 145 = .ok (.iload 4, 2) := dk_21 4 (dk_at dksX10_digits_6 4 rfl rfl)
theorem dX10_digits_147 : decode cX10_digits 147 = .ok (.invokevirtual 304, 3) := dk_182 1 48 (dk_at dksX10_digits_6 6 rfl rfl)
theorem dX10_digits_150 : decode cX10_digits 150 = .ok (.iload 5, 2) := dk_21 5 (dk_at dksX10_digits_6 9 rfl rfl)
theorem dX10_digits_152 : decode cX10_digits 152 = .ok (.ireturn, 1) := dk_172 (dk_at dksX10_digits_6 11 rfl rfl)
def dkwX10_isDigit_0 : List UInt8 := [26, 16, 48, 161, 0, 13, 26, 16, 57, 163, 0, 7, 4, 167, 0, 4, 3, 172]
abbrev dktX10_isDigit_0 : List UInt8 := dkwX10_isDigit_0 ++ []
theorem dksX10_isDigit_0 : cX10_isDigit.data.toList.drop 0 = dktX10_isDigit_0 := by decide +kernel
theorem dX10_isDigit_0 : decode cX10_isDigit 0 = .ok (.iload_n 0, 1) := dk_26 (dk_at dksX10_isDigit_0 0 rfl rfl)
theorem dX10_isDigit_1 : decode cX10_isDigit 1 = .ok (.bipush 48, 2) := dk_16 48 (dk_at dksX10_isDigit_0 1 rfl rfl)
theorem dX10_isDigit_3 : decode cX10_isDigit 3 = .ok (.if_icmp .lt 13, 3) := dk_161 0 13 (dk_at dksX10_isDigit_0 3 rfl rfl)
theorem dX10_isDigit_6 : decode cX10_isDigit 6 = .ok (.iload_n 0, 1) := dk_26 (dk_at dksX10_isDigit_0 6 rfl rfl)
theorem dX10_isDigit_7 : decode cX10_isDigit 7 = .ok (.bipush 57, 2) := dk_16 57 (dk_at dksX10_isDigit_0 7 rfl rfl)
theorem dX10_isDigit_9 : decode cX10_isDigit 9 = .ok (.if_icmp .gt 7, 3) := dk_163 0 7 (dk_at dksX10_isDigit_0 9 rfl rfl)
theorem dX10_isDigit_12 : decode cX10_isDigit 12 = .ok (.iconst 1, 1) := dk_4 (dk_at dksX10_isDigit_0 12 rfl rfl)
theorem dX10_isDigit_13 : decode cX10_isDigit 13 = .ok (.goto 4, 3) := dk_167 0 4 (dk_at dksX10_isDigit_0 13 rfl rfl)
theorem dX10_isDigit_16 : decode cX10_isDigit 16 = .ok (.iconst 0, 1) := dk_3 (dk_at dksX10_isDigit_0 16 rfl rfl)
theorem dX10_isDigit_17 : decode cX10_isDigit 17 = .ok (.ireturn, 1) := dk_172 (dk_at dksX10_isDigit_0 17 rfl rfl)
def dkwX10_readPay_3 : List UInt8 := [177]
abbrev dktX10_readPay_3 : List UInt8 := dkwX10_readPay_3 ++ []
def dkwX10_readPay_2 : List UInt8 := [180, 0, 41, 27, 46, 79, 42, 180, 0, 68, 27, 42, 180, 0, 44, 27, 46, 79, 132, 1, 1, 167, 255, 221]
abbrev dktX10_readPay_2 : List UInt8 := dkwX10_readPay_2 ++ dktX10_readPay_3
def dkwX10_readPay_1 : List UInt8 := [180, 1, 52, 181, 1, 1, 3, 60, 27, 42, 180, 1, 52, 162, 0, 33, 42, 180, 0, 65, 27, 42]
abbrev dktX10_readPay_1 : List UInt8 := dkwX10_readPay_1 ++ dktX10_readPay_2
def dkwX10_readPay_0 : List UInt8 := [42, 3, 181, 1, 52, 42, 3, 181, 1, 55, 42, 182, 1, 71, 42, 182, 1, 41, 154, 0, 4, 177, 42, 42]
abbrev dktX10_readPay_0 : List UInt8 := dkwX10_readPay_0 ++ dktX10_readPay_1
theorem dksX10_readPay_0 : cX10_readPay.data.toList.drop 0 = dktX10_readPay_0 := by decide +kernel
theorem dksX10_readPay_1 : cX10_readPay.data.toList.drop 24 = dktX10_readPay_1 := dk_seg dksX10_readPay_0 24 rfl rfl
theorem dksX10_readPay_2 : cX10_readPay.data.toList.drop 46 = dktX10_readPay_2 := dk_seg dksX10_readPay_1 22 rfl rfl
theorem dksX10_readPay_3 : cX10_readPay.data.toList.drop 70 = dktX10_readPay_3 := dk_seg dksX10_readPay_2 24 rfl rfl
theorem dX10_readPay_0 : decode cX10_readPay 0 = .ok (.aload_n 0, 1) := dk_42 (dk_at dksX10_readPay_0 0 rfl rfl)
theorem dX10_readPay_1 : decode cX10_readPay 1 = .ok (.iconst 0, 1) := dk_3 (dk_at dksX10_readPay_0 1 rfl rfl)
theorem dX10_readPay_2 : decode cX10_readPay 2 = .ok (.putfield 308, 3) := dk_181 1 52 (dk_at dksX10_readPay_0 2 rfl rfl)
theorem dX10_readPay_5 : decode cX10_readPay 5 = .ok (.aload_n 0, 1) := dk_42 (dk_at dksX10_readPay_0 5 rfl rfl)
theorem dX10_readPay_6 : decode cX10_readPay 6 = .ok (.iconst 0, 1) := dk_3 (dk_at dksX10_readPay_0 6 rfl rfl)
theorem dX10_readPay_7 : decode cX10_readPay 7 = .ok (.putfield 311, 3) := dk_181 1 55 (dk_at dksX10_readPay_0 7 rfl rfl)
theorem dX10_readPay_10 : decode cX10_readPay 10 = .ok (.aload_n 0, 1) := dk_42 (dk_at dksX10_readPay_0 10 rfl rfl)
theorem dX10_readPay_11 : decode cX10_readPay 11 = .ok (.invokevirtual 327, 3) := dk_182 1 71 (dk_at dksX10_readPay_0 11 rfl rfl)
theorem dX10_readPay_14 : decode cX10_readPay 14 = .ok (.aload_n 0, 1) := dk_42 (dk_at dksX10_readPay_0 14 rfl rfl)
theorem dX10_readPay_15 : decode cX10_readPay 15 = .ok (.invokevirtual 297, 3) := dk_182 1 41 (dk_at dksX10_readPay_0 15 rfl rfl)
theorem dX10_readPay_18 : decode cX10_readPay 18 = .ok (.ifCond .ne 4, 3) := dk_154 0 4 (dk_at dksX10_readPay_0 18 rfl rfl)
theorem dX10_readPay_21 : decode cX10_readPay 21 = .ok (.return_, 1) := dk_177 (dk_at dksX10_readPay_0 21 rfl rfl)
theorem dX10_readPay_22 : decode cX10_readPay 22 = .ok (.aload_n 0, 1) := dk_42 (dk_at dksX10_readPay_0 22 rfl rfl)
theorem dX10_readPay_23 : decode cX10_readPay 23 = .ok (.aload_n 0, 1) := dk_42 (dk_at dksX10_readPay_0 23 rfl rfl)
theorem dX10_readPay_24 : decode cX10_readPay 24 = .ok (.getfield 308, 3) := dk_180 1 52 (dk_at dksX10_readPay_1 0 rfl rfl)
theorem dX10_readPay_27 : decode cX10_readPay 27 = .ok (.putfield 257, 3) := dk_181 1 1 (dk_at dksX10_readPay_1 3 rfl rfl)
theorem dX10_readPay_30 : decode cX10_readPay 30 = .ok (.iconst 0, 1) := dk_3 (dk_at dksX10_readPay_1 6 rfl rfl)
theorem dX10_readPay_31 : decode cX10_readPay 31 = .ok (.istore_n 1, 1) := dk_60 (dk_at dksX10_readPay_1 7 rfl rfl)
theorem dX10_readPay_32 : decode cX10_readPay 32 = .ok (.iload_n 1, 1) := dk_27 (dk_at dksX10_readPay_1 8 rfl rfl)
theorem dX10_readPay_33 : decode cX10_readPay 33 = .ok (.aload_n 0, 1) := dk_42 (dk_at dksX10_readPay_1 9 rfl rfl)
theorem dX10_readPay_34 : decode cX10_readPay 34 = .ok (.getfield 308, 3) := dk_180 1 52 (dk_at dksX10_readPay_1 10 rfl rfl)
theorem dX10_readPay_37 : decode cX10_readPay 37 = .ok (.if_icmp .ge 33, 3) := dk_162 0 33 (dk_at dksX10_readPay_1 13 rfl rfl)
theorem dX10_readPay_40 : decode cX10_readPay 40 = .ok (.aload_n 0, 1) := dk_42 (dk_at dksX10_readPay_1 16 rfl rfl)
theorem dX10_readPay_41 : decode cX10_readPay 41 = .ok (.getfield 65, 3) := dk_180 0 65 (dk_at dksX10_readPay_1 17 rfl rfl)
theorem dX10_readPay_44 : decode cX10_readPay 44 = .ok (.iload_n 1, 1) := dk_27 (dk_at dksX10_readPay_1 20 rfl rfl)
theorem dX10_readPay_45 : decode cX10_readPay 45 = .ok (.aload_n 0, 1) := dk_42 (dk_at dksX10_readPay_1 21 rfl rfl)
theorem dX10_readPay_46 : decode cX10_readPay 46 = .ok (.getfield 41, 3) := dk_180 0 41 (dk_at dksX10_readPay_2 0 rfl rfl)
theorem dX10_readPay_49 : decode cX10_readPay 49 = .ok (.iload_n 1, 1) := dk_27 (dk_at dksX10_readPay_2 3 rfl rfl)
theorem dX10_readPay_50 : decode cX10_readPay 50 = .ok (.iaload, 1) := dk_46 (dk_at dksX10_readPay_2 4 rfl rfl)
theorem dX10_readPay_51 : decode cX10_readPay 51 = .ok (.iastore, 1) := dk_79 (dk_at dksX10_readPay_2 5 rfl rfl)
theorem dX10_readPay_52 : decode cX10_readPay 52 = .ok (.aload_n 0, 1) := dk_42 (dk_at dksX10_readPay_2 6 rfl rfl)
theorem dX10_readPay_53 : decode cX10_readPay 53 = .ok (.getfield 68, 3) := dk_180 0 68 (dk_at dksX10_readPay_2 7 rfl rfl)
theorem dX10_readPay_56 : decode cX10_readPay 56 = .ok (.iload_n 1, 1) := dk_27 (dk_at dksX10_readPay_2 10 rfl rfl)
theorem dX10_readPay_57 : decode cX10_readPay 57 = .ok (.aload_n 0, 1) := dk_42 (dk_at dksX10_readPay_2 11 rfl rfl)
theorem dX10_readPay_58 : decode cX10_readPay 58 = .ok (.getfield 44, 3) := dk_180 0 44 (dk_at dksX10_readPay_2 12 rfl rfl)
theorem dX10_readPay_61 : decode cX10_readPay 61 = .ok (.iload_n 1, 1) := dk_27 (dk_at dksX10_readPay_2 15 rfl rfl)
theorem dX10_readPay_62 : decode cX10_readPay 62 = .ok (.iaload, 1) := dk_46 (dk_at dksX10_readPay_2 16 rfl rfl)
theorem dX10_readPay_63 : decode cX10_readPay 63 = .ok (.iastore, 1) := dk_79 (dk_at dksX10_readPay_2 17 rfl rfl)
theorem dX10_readPay_64 : decode cX10_readPay 64 = .ok (.iinc 1 1, 3) := dk_132 1 1 (dk_at dksX10_readPay_2 18 rfl rfl)
theorem dX10_readPay_67 : decode cX10_readPay 67 = .ok (.goto (-35), 3) := dk_167 255 221 (dk_at dksX10_readPay_2 21 rfl rfl)
theorem dX10_readPay_70 : decode cX10_readPay 70 = .ok (.return_, 1) := dk_177 (dk_at dksX10_readPay_3 0 rfl rfl)
def dkwX10_whole_3 : List UInt8 := [182, 1, 64, 167, 255, 187, 177]
abbrev dktX10_whole_3 : List UInt8 := dkwX10_whole_3 ++ []
def dkwX10_whole_2 : List UInt8 := [42, 182, 1, 41, 153, 0, 21, 42, 27, 16, 43, 160, 0, 8, 16, 6, 167, 0, 5, 16, 7, 3]
abbrev dktX10_whole_2 : List UInt8 := dkwX10_whole_2 ++ dktX10_whole_3
def dkwX10_whole_1 : List UInt8 := [16, 45, 160, 0, 50, 42, 182, 1, 34, 60, 42, 89, 180, 1, 28, 4, 96, 181, 1, 28, 42, 182, 1, 96]
abbrev dktX10_whole_1 : List UInt8 := dkwX10_whole_1 ++ dktX10_whole_2
def dkwX10_whole_0 : List UInt8 := [42, 182, 1, 96, 42, 182, 1, 41, 153, 0, 68, 42, 182, 1, 34, 16, 43, 159, 0, 12, 42, 182, 1, 34]
abbrev dktX10_whole_0 : List UInt8 := dkwX10_whole_0 ++ dktX10_whole_1
theorem dksX10_whole_0 : cX10_whole.data.toList.drop 0 = dktX10_whole_0 := by decide +kernel
theorem dksX10_whole_1 : cX10_whole.data.toList.drop 24 = dktX10_whole_1 := dk_seg dksX10_whole_0 24 rfl rfl
theorem dksX10_whole_2 : cX10_whole.data.toList.drop 48 = dktX10_whole_2 := dk_seg dksX10_whole_1 24 rfl rfl
theorem dksX10_whole_3 : cX10_whole.data.toList.drop 70 = dktX10_whole_3 := dk_seg dksX10_whole_2 22 rfl rfl
theorem dX10_whole_0 : decode cX10_whole 0 = .ok (.aload_n 0, 1) := dk_42 (dk_at dksX10_whole_0 0 rfl rfl)
theorem dX10_whole_1 : decode cX10_whole 1 = .ok (.invokevirtual 352, 3) := dk_182 1 96 (dk_at dksX10_whole_0 1 rfl rfl)
theorem dX10_whole_4 : decode cX10_whole 4 = .ok (.aload_n 0, 1) := dk_42 (dk_at dksX10_whole_0 4 rfl rfl)
theorem dX10_whole_5 : decode cX10_whole 5 = .ok (.invokevirtual 297, 3) := dk_182 1 41 (dk_at dksX10_whole_0 5 rfl rfl)
theorem dX10_whole_8 : decode cX10_whole 8 = .ok (.ifCond .eq 68, 3) := dk_153 0 68 (dk_at dksX10_whole_0 8 rfl rfl)
theorem dX10_whole_11 : decode cX10_whole 11 = .ok (.aload_n 0, 1) := dk_42 (dk_at dksX10_whole_0 11 rfl rfl)
theorem dX10_whole_12 : decode cX10_whole 12 = .ok (.invokevirtual 290, 3) := dk_182 1 34 (dk_at dksX10_whole_0 12 rfl rfl)
theorem dX10_whole_15 : decode cX10_whole 15 = .ok (.bipush 43, 2) := dk_16 43 (dk_at dksX10_whole_0 15 rfl rfl)
theorem dX10_whole_17 : decode cX10_whole 17 = .ok (.if_icmp .eq 12, 3) := dk_159 0 12 (dk_at dksX10_whole_0 17 rfl rfl)
theorem dX10_whole_20 : decode cX10_whole 20 = .ok (.aload_n 0, 1) := dk_42 (dk_at dksX10_whole_0 20 rfl rfl)
theorem dX10_whole_21 : decode cX10_whole 21 = .ok (.invokevirtual 290, 3) := dk_182 1 34 (dk_at dksX10_whole_0 21 rfl rfl)
theorem dX10_whole_24 : decode cX10_whole 24 = .ok (.bipush 45, 2) := dk_16 45 (dk_at dksX10_whole_1 0 rfl rfl)
theorem dX10_whole_26 : decode cX10_whole 26 = .ok (.if_icmp .ne 50, 3) := dk_160 0 50 (dk_at dksX10_whole_1 2 rfl rfl)
theorem dX10_whole_29 : decode cX10_whole 29 = .ok (.aload_n 0, 1) := dk_42 (dk_at dksX10_whole_1 5 rfl rfl)
theorem dX10_whole_30 : decode cX10_whole 30 = .ok (.invokevirtual 290, 3) := dk_182 1 34 (dk_at dksX10_whole_1 6 rfl rfl)
theorem dX10_whole_33 : decode cX10_whole 33 = .ok (.istore_n 1, 1) := dk_60 (dk_at dksX10_whole_1 9 rfl rfl)
theorem dX10_whole_34 : decode cX10_whole 34 = .ok (.aload_n 0, 1) := dk_42 (dk_at dksX10_whole_1 10 rfl rfl)
theorem dX10_whole_35 : decode cX10_whole 35 = .ok (.dup, 1) := dk_89 (dk_at dksX10_whole_1 11 rfl rfl)
theorem dX10_whole_36 : decode cX10_whole 36 = .ok (.getfield 284, 3) := dk_180 1 28 (dk_at dksX10_whole_1 12 rfl rfl)
theorem dX10_whole_39 : decode cX10_whole 39 = .ok (.iconst 1, 1) := dk_4 (dk_at dksX10_whole_1 15 rfl rfl)
theorem dX10_whole_40 : decode cX10_whole 40 = .ok (.iadd, 1) := dk_96 (dk_at dksX10_whole_1 16 rfl rfl)
theorem dX10_whole_41 : decode cX10_whole 41 = .ok (.putfield 284, 3) := dk_181 1 28 (dk_at dksX10_whole_1 17 rfl rfl)
theorem dX10_whole_44 : decode cX10_whole 44 = .ok (.aload_n 0, 1) := dk_42 (dk_at dksX10_whole_1 20 rfl rfl)
theorem dX10_whole_45 : decode cX10_whole 45 = .ok (.invokevirtual 352, 3) := dk_182 1 96 (dk_at dksX10_whole_1 21 rfl rfl)
theorem dX10_whole_48 : decode cX10_whole 48 = .ok (.aload_n 0, 1) := dk_42 (dk_at dksX10_whole_2 0 rfl rfl)
theorem dX10_whole_49 : decode cX10_whole 49 = .ok (.invokevirtual 297, 3) := dk_182 1 41 (dk_at dksX10_whole_2 1 rfl rfl)
theorem dX10_whole_52 : decode cX10_whole 52 = .ok (.ifCond .eq 21, 3) := dk_153 0 21 (dk_at dksX10_whole_2 4 rfl rfl)
theorem dX10_whole_55 : decode cX10_whole 55 = .ok (.aload_n 0, 1) := dk_42 (dk_at dksX10_whole_2 7 rfl rfl)
theorem dX10_whole_56 : decode cX10_whole 56 = .ok (.iload_n 1, 1) := dk_27 (dk_at dksX10_whole_2 8 rfl rfl)
theorem dX10_whole_57 : decode cX10_whole 57 = .ok (.bipush 43, 2) := dk_16 43 (dk_at dksX10_whole_2 9 rfl rfl)
theorem dX10_whole_59 : decode cX10_whole 59 = .ok (.if_icmp .ne 8, 3) := dk_160 0 8 (dk_at dksX10_whole_2 11 rfl rfl)
theorem dX10_whole_62 : decode cX10_whole 62 = .ok (.bipush 6, 2) := dk_16 6 (dk_at dksX10_whole_2 14 rfl rfl)
theorem dX10_whole_64 : decode cX10_whole 64 = .ok (.goto 5, 3) := dk_167 0 5 (dk_at dksX10_whole_2 16 rfl rfl)
theorem dX10_whole_67 : decode cX10_whole 67 = .ok (.bipush 7, 2) := dk_16 7 (dk_at dksX10_whole_2 19 rfl rfl)
theorem dX10_whole_69 : decode cX10_whole 69 = .ok (.iconst 0, 1) := dk_3 (dk_at dksX10_whole_2 21 rfl rfl)
theorem dX10_whole_70 : decode cX10_whole 70 = .ok (.invokevirtual 320, 3) := dk_182 1 64 (dk_at dksX10_whole_3 0 rfl rfl)
theorem dX10_whole_73 : decode cX10_whole 73 = .ok (.goto (-69), 3) := dk_167 255 187 (dk_at dksX10_whole_3 3 rfl rfl)
theorem dX10_whole_76 : decode cX10_whole 76 = .ok (.return_, 1) := dk_177 (dk_at dksX10_whole_3 6 rfl rfl)
def dkwX10_part_3 : List UInt8 := [182, 1, 64, 167, 255, 187, 177]
abbrev dktX10_part_3 : List UInt8 := dkwX10_part_3 ++ []
def dkwX10_part_2 : List UInt8 := [42, 182, 1, 41, 153, 0, 21, 42, 27, 16, 42, 160, 0, 8, 16, 8, 167, 0, 5, 16, 9, 3]
abbrev dktX10_part_2 : List UInt8 := dkwX10_part_2 ++ dktX10_part_3
def dkwX10_part_1 : List UInt8 := [16, 47, 160, 0, 50, 42, 182, 1, 34, 60, 42, 89, 180, 1, 28, 4, 96, 181, 1, 28, 42, 182, 1, 93]
abbrev dktX10_part_1 : List UInt8 := dkwX10_part_1 ++ dktX10_part_2
def dkwX10_part_0 : List UInt8 := [42, 182, 1, 93, 42, 182, 1, 41, 153, 0, 68, 42, 182, 1, 34, 16, 42, 159, 0, 12, 42, 182, 1, 34]
abbrev dktX10_part_0 : List UInt8 := dkwX10_part_0 ++ dktX10_part_1
theorem dksX10_part_0 : cX10_part.data.toList.drop 0 = dktX10_part_0 := by decide +kernel
theorem dksX10_part_1 : cX10_part.data.toList.drop 24 = dktX10_part_1 := dk_seg dksX10_part_0 24 rfl rfl
theorem dksX10_part_2 : cX10_part.data.toList.drop 48 = dktX10_part_2 := dk_seg dksX10_part_1 24 rfl rfl
theorem dksX10_part_3 : cX10_part.data.toList.drop 70 = dktX10_part_3 := dk_seg dksX10_part_2 22 rfl rfl
theorem dX10_part_0 : decode cX10_part 0 = .ok (.aload_n 0, 1) := dk_42 (dk_at dksX10_part_0 0 rfl rfl)
theorem dX10_part_1 : decode cX10_part 1 = .ok (.invokevirtual 349, 3) := dk_182 1 93 (dk_at dksX10_part_0 1 rfl rfl)
theorem dX10_part_4 : decode cX10_part 4 = .ok (.aload_n 0, 1) := dk_42 (dk_at dksX10_part_0 4 rfl rfl)
theorem dX10_part_5 : decode cX10_part 5 = .ok (.invokevirtual 297, 3) := dk_182 1 41 (dk_at dksX10_part_0 5 rfl rfl)
theorem dX10_part_8 : decode cX10_part 8 = .ok (.ifCond .eq 68, 3) := dk_153 0 68 (dk_at dksX10_part_0 8 rfl rfl)
theorem dX10_part_11 : decode cX10_part 11 = .ok (.aload_n 0, 1) := dk_42 (dk_at dksX10_part_0 11 rfl rfl)
theorem dX10_part_12 : decode cX10_part 12 = .ok (.invokevirtual 290, 3) := dk_182 1 34 (dk_at dksX10_part_0 12 rfl rfl)
theorem dX10_part_15 : decode cX10_part 15 = .ok (.bipush 42, 2) := dk_16 42 (dk_at dksX10_part_0 15 rfl rfl)
theorem dX10_part_17 : decode cX10_part 17 = .ok (.if_icmp .eq 12, 3) := dk_159 0 12 (dk_at dksX10_part_0 17 rfl rfl)
theorem dX10_part_20 : decode cX10_part 20 = .ok (.aload_n 0, 1) := dk_42 (dk_at dksX10_part_0 20 rfl rfl)
theorem dX10_part_21 : decode cX10_part 21 = .ok (.invokevirtual 290, 3) := dk_182 1 34 (dk_at dksX10_part_0 21 rfl rfl)
theorem dX10_part_24 : decode cX10_part 24 = .ok (.bipush 47, 2) := dk_16 47 (dk_at dksX10_part_1 0 rfl rfl)
theorem dX10_part_26 : decode cX10_part 26 = .ok (.if_icmp .ne 50, 3) := dk_160 0 50 (dk_at dksX10_part_1 2 rfl rfl)
theorem dX10_part_29 : decode cX10_part 29 = .ok (.aload_n 0, 1) := dk_42 (dk_at dksX10_part_1 5 rfl rfl)
theorem dX10_part_30 : decode cX10_part 30 = .ok (.invokevirtual 290, 3) := dk_182 1 34 (dk_at dksX10_part_1 6 rfl rfl)
theorem dX10_part_33 : decode cX10_part 33 = .ok (.istore_n 1, 1) := dk_60 (dk_at dksX10_part_1 9 rfl rfl)
theorem dX10_part_34 : decode cX10_part 34 = .ok (.aload_n 0, 1) := dk_42 (dk_at dksX10_part_1 10 rfl rfl)
theorem dX10_part_35 : decode cX10_part 35 = .ok (.dup, 1) := dk_89 (dk_at dksX10_part_1 11 rfl rfl)
theorem dX10_part_36 : decode cX10_part 36 = .ok (.getfield 284, 3) := dk_180 1 28 (dk_at dksX10_part_1 12 rfl rfl)
theorem dX10_part_39 : decode cX10_part 39 = .ok (.iconst 1, 1) := dk_4 (dk_at dksX10_part_1 15 rfl rfl)
theorem dX10_part_40 : decode cX10_part 40 = .ok (.iadd, 1) := dk_96 (dk_at dksX10_part_1 16 rfl rfl)
theorem dX10_part_41 : decode cX10_part 41 = .ok (.putfield 284, 3) := dk_181 1 28 (dk_at dksX10_part_1 17 rfl rfl)
theorem dX10_part_44 : decode cX10_part 44 = .ok (.aload_n 0, 1) := dk_42 (dk_at dksX10_part_1 20 rfl rfl)
theorem dX10_part_45 : decode cX10_part 45 = .ok (.invokevirtual 349, 3) := dk_182 1 93 (dk_at dksX10_part_1 21 rfl rfl)
theorem dX10_part_48 : decode cX10_part 48 = .ok (.aload_n 0, 1) := dk_42 (dk_at dksX10_part_2 0 rfl rfl)
theorem dX10_part_49 : decode cX10_part 49 = .ok (.invokevirtual 297, 3) := dk_182 1 41 (dk_at dksX10_part_2 1 rfl rfl)
theorem dX10_part_52 : decode cX10_part 52 = .ok (.ifCond .eq 21, 3) := dk_153 0 21 (dk_at dksX10_part_2 4 rfl rfl)
theorem dX10_part_55 : decode cX10_part 55 = .ok (.aload_n 0, 1) := dk_42 (dk_at dksX10_part_2 7 rfl rfl)
theorem dX10_part_56 : decode cX10_part 56 = .ok (.iload_n 1, 1) := dk_27 (dk_at dksX10_part_2 8 rfl rfl)
theorem dX10_part_57 : decode cX10_part 57 = .ok (.bipush 42, 2) := dk_16 42 (dk_at dksX10_part_2 9 rfl rfl)
theorem dX10_part_59 : decode cX10_part 59 = .ok (.if_icmp .ne 8, 3) := dk_160 0 8 (dk_at dksX10_part_2 11 rfl rfl)
theorem dX10_part_62 : decode cX10_part 62 = .ok (.bipush 8, 2) := dk_16 8 (dk_at dksX10_part_2 14 rfl rfl)
theorem dX10_part_64 : decode cX10_part 64 = .ok (.goto 5, 3) := dk_167 0 5 (dk_at dksX10_part_2 16 rfl rfl)
theorem dX10_part_67 : decode cX10_part 67 = .ok (.bipush 9, 2) := dk_16 9 (dk_at dksX10_part_2 19 rfl rfl)
theorem dX10_part_69 : decode cX10_part 69 = .ok (.iconst 0, 1) := dk_3 (dk_at dksX10_part_2 21 rfl rfl)
theorem dX10_part_70 : decode cX10_part 70 = .ok (.invokevirtual 320, 3) := dk_182 1 64 (dk_at dksX10_part_3 0 rfl rfl)
theorem dX10_part_73 : decode cX10_part 73 = .ok (.goto (-69), 3) := dk_167 255 187 (dk_at dksX10_part_3 3 rfl rfl)
theorem dX10_part_76 : decode cX10_part 76 = .ok (.return_, 1) := dk_177 (dk_at dksX10_part_3 6 rfl rfl)
def dkwX10_unit_11 : List UInt8 := [16, 11, 3, 182, 1, 64, 177]
abbrev dktX10_unit_11 : List UInt8 := dkwX10_unit_11 ++ []
def dkwX10_unit_10 : List UInt8 := [182, 1, 74, 42, 182, 1, 41, 153, 0, 22, 42, 28, 19, 1, 85, 160, 0, 8, 16, 10, 167, 0, 5]
abbrev dktX10_unit_10 : List UInt8 := dkwX10_unit_10 ++ dktX10_unit_11
def dkwX10_unit_9 : List UInt8 := [28, 17, 1, 38, 160, 0, 8, 42, 182, 1, 90, 177, 42, 16, 44, 182, 1, 58, 42, 182, 1, 71, 42]
abbrev dktX10_unit_9 : List UInt8 := dkwX10_unit_9 ++ dktX10_unit_10
def dkwX10_unit_8 : List UInt8 := [19, 1, 83, 160, 0, 7, 7, 167, 0, 4, 8, 3, 182, 1, 64, 177, 42, 182, 1, 68, 42, 182, 1, 71]
abbrev dktX10_unit_8 : List UInt8 := dkwX10_unit_8 ++ dktX10_unit_9
def dkwX10_unit_7 : List UInt8 := [28, 19, 1, 81, 160, 0, 7, 5, 167, 0, 26, 28, 19, 1, 82, 160, 0, 7, 6, 167, 0, 15, 28]
abbrev dktX10_unit_7 : List UInt8 := dkwX10_unit_7 ++ dktX10_unit_8
def dkwX10_unit_6 : List UInt8 := [182, 1, 48, 177, 42, 182, 1, 87, 29, 153, 0, 54, 42, 28, 19, 1, 80, 160, 0, 7, 4, 167, 0, 37]
abbrev dktX10_unit_6 : List UInt8 := dkwX10_unit_6 ++ dktX10_unit_7
def dkwX10_unit_5 : List UInt8 := [159, 0, 26, 28, 19, 1, 86, 159, 0, 19, 28, 17, 1, 38, 159, 0, 12, 42, 42, 180, 1, 28]
abbrev dktX10_unit_5 : List UInt8 := dkwX10_unit_5 ++ dktX10_unit_6
def dkwX10_unit_4 : List UInt8 := [159, 0, 10, 28, 19, 1, 84, 160, 0, 7, 4, 167, 0, 4, 3, 62, 29, 154, 0, 33, 28, 19, 1, 85]
abbrev dktX10_unit_4 : List UInt8 := dkwX10_unit_4 ++ dktX10_unit_5
def dkwX10_unit_3 : List UInt8 := [19, 1, 80, 159, 0, 31, 28, 19, 1, 81, 159, 0, 24, 28, 19, 1, 82, 159, 0, 17, 28, 19, 1, 83]
abbrev dktX10_unit_3 : List UInt8 := dkwX10_unit_3 ++ dktX10_unit_4
def dkwX10_unit_2 : List UInt8 := [160, 0, 16, 42, 182, 1, 68, 42, 182, 1, 71, 42, 182, 1, 74, 177, 42, 182, 1, 77, 61, 28]
abbrev dktX10_unit_2 : List UInt8 := dkwX10_unit_2 ++ dktX10_unit_3
def dkwX10_unit_1 : List UInt8 := [17, 3, 231, 182, 1, 61, 61, 42, 182, 1, 41, 153, 0, 9, 42, 3, 28, 182, 1, 64, 177, 27, 16, 40]
abbrev dktX10_unit_1 : List UInt8 := dkwX10_unit_1 ++ dktX10_unit_2
def dkwX10_unit_0 : List UInt8 := [42, 182, 1, 41, 154, 0, 4, 177, 42, 182, 1, 34, 60, 27, 184, 1, 45, 153, 0, 26, 42, 3]
abbrev dktX10_unit_0 : List UInt8 := dkwX10_unit_0 ++ dktX10_unit_1
theorem dksX10_unit_0 : cX10_unit.data.toList.drop 0 = dktX10_unit_0 := by decide +kernel
theorem dksX10_unit_1 : cX10_unit.data.toList.drop 22 = dktX10_unit_1 := dk_seg dksX10_unit_0 22 rfl rfl
theorem dksX10_unit_2 : cX10_unit.data.toList.drop 46 = dktX10_unit_2 := dk_seg dksX10_unit_1 24 rfl rfl
theorem dksX10_unit_3 : cX10_unit.data.toList.drop 68 = dktX10_unit_3 := dk_seg dksX10_unit_2 22 rfl rfl
theorem dksX10_unit_4 : cX10_unit.data.toList.drop 92 = dktX10_unit_4 := dk_seg dksX10_unit_3 24 rfl rfl
theorem dksX10_unit_5 : cX10_unit.data.toList.drop 116 = dktX10_unit_5 := dk_seg dksX10_unit_4 24 rfl rfl
theorem dksX10_unit_6 : cX10_unit.data.toList.drop 138 = dktX10_unit_6 := dk_seg dksX10_unit_5 22 rfl rfl
theorem dksX10_unit_7 : cX10_unit.data.toList.drop 162 = dktX10_unit_7 := dk_seg dksX10_unit_6 24 rfl rfl
theorem dksX10_unit_8 : cX10_unit.data.toList.drop 185 = dktX10_unit_8 := dk_seg dksX10_unit_7 23 rfl rfl
theorem dksX10_unit_9 : cX10_unit.data.toList.drop 209 = dktX10_unit_9 := dk_seg dksX10_unit_8 24 rfl rfl
theorem dksX10_unit_10 : cX10_unit.data.toList.drop 232 = dktX10_unit_10 := dk_seg dksX10_unit_9 23 rfl rfl
theorem dksX10_unit_11 : cX10_unit.data.toList.drop 255 = dktX10_unit_11 := dk_seg dksX10_unit_10 23 rfl rfl
theorem dX10_unit_0 : decode cX10_unit 0 = .ok (.aload_n 0, 1) := dk_42 (dk_at dksX10_unit_0 0 rfl rfl)
theorem dX10_unit_1 : decode cX10_unit 1 = .ok (.invokevirtual 297, 3) := dk_182 1 41 (dk_at dksX10_unit_0 1 rfl rfl)
theorem dX10_unit_4 : decode cX10_unit 4 = .ok (.ifCond .ne 4, 3) := dk_154 0 4 (dk_at dksX10_unit_0 4 rfl rfl)
theorem dX10_unit_7 : decode cX10_unit 7 = .ok (.return_, 1) := dk_177 (dk_at dksX10_unit_0 7 rfl rfl)
theorem dX10_unit_8 : decode cX10_unit 8 = .ok (.aload_n 0, 1) := dk_42 (dk_at dksX10_unit_0 8 rfl rfl)
theorem dX10_unit_9 : decode cX10_unit 9 = .ok (.invokevirtual 290, 3) := dk_182 1 34 (dk_at dksX10_unit_0 9 rfl rfl)
theorem dX10_unit_12 : decode cX10_unit 12 = .ok (.istore_n 1, 1) := dk_60 (dk_at dksX10_unit_0 12 rfl rfl)
theorem dX10_unit_13 : decode cX10_unit 13 = .ok (.iload_n 1, 1) := dk_27 (dk_at dksX10_unit_0 13 rfl rfl)
theorem dX10_unit_14 : decode cX10_unit 14 = .ok (.invokestatic 301, 3) := dk_184 1 45 (dk_at dksX10_unit_0 14 rfl rfl)
theorem dX10_unit_17 : decode cX10_unit 17 = .ok (.ifCond .eq 26, 3) := dk_153 0 26 (dk_at dksX10_unit_0 17 rfl rfl)
theorem dX10_unit_20 : decode cX10_unit 20 = .ok (.aload_n 0, 1) := dk_42 (dk_at dksX10_unit_0 20 rfl rfl)
theorem dX10_unit_21 : decode cX10_unit 21 = .ok (.iconst 0, 1) := dk_3 (dk_at dksX10_unit_0 21 rfl rfl)
theorem dX10_unit_22 : decode cX10_unit 22 = .ok (.sipush 999, 3) := dk_17 3 231 (dk_at dksX10_unit_1 0 rfl rfl)
theorem dX10_unit_25 : decode cX10_unit 25 = .ok (.invokevirtual 317, 3) := dk_182 1 61 (dk_at dksX10_unit_1 3 rfl rfl)
theorem dX10_unit_28 : decode cX10_unit 28 = .ok (.istore_n 2, 1) := dk_61 (dk_at dksX10_unit_1 6 rfl rfl)
theorem dX10_unit_29 : decode cX10_unit 29 = .ok (.aload_n 0, 1) := dk_42 (dk_at dksX10_unit_1 7 rfl rfl)
theorem dX10_unit_30 : decode cX10_unit 30 = .ok (.invokevirtual 297, 3) := dk_182 1 41 (dk_at dksX10_unit_1 8 rfl rfl)
theorem dX10_unit_33 : decode cX10_unit 33 = .ok (.ifCond .eq 9, 3) := dk_153 0 9 (dk_at dksX10_unit_1 11 rfl rfl)
theorem dX10_unit_36 : decode cX10_unit 36 = .ok (.aload_n 0, 1) := dk_42 (dk_at dksX10_unit_1 14 rfl rfl)
theorem dX10_unit_37 : decode cX10_unit 37 = .ok (.iconst 0, 1) := dk_3 (dk_at dksX10_unit_1 15 rfl rfl)
theorem dX10_unit_38 : decode cX10_unit 38 = .ok (.iload_n 2, 1) := dk_28 (dk_at dksX10_unit_1 16 rfl rfl)
theorem dX10_unit_39 : decode cX10_unit 39 = .ok (.invokevirtual 320, 3) := dk_182 1 64 (dk_at dksX10_unit_1 17 rfl rfl)
theorem dX10_unit_42 : decode cX10_unit 42 = .ok (.return_, 1) := dk_177 (dk_at dksX10_unit_1 20 rfl rfl)
theorem dX10_unit_43 : decode cX10_unit 43 = .ok (.iload_n 1, 1) := dk_27 (dk_at dksX10_unit_1 21 rfl rfl)
theorem dX10_unit_44 : decode cX10_unit 44 = .ok (.bipush 40, 2) := dk_16 40 (dk_at dksX10_unit_1 22 rfl rfl)
theorem dX10_unit_46 : decode cX10_unit 46 = .ok (.if_icmp .ne 16, 3) := dk_160 0 16 (dk_at dksX10_unit_2 0 rfl rfl)
theorem dX10_unit_49 : decode cX10_unit 49 = .ok (.aload_n 0, 1) := dk_42 (dk_at dksX10_unit_2 3 rfl rfl)
theorem dX10_unit_50 : decode cX10_unit 50 = .ok (.invokevirtual 324, 3) := dk_182 1 68 (dk_at dksX10_unit_2 4 rfl rfl)
theorem dX10_unit_53 : decode cX10_unit 53 = .ok (.aload_n 0, 1) := dk_42 (dk_at dksX10_unit_2 7 rfl rfl)
theorem dX10_unit_54 : decode cX10_unit 54 = .ok (.invokevirtual 327, 3) := dk_182 1 71 (dk_at dksX10_unit_2 8 rfl rfl)
theorem dX10_unit_57 : decode cX10_unit 57 = .ok (.aload_n 0, 1) := dk_42 (dk_at dksX10_unit_2 11 rfl rfl)
theorem dX10_unit_58 : decode cX10_unit 58 = .ok (.invokevirtual 330, 3) := dk_182 1 74 (dk_at dksX10_unit_2 12 rfl rfl)
theorem dX10_unit_61 : decode cX10_unit 61 = .ok (.return_, 1) := dk_177 (dk_at dksX10_unit_2 15 rfl rfl)
theorem dX10_unit_62 : decode cX10_unit 62 = .ok (.aload_n 0, 1) := dk_42 (dk_at dksX10_unit_2 16 rfl rfl)
theorem dX10_unit_63 : decode cX10_unit 63 = .ok (.invokevirtual 333, 3) := dk_182 1 77 (dk_at dksX10_unit_2 17 rfl rfl)
theorem dX10_unit_66 : decode cX10_unit 66 = .ok (.istore_n 2, 1) := dk_61 (dk_at dksX10_unit_2 20 rfl rfl)
theorem dX10_unit_67 : decode cX10_unit 67 = .ok (.iload_n 2, 1) := dk_28 (dk_at dksX10_unit_2 21 rfl rfl)
theorem dX10_unit_68 : decode cX10_unit 68 = .ok (.ldc_w 336, 3) := dk_19 1 80 (dk_at dksX10_unit_3 0 rfl rfl)
theorem dX10_unit_71 : decode cX10_unit 71 = .ok (.if_icmp .eq 31, 3) := dk_159 0 31 (dk_at dksX10_unit_3 3 rfl rfl)
theorem dX10_unit_74 : decode cX10_unit 74 = .ok (.iload_n 2, 1) := dk_28 (dk_at dksX10_unit_3 6 rfl rfl)
theorem dX10_unit_75 : decode cX10_unit 75 = .ok (.ldc_w 337, 3) := dk_19 1 81 (dk_at dksX10_unit_3 7 rfl rfl)
theorem dX10_unit_78 : decode cX10_unit 78 = .ok (.if_icmp .eq 24, 3) := dk_159 0 24 (dk_at dksX10_unit_3 10 rfl rfl)
theorem dX10_unit_81 : decode cX10_unit 81 = .ok (.iload_n 2, 1) := dk_28 (dk_at dksX10_unit_3 13 rfl rfl)
theorem dX10_unit_82 : decode cX10_unit 82 = .ok (.ldc_w 338, 3) := dk_19 1 82 (dk_at dksX10_unit_3 14 rfl rfl)
theorem dX10_unit_85 : decode cX10_unit 85 = .ok (.if_icmp .eq 17, 3) := dk_159 0 17 (dk_at dksX10_unit_3 17 rfl rfl)
theorem dX10_unit_88 : decode cX10_unit 88 = .ok (.iload_n 2, 1) := dk_28 (dk_at dksX10_unit_3 20 rfl rfl)
theorem dX10_unit_89 : decode cX10_unit 89 = .ok (.ldc_w 339, 3) := dk_19 1 83 (dk_at dksX10_unit_3 21 rfl rfl)
theorem dX10_unit_92 : decode cX10_unit 92 = .ok (.if_icmp .eq 10, 3) := dk_159 0 10 (dk_at dksX10_unit_4 0 rfl rfl)
theorem dX10_unit_95 : decode cX10_unit 95 = .ok (.iload_n 2, 1) := dk_28 (dk_at dksX10_unit_4 3 rfl rfl)
theorem dX10_unit_96 : decode cX10_unit 96 = .ok (.ldc_w 340, 3) := dk_19 1 84 (dk_at dksX10_unit_4 4 rfl rfl)
theorem dX10_unit_99 : decode cX10_unit 99 = .ok (.if_icmp .ne 7, 3) := dk_160 0 7 (dk_at dksX10_unit_4 7 rfl rfl)
theorem dX10_unit_102 : decode cX10_unit 102 = .ok (.iconst 1, 1) := dk_4 (dk_at dksX10_unit_4 10 rfl rfl)
theorem dX10_unit_103 : decode cX10_unit 103 = .ok (.goto 4, 3) := dk_167 0 4 (dk_at dksX10_unit_4 11 rfl rfl)
theorem dX10_unit_106 : decode cX10_unit 106 = .ok (.iconst 0, 1) := dk_3 (dk_at dksX10_unit_4 14 rfl rfl)
theorem dX10_unit_107 : decode cX10_unit 107 = .ok (.istore_n 3, 1) := dk_62 (dk_at dksX10_unit_4 15 rfl rfl)
theorem dX10_unit_108 : decode cX10_unit 108 = .ok (.iload_n 3, 1) := dk_29 (dk_at dksX10_unit_4 16 rfl rfl)
theorem dX10_unit_109 : decode cX10_unit 109 = .ok (.ifCond .ne 33, 3) := dk_154 0 33 (dk_at dksX10_unit_4 17 rfl rfl)
theorem dX10_unit_112 : decode cX10_unit 112 = .ok (.iload_n 2, 1) := dk_28 (dk_at dksX10_unit_4 20 rfl rfl)
