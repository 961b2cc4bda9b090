set_option maxRecDepth 100000
def dkwX2_init_3 : List UInt8 := [188, 10, 181, 0, 36, 177]
abbrev dktX2_init_3 : List UInt8 := dkwX2_init_3 ++ []
def dkwX2_init_2 : List UInt8 := [188, 10, 181, 0, 27, 42, 16, 64, 188, 10, 181, 0, 30, 42, 16, 64, 188, 10, 181, 0, 33, 42, 16, 64]
abbrev dktX2_init_2 : List UInt8 := dkwX2_init_2 ++ dktX2_init_3
def dkwX2_init_1 : List UInt8 := [188, 10, 181, 0, 18, 42, 16, 64, 188, 10, 181, 0, 21, 42, 16, 64, 188, 10, 181, 0, 24, 42, 16, 64]
abbrev dktX2_init_1 : List UInt8 := dkwX2_init_1 ++ dktX2_init_2
def dkwX2_init_0 : List UInt8 := [42, 183, 0, 3, 42, 16, 64, 188, 10, 181, 0, 9, 42, 16, 64, 188, 10, 181, 0, 15, 42, 16, 64]
abbrev dktX2_init_0 : List UInt8 := dkwX2_init_0 ++ dktX2_init_1
theorem dksX2_init_0 : cX2_init.data.toList.drop 0 = dktX2_init_0 := by decide +kernel
theorem dksX2_init_1 : cX2_init.data.toList.drop 23 = dktX2_init_1 := dk_seg dksX2_init_0 23 rfl rfl
theorem dksX2_init_2 : cX2_init.data.toList.drop 47 = dktX2_init_2 := dk_seg dksX2_init_1 24 rfl rfl
theorem dksX2_init_3 : cX2_init.data.toList.drop 71 = dktX2_init_3 := dk_seg dksX2_init_2 24 rfl rfl
theorem dX2_init_0 : decode cX2_init 0 = .ok (.aload_n 0, 1) := dk_42 (dk_at dksX2_init_0 0 rfl rfl)
theorem dX2_init_1 : decode cX2_init 1 = .ok (.invokespecial 3, 3) := dk_183 0 3 (dk_at dksX2_init_0 1 rfl rfl)
theorem dX2_init_4 : decode cX2_init 4 = .ok (.aload_n 0, 1) := dk_42 (dk_at dksX2_init_0 4 rfl rfl)
theorem dX2_init_5 : decode cX2_init 5 = .ok (.bipush 64, 2) := dk_16 64 (dk_at dksX2_init_0 5 rfl rfl)
theorem dX2_init_7 : decode cX2_init 7 = .ok (.newarray .int, 2) := dk_188_10 (dk_at dksX2_init_0 7 rfl rfl)
theorem dX2_init_9 : decode cX2_init 9 = .ok (.putfield 9, 3) := dk_181 0 9 (dk_at dksX2_init_0 9 rfl rfl)
theorem dX2_init_12 : decode cX2_init 12 = .ok (.aload_n 0, 1) := dk_42 (dk_at dksX2_init_0 12 rfl rfl)
theorem dX2_init_13 : decode cX2_init 13 = .ok (.bipush 64, 2) := dk_16 64 (dk_at dksX2_init_0 13 rfl rfl)
theorem dX2_init_15 : decode cX2_init 15 = .ok (.newarray .int, 2) := dk_188_10 (dk_at dksX2_init_0 15 rfl rfl)
theorem dX2_init_17 : decode cX2_init 17 = .ok (.putfield 15, 3) := dk_181 0 15 (dk_at dksX2_init_0 17 rfl rfl)
theorem dX2_init_20 : decode cX2_init 20 = .ok (.aload_n 0, 1) := dk_42 (dk_at dksX2_init_0 20 rfl rfl)
theorem dX2_init_21 : decode cX2_init 21 = .ok (.bipush 64, 2) := dk_16 64 (dk_at dksX2_init_0 21 rfl rfl)
theorem dX2_init_23 : decode cX2_init 23 = .ok (.newarray .int, 2) := dk_188_10 (dk_at dksX2_init_1 0 rfl rfl)
theorem dX2_init_25 : decode cX2_init 25 = .ok (.putfield 18, 3) := dk_181 0 18 (dk_at dksX2_init_1 2 rfl rfl)
theorem dX2_init_28 : decode cX2_init 28 = .ok (.aload_n 0, 1) := dk_42 (dk_at dksX2_init_1 5 rfl rfl)
theorem dX2_init_29 : decode cX2_init 29 = .ok (.bipush 64, 2) := dk_16 64 (dk_at dksX2_init_1 6 rfl rfl)
theorem dX2_init_31 : decode cX2_init 31 = .ok (.newarray .int, 2) := dk_188_10 (dk_at dksX2_init_1 8 rfl rfl)
theorem dX2_init_33 : decode cX2_init 33 = .ok (.putfield 21, 3) := dk_181 0 21 (dk_at dksX2_init_1 10 rfl rfl)
theorem dX2_init_36 : decode cX2_init 36 = .ok (.aload_n 0, 1) := dk_42 (dk_at dksX2_init_1 13 rfl rfl)
theorem dX2_init_37 : decode cX2_init 37 = .ok (.bipush 64, 2) := dk_16 64 (dk_at dksX2_init_1 14 rfl rfl)
theorem dX2_init_39 : decode cX2_init 39 = .ok (.newarray .int, 2) := dk_188_10 (dk_at dksX2_init_1 16 rfl rfl)
theorem dX2_init_41 : decode cX2_init 41 = .ok (.putfield 24, 3) := dk_181 0 24 (dk_at dksX2_init_1 18 rfl rfl)
theorem dX2_init_44 : decode cX2_init 44 = .ok (.aload_n 0, 1) := dk_42 (dk_at dksX2_init_1 21 rfl rfl)
theorem dX2_init_45 : decode cX2_init 45 = .ok (.bipush 64, 2) := dk_16 64 (dk_at dksX2_init_1 22 rfl rfl)
theorem dX2_init_47 : decode cX2_init 47 = .ok (.newarray .int, 2) := dk_188_10 (dk_at dksX2_init_2 0 rfl rfl)
theorem dX2_init_49 : decode cX2_init 49 = .ok (.putfield 27, 3) := dk_181 0 27 (dk_at dksX2_init_2 2 rfl rfl)
theorem dX2_init_52 : decode cX2_init 52 = .ok (.aload_n 0, 1) := dk_42 (dk_at dksX2_init_2 5 rfl rfl)
theorem dX2_init_53 : decode cX2_init 53 = .ok (.bipush 64, 2) := dk_16 64 (dk_at dksX2_init_2 6 rfl rfl)
theorem dX2_init_55 : decode cX2_init 55 = .ok (.newarray .int, 2) := dk_188_10 (dk_at dksX2_init_2 8 rfl rfl)
theorem dX2_init_57 : decode cX2_init 57 = .ok (.putfield 30, 3) := dk_181 0 30 (dk_at dksX2_init_2 10 rfl rfl)
theorem dX2_init_60 : decode cX2_init 60 = .ok (.aload_n 0, 1) := dk_42 (dk_at dksX2_init_2 13 rfl rfl)
theorem dX2_init_61 : decode cX2_init 61 = .ok (.bipush 64, 2) := dk_16 64 (dk_at dksX2_init_2 14 rfl rfl)
theorem dX2_init_63 : decode cX2_init 63 = .ok (.newarray .int, 2) := dk_188_10 (dk_at dksX2_init_2 16 rfl rfl)
theorem dX2_init_65 : decode cX2_init 65 = .ok (.putfield 33, 3) := dk_181 0 33 (dk_at dksX2_init_2 18 rfl rfl)
theorem dX2_init_68 : decode cX2_init 68 = .ok (.aload_n 0, 1) := dk_42 (dk_at dksX2_init_2 21 rfl rfl)
theorem dX2_init_69 : decode cX2_init 69 = .ok (.bipush 64, 2) := dk_16 64 (dk_at dksX2_init_2 22 rfl rfl)
theorem dX2_init_71 : decode cX2_init 71 = .ok (.newarray .int, 2) := dk_188_10 (dk_at dksX2_init_3 0 rfl rfl)
theorem dX2_init_73 : decode cX2_init 73 = .ok (.putfield 36, 3) := dk_181 0 36 (dk_at dksX2_init_3 2 rfl rfl)
theorem dX2_init_76 : decode cX2_init 76 = .ok (.return_, 1) := dk_177 (dk_at dksX2_init_3 5 rfl rfl)
def dkwX2_like_5 : List UInt8 := [184, 0, 39, 43, 180, 0, 36, 3, 42, 180, 0, 36, 3, 16, 64, 184, 0, 39, 177]
abbrev dktX2_like_5 : List UInt8 := dkwX2_like_5 ++ []
def dkwX2_like_4 : List UInt8 := [3, 42, 180, 0, 30, 3, 16, 64, 184, 0, 39, 43, 180, 0, 33, 3, 42, 180, 0, 33, 3, 16, 64]
abbrev dktX2_like_4 : List UInt8 := dkwX2_like_4 ++ dktX2_like_5
def dkwX2_like_3 : List UInt8 := [16, 64, 184, 0, 39, 43, 180, 0, 27, 3, 42, 180, 0, 27, 3, 16, 64, 184, 0, 39, 43, 180, 0, 30]
abbrev dktX2_like_3 : List UInt8 := dkwX2_like_3 ++ dktX2_like_4
def dkwX2_like_2 : List UInt8 := [180, 0, 21, 3, 42, 180, 0, 21, 3, 16, 64, 184, 0, 39, 43, 180, 0, 24, 3, 42, 180, 0, 24, 3]
abbrev dktX2_like_2 : List UInt8 := dkwX2_like_2 ++ dktX2_like_3
def dkwX2_like_1 : List UInt8 := [3, 16, 64, 184, 0, 39, 43, 180, 0, 18, 3, 42, 180, 0, 18, 3, 16, 64, 184, 0, 39, 43]
abbrev dktX2_like_1 : List UInt8 := dkwX2_like_1 ++ dktX2_like_2
def dkwX2_like_0 : List UInt8 := [43, 180, 0, 9, 3, 42, 180, 0, 9, 3, 16, 64, 184, 0, 39, 43, 180, 0, 15, 3, 42, 180, 0, 15]
abbrev dktX2_like_0 : List UInt8 := dkwX2_like_0 ++ dktX2_like_1
theorem dksX2_like_0 : cX2_like.data.toList.drop 0 = dktX2_like_0 := by decide +kernel
theorem dksX2_like_1 : cX2_like.data.toList.drop 24 = dktX2_like_1 := dk_seg dksX2_like_0 24 rfl rfl
theorem dksX2_like_2 : cX2_like.data.toList.drop 46 = dktX2_like_2 := dk_seg dksX2_like_1 22 rfl rfl
theorem dksX2_like_3 : cX2_like.data.toList.drop 70 = dktX2_like_3 := dk_seg dksX2_like_2 24 rfl rfl
theorem dksX2_like_4 : cX2_like.data.toList.drop 94 = dktX2_like_4 := dk_seg dksX2_like_3 24 rfl rfl
theorem dksX2_like_5 : cX2_like.data.toList.drop 117 = dktX2_like_5 := dk_seg dksX2_like_4 23 rfl rfl
theorem dX2_like_0 : decode cX2_like 0 = .ok (.aload_n 1, 1) := dk_43 (dk_at dksX2_like_0 0 rfl rfl)
theorem dX2_like_1 : decode cX2_like 1 = .ok (.getfield 9, 3) := dk_180 0 9 (dk_at dksX2_like_0 1 rfl rfl)
theorem dX2_like_4 : decode cX2_like 4 = .ok (.iconst 0, 1) := dk_3 (dk_at dksX2_like_0 4 rfl rfl)
theorem dX2_like_5 : decode cX2_like 5 = .ok (.aload_n 0, 1) := dk_42 (dk_at dksX2_like_0 5 rfl rfl)
theorem dX2_like_6 : decode cX2_like 6 = .ok (.getfield 9, 3) := dk_180 0 9 (dk_at dksX2_like_0 6 rfl rfl)
theorem dX2_like_9 : decode cX2_like 9 = .ok (.iconst 0, 1) := dk_3 (dk_at dksX2_like_0 9 rfl rfl)
theorem dX2_like_10 : decode cX2_like 10 = .ok (.bipush 64, 2) := dk_16 64 (dk_at dksX2_like_0 10 rfl rfl)
theorem dX2_like_12 : decode cX2_like 12 = .ok (.invokestatic 39, 3) := dk_184 0 39 (dk_at dksX2_like_0 12 rfl rfl)
theorem dX2_like_15 : decode cX2_like 15 = .ok (.aload_n 1, 1) := dk_43 (dk_at dksX2_like_0 15 rfl rfl)
theorem dX2_like_16 : decode cX2_like 16 = .ok (.getfield 15, 3) := dk_180 0 15 (dk_at dksX2_like_0 16 rfl rfl)
theorem dX2_like_19 : decode cX2_like 19 = .ok (.iconst 0, 1) := dk_3 (dk_at dksX2_like_0 19 rfl rfl)
theorem dX2_like_20 : decode cX2_like 20 = .ok (.aload_n 0, 1) := dk_42 (dk_at dksX2_like_0 20 rfl rfl)
theorem dX2_like_21 : decode cX2_like 21 = .ok (.getfield 15, 3) := dk_180 0 15 (dk_at dksX2_like_0 21 rfl rfl)
theorem dX2_like_24 : decode cX2_like 24 = .ok (.iconst 0, 1) := dk_3 (dk_at dksX2_like_1 0 rfl rfl)
theorem dX2_like_25 : decode cX2_like 25 = .ok (.bipush 64, 2) := dk_16 64 (dk_at dksX2_like_1 1 rfl rfl)
theorem dX2_like_27 : decode cX2_like 27 = .ok (.invokestatic 39, 3) := dk_184 0 39 (dk_at dksX2_like_1 3 rfl rfl)
theorem dX2_like_30 : decode cX2_like 30 = .ok (.aload_n 1, 1) := dk_43 (dk_at dksX2_like_1 6 rfl rfl)
theorem dX2_like_31 : decode cX2_like 31 = .ok (.getfield 18, 3) := dk_180 0 18 (dk_at dksX2_like_1 7 rfl rfl)
theorem dX2_like_34 : decode cX2_like 34 = .ok (.iconst 0, 1) := dk_3 (dk_at dksX2_like_1 10 rfl rfl)
theorem dX2_like_35 : decode cX2_like 35 = .ok (.aload_n 0, 1) := dk_42 (dk_at dksX2_like_1 11 rfl rfl)
theorem dX2_like_36 : decode cX2_like 36 = .ok (.getfield 18, 3) := dk_180 0 18 (dk_at dksX2_like_1 12 rfl rfl)
theorem dX2_like_39 : decode cX2_like 39 = .ok (.iconst 0, 1) := dk_3 (dk_at dksX2_like_1 15 rfl rfl)
theorem dX2_like_40 : decode cX2_like 40 = .ok (.bipush 64, 2) := dk_16 64 (dk_at dksX2_like_1 16 rfl rfl)
theorem dX2_like_42 : decode cX2_like 42 = .ok (.invokestatic 39, 3) := dk_184 0 39 (dk_at dksX2_like_1 18 rfl rfl)
theorem dX2_like_45 : decode cX2_like 45 = .ok (.aload_n 1, 1) := dk_43 (dk_at dksX2_like_1 21 rfl rfl)
theorem dX2_like_46 : decode cX2_like 46 = .ok (.getfield 21, 3) := dk_180 0 21 (dk_at dksX2_like_2 0 rfl rfl)
theorem dX2_like_49 : decode cX2_like 49 = .ok (.iconst 0, 1) := dk_3 (dk_at dksX2_like_2 3 rfl rfl)
theorem dX2_like_50 : decode cX2_like 50 = .ok (.aload_n 0, 1) := dk_42 (dk_at dksX2_like_2 4 rfl rfl)
theorem dX2_like_51 : decode cX2_like 51 = .ok (.getfield 21, 3) := dk_180 0 21 (dk_at dksX2_like_2 5 rfl rfl)
theorem dX2_like_54 : decode cX2_like 54 = .ok (.iconst 0, 1) := dk_3 (dk_at dksX2_like_2 8 rfl rfl)
theorem dX2_like_55 : decode cX2_like 55 = .ok (.bipush 64, 2) := dk_16 64 (dk_at dksX2_like_2 9 rfl rfl)
theorem dX2_like_57 : decode cX2_like 57 = .ok (.invokestatic 39, 3) := dk_184 0 39 (dk_at dksX2_like_2 11 rfl rfl)
theorem dX2_like_60 : decode cX2_like 60 = .ok (.aload_n 1, 1) := dk_43 (dk_at dksX2_like_2 14 rfl rfl)
theorem dX2_like_61 : decode cX2_like 61 = .ok (.getfield 24, 3) := dk_180 0 24 (dk_at dksX2_like_2 15 rfl rfl)
theorem dX2_like_64 : decode cX2_like 64 = .ok (.iconst 0, 1) := dk_3 (dk_at dksX2_like_2 18 rfl rfl)
theorem dX2_like_65 : decode cX2_like 65 = .ok (.aload_n 0, 1) := dk_42 (dk_at dksX2_like_2 19 rfl rfl)
theorem dX2_like_66 : decode cX2_like 66 = .ok (.getfield 24, 3) := dk_180 0 24 (dk_at dksX2_like_2 20 rfl rfl)
theorem dX2_like_69 : decode cX2_like 69 = .ok (.iconst 0, 1) := dk_3 (dk_at dksX2_like_2 23 rfl rfl)
theorem dX2_like_70 : decode cX2_like 70 = .ok (.bipush 64, 2) := dk_16 64 (dk_at dksX2_like_3 0 rfl rfl)
theorem dX2_like_72 : decode cX2_like 72 = .ok (.invokestatic 39, 3) := dk_184 0 39 (dk_at dksX2_like_3 2 rfl rfl)
theorem dX2_like_75 : decode cX2_like 75 = .ok (.aload_n 1, 1) := dk_43 (dk_at dksX2_like_3 5 rfl rfl)
theorem dX2_like_76 : decode cX2_like 76 = .ok (.getfield 27, 3) := dk_180 0 27 (dk_at dksX2_like_3 6 rfl rfl)
theorem dX2_like_79 : decode cX2_like 79 = .ok (.iconst 0, 1) := dk_3 (dk_at dksX2_like_3 9 rfl rfl)
theorem dX2_like_80 : decode cX2_like 80 = .ok (.aload_n 0, 1) := dk_42 (dk_at dksX2_like_3 10 rfl rfl)
theorem dX2_like_81 : decode cX2_like 81 = .ok (.getfield 27, 3) := dk_180 0 27 (dk_at dksX2_like_3 11 rfl rfl)
theorem dX2_like_84 : decode cX2_like 84 = .ok (.iconst 0, 1) := dk_3 (dk_at dksX2_like_3 14 rfl rfl)
theorem dX2_like_85 : decode cX2_like 85 = .ok (.bipush 64, 2) := dk_16 64 (dk_at dksX2_like_3 15 rfl rfl)
theorem dX2_like_87 : decode cX2_like 87 = .ok (.invokestatic 39, 3) := dk_184 0 39 (dk_at dksX2_like_3 17 rfl rfl)
theorem dX2_like_90 : decode cX2_like 90 = .ok (.aload_n 1, 1) := dk_43 (dk_at dksX2_like_3 20 rfl rfl)
theorem dX2_like_91 : decode cX2_like 91 = .ok (.getfield 30, 3) := dk_180 0 30 (dk_at dksX2_like_3 21 rfl rfl)
theorem dX2_like_94 : decode cX2_like 94 = .ok (.iconst 0, 1) := dk_3 (dk_at dksX2_like_4 0 rfl rfl)
theorem dX2_like_95 : decode cX2_like 95 = .ok (.aload_n 0, 1) := dk_42 (dk_at dksX2_like_4 1 rfl rfl)
theorem dX2_like_96 : decode cX2_like 96 = .ok (.getfield 30, 3) := dk_180 0 30 (dk_at dksX2_like_4 2 rfl rfl)
theorem dX2_like_99 : decode cX2_like 99 = .ok (.iconst 0, 1) := dk_3 (dk_at dksX2_like_4 5 rfl rfl)
theorem dX2_like_100 : decode cX2_like 100 = .ok (.bipush 64, 2) := dk_16 64 (dk_at dksX2_like_4 6 rfl rfl)
theorem dX2_like_102 : decode cX2_like 102 = .ok (.invokestatic 39, 3) := dk_184 0 39 (dk_at dksX2_like_4 8 rfl rfl)
theorem dX2_like_105 : decode cX2_like 105 = .ok (.aload_n 1, 1) := dk_43 (dk_at dksX2_like_4 11 rfl rfl)
theorem dX2_like_106 : decode cX2_like 106 = .ok (.getfield 33, 3) := dk_180 0 33 (dk_at dksX2_like_4 12 rfl rfl)
theorem dX2_like_109 : decode cX2_like 109 = .ok (.iconst 0, 1) := dk_3 (dk_at dksX2_like_4 15 rfl rfl)
theorem dX2_like_110 : decode cX2_like 110 = .ok (.aload_n 0, 1) := dk_42 (dk_at dksX2_like_4 16 rfl rfl)
theorem dX2_like_111 : decode cX2_like 111 = .ok (.getfield 33, 3) := dk_180 0 33 (dk_at dksX2_like_4 17 rfl rfl)
theorem dX2_like_114 : decode cX2_like 114 = .ok (.iconst 0, 1) := dk_3 (dk_at dksX2_like_4 20 rfl rfl)
theorem dX2_like_115 : decode cX2_like 115 = .ok (.bipush 64, 2) := dk_16 64 (dk_at dksX2_like_4 21 rfl rfl)
theorem dX2_like_117 : decode cX2_like 117 = .ok (.invokestatic 39, 3) := dk_184 0 39 (dk_at dksX2_like_5 0 rfl rfl)
theorem dX2_like_120 : decode cX2_like 120 = .ok (.aload_n 1, 1) := dk_43 (dk_at dksX2_like_5 3 rfl rfl)
theorem dX2_like_121 : decode cX2_like 121 = .ok (.getfield 36, 3) := dk_180 0 36 (dk_at dksX2_like_5 4 rfl rfl)
theorem dX2_like_124 : decode cX2_like 124 = .ok (.iconst 0, 1) := dk_3 (dk_at dksX2_like_5 7 rfl rfl)
theorem dX2_like_125 : decode cX2_like 125 = .ok (.aload_n 0, 1) := dk_42 (dk_at dksX2_like_5 8 rfl rfl)
theorem dX2_like_126 : decode cX2_like 126 = .ok (.getfield 36, 3) := dk_180 0 36 (dk_at dksX2_like_5 9 rfl rfl)
theorem dX2_like_129 : decode cX2_like 129 = .ok (.iconst 0, 1) := dk_3 (dk_at dksX2_like_5 12 rfl rfl)
theorem dX2_like_130 : decode cX2_like 130 = .ok (.bipush 64, 2) := dk_16 64 (dk_at dksX2_like_5 13 rfl rfl)
theorem dX2_like_132 : decode cX2_like 132 = .ok (.invokestatic 39, 3) := dk_184 0 39 (dk_at dksX2_like_5 15 rfl rfl)
theorem dX2_like_135 : decode cX2_like 135 = .ok (.return_, 1) := dk_177 (dk_at dksX2_like_5 18 rfl rfl)
def dkwX2_frightens_2 : List UInt8 := [180, 0, 24, 21, 4, 46, 28, 5, 108, 96, 17, 3, 232, 184, 0, 51, 79, 132, 3, 1, 167, 255, 211, 177]
abbrev dktX2_frightens_2 : List UInt8 := dkwX2_frightens_2 ++ []
def dkwX2_frightens_1 : List UInt8 := [162, 0, 46, 27, 29, 184, 0, 58, 54, 4, 21, 4, 2, 159, 0, 27, 42, 180, 0, 24, 21, 4, 42]
abbrev dktX2_frightens_1 : List UInt8 := dkwX2_frightens_1 ++ dktX2_frightens_2
def dkwX2_frightens_0 : List UInt8 := [42, 180, 0, 24, 27, 42, 180, 0, 24, 27, 46, 28, 96, 17, 3, 232, 184, 0, 51, 79, 3, 62, 29, 7]
abbrev dktX2_frightens_0 : List UInt8 := dkwX2_frightens_0 ++ dktX2_frightens_1
theorem dksX2_frightens_0 : cX2_frightens.data.toList.drop 0 = dktX2_frightens_0 := by decide +kernel
theorem dksX2_frightens_1 : cX2_frightens.data.toList.drop 24 = dktX2_frightens_1 := dk_seg dksX2_frightens_0 24 rfl rfl
theorem dksX2_frightens_2 : cX2_frightens.data.toList.drop 47 = dktX2_frightens_2 := dk_seg dksX2_frightens_1 23 rfl rfl
theorem dX2_frightens_0 : decode cX2_frightens 0 = .ok (.aload_n 0, 1) := dk_42 (dk_at dksX2_frightens_0 0 rfl rfl)
theorem dX2_frightens_1 : decode cX2_frightens 1 = .ok (.getfield 24, 3) := dk_180 0 24 (dk_at dksX2_frightens_0 1 rfl rfl)
theorem dX2_frightens_4 : decode cX2_frightens 4 = .ok (.iload_n 1, 1) := dk_27 (dk_at dksX2_frightens_0 4 rfl rfl)
theorem dX2_frightens_5 : decode cX2_frightens 5 = .ok (.aload_n 0, 1) := dk_42 (dk_at dksX2_frightens_0 5 rfl rfl)
theorem dX2_frightens_6 : decode cX2_frightens 6 = .ok (.getfield 24, 3) := dk_180 0 24 (dk_at dksX2_frightens_0 6 rfl rfl)
theorem dX2_frightens_9 : decode cX2_frightens 9 = .ok (.iload_n 1, 1) := dk_27 (dk_at dksX2_frightens_0 9 rfl rfl)
theorem dX2_frightens_10 : decode cX2_frightens 10 = .ok (.iaload, 1) := dk_46 (dk_at dksX2_frightens_0 10 rfl rfl)
theorem dX2_frightens_11 : decode cX2_frightens 11 = .ok (.iload_n 2, 1) := dk_28 (dk_at dksX2_frightens_0 11 rfl rfl)
theorem dX2_frightens_12 : decode cX2_frightens 12 = .ok (.iadd, 1) := dk_96 (dk_at dksX2_frightens_0 12 rfl rfl)
theorem dX2_frightens_13 : decode cX2_frightens 13 = .ok (.sipush 1000, 3) := dk_17 3 232 (dk_at dksX2_frightens_0 13 rfl rfl)
theorem dX2_frightens_16 : decode cX2_frightens 16 = .ok (.invokestatic 51, 3) := dk_184 0 51 (dk_at dksX2_frightens_0 16 rfl rfl)
theorem dX2_frightens_19 : decode cX2_frightens 19 = .ok (.iastore, 1) := dk_79 (dk_at dksX2_frightens_0 19 rfl rfl)
theorem dX2_frightens_20 : decode cX2_frightens 20 = .ok (.iconst 0, 1) := dk_3 (dk_at dksX2_frightens_0 20 rfl rfl)
theorem dX2_frightens_21 : decode cX2_frightens 21 = .ok (.istore_n 3, 1) := dk_62 (dk_at dksX2_frightens_0 21 rfl rfl)
theorem dX2_frightens_22 : decode cX2_frightens 22 = .ok (.iload_n 3, 1) := dk_29 (dk_at dksX2_frightens_0 22 rfl rfl)
theorem dX2_frightens_23 : decode cX2_frightens 23 = .ok (.iconst 4, 1) := dk_7 (dk_at dksX2_frightens_0 23 rfl rfl)
theorem dX2_frightens_24 : decode cX2_frightens 24 = .ok (.if_icmp .ge 46, 3) := dk_162 0 46 (dk_at dksX2_frightens_1 0 rfl rfl)
theorem dX2_frightens_27 : decode cX2_frightens 27 = .ok (.iload_n 1, 1) := dk_27 (dk_at dksX2_frightens_1 3 rfl rfl)
theorem dX2_frightens_28 : decode cX2_frightens 28 = .ok (.iload_n 3, 1) := dk_29 (dk_at dksX2_frightens_1 4 rfl rfl)
theorem dX2_frightens_29 : decode cX2_frightens 29 = .ok (.invokestatic 58, 3) := dk_184 0 58 (dk_at dksX2_frightens_1 5 rfl rfl)
theorem dX2_frightens_32 : decode cX2_frightens 32 = .ok (.istore 4, 2) := dk_54 4 (dk_at dksX2_frightens_1 8 rfl rfl)
theorem dX2_frightens_34 : decode cX2_frightens 34 = .ok (.iload 4, 2) := dk_21 4 (dk_at dksX2_frightens_1 10 rfl rfl)
theorem dX2_frightens_36 : decode cX2_frightens 36 = .ok (.iconst (-1), 1) := dk_2 (dk_at dksX2_frightens_1 12 rfl rfl)
theorem dX2_frightens_37 : decode cX2_frightens 37 = .ok (.if_icmp .eq 27, 3) := dk_159 0 27 (dk_at dksX2_frightens_1 13 rfl rfl)
theorem dX2_frightens_40 : decode cX2_frightens 40 = .ok (.aload_n 0, 1) := dk_42 (dk_at dksX2_frightens_1 16 rfl rfl)
theorem dX2_frightens_41 : decode cX2_frightens 41 = .ok (.getfield 24, 3) := dk_180 0 24 (dk_at dksX2_frightens_1 17 rfl rfl)
theorem dX2_frightens_44 : decode cX2_frightens 44 = .ok (.iload 4, 2) := dk_21 4 (dk_at dksX2_frightens_1 20 rfl rfl)
theorem dX2_frightens_46 : decode cX2_frightens 46 = .ok (.aload_n 0, 1) := dk_42 (dk_at dksX2_frightens_1 22 rfl rfl)
theorem dX2_frightens_47 : decode cX2_frightens 47 = .ok (.getfield 24, 3) := dk_180 0 24 (dk_at dksX2_frightens_2 0 rfl rfl)
theorem dX2_frightens_50 : decode cX2_frightens 50 = .ok (.iload 4, 2) := dk_21 4 (dk_at dksX2_frightens_2 3 rfl rfl)
theorem dX2_frightens_52 : decode cX2_frightens 52 = .ok (.iaload, 1) := dk_46 (dk_at dksX2_frightens_2 5 rfl rfl)
theorem dX2_frightens_53 : decode cX2_frightens 53 = .ok (.iload_n 2, 1) := dk_28 (dk_at dksX2_frightens_2 6 rfl rfl)
theorem dX2_frightens_54 : decode cX2_frightens 54 = .ok (.iconst 2, 1) := dk_5 (dk_at dksX2_frightens_2 7 rfl rfl)
theorem dX2_frightens_55 : decode cX2_frightens 55 = .ok (.idiv, 1) := dk_108 (dk_at dksX2_frightens_2 8 rfl rfl)
theorem dX2_frightens_56 : decode cX2_frightens 56 = .ok (.iadd, 1) := dk_96 (dk_at dksX2_frightens_2 9 rfl rfl)
theorem dX2_frightens_57 : decode cX2_frightens 57 = .ok (.sipush 1000, 3) := dk_17 3 232 (dk_at dksX2_frightens_2 10 rfl rfl)
theorem dX2_frightens_60 : decode cX2_frightens 60 = .ok (.invokestatic 51, 3) := dk_184 0 51 (dk_at dksX2_frightens_2 13 rfl rfl)
theorem dX2_frightens_63 : decode cX2_frightens 63 = .ok (.iastore, 1) := dk_79 (dk_at dksX2_frightens_2 16 rfl rfl)
theorem dX2_frightens_64 : decode cX2_frightens 64 = .ok (.iinc 3 1, 3) := dk_132 3 1 (dk_at dksX2_frightens_2 17 rfl rfl)
theorem dX2_frightens_67 : decode cX2_frightens 67 = .ok (.goto (-45), 3) := dk_167 255 211 (dk_at dksX2_frightens_2 20 rfl rfl)
theorem dX2_frightens_70 : decode cX2_frightens 70 = .ok (.return_, 1) := dk_177 (dk_at dksX2_frightens_2 23 rfl rfl)
def dkwX2_isOpen_0 : List UInt8 := [27, 2, 159, 0, 17, 42, 180, 0, 9, 27, 46, 4, 159, 0, 7, 4, 167, 0, 4, 3, 172]
abbrev dktX2_isOpen_0 : List UInt8 := dkwX2_isOpen_0 ++ []
theorem dksX2_isOpen_0 : cX2_isOpen.data.toList.drop 0 = dktX2_isOpen_0 := by decide +kernel
theorem dX2_isOpen_0 : decode cX2_isOpen 0 = .ok (.iload_n 1, 1) := dk_27 (dk_at dksX2_isOpen_0 0 rfl rfl)
theorem dX2_isOpen_1 : decode cX2_isOpen 1 = .ok (.iconst (-1), 1) := dk_2 (dk_at dksX2_isOpen_0 1 rfl rfl)
theorem dX2_isOpen_2 : decode cX2_isOpen 2 = .ok (.if_icmp .eq 17, 3) := dk_159 0 17 (dk_at dksX2_isOpen_0 2 rfl rfl)
theorem dX2_isOpen_5 : decode cX2_isOpen 5 = .ok (.aload_n 0, 1) := dk_42 (dk_at dksX2_isOpen_0 5 rfl rfl)
theorem dX2_isOpen_6 : decode cX2_isOpen 6 = .ok (.getfield 9, 3) := dk_180 0 9 (dk_at dksX2_isOpen_0 6 rfl rfl)
theorem dX2_isOpen_9 : decode cX2_isOpen 9 = .ok (.iload_n 1, 1) := dk_27 (dk_at dksX2_isOpen_0 9 rfl rfl)
theorem dX2_isOpen_10 : decode cX2_isOpen 10 = .ok (.iaload, 1) := dk_46 (dk_at dksX2_isOpen_0 10 rfl rfl)
theorem dX2_isOpen_11 : decode cX2_isOpen 11 = .ok (.iconst 1, 1) := dk_4 (dk_at dksX2_isOpen_0 11 rfl rfl)
theorem dX2_isOpen_12 : decode cX2_isOpen 12 = .ok (.if_icmp .eq 7, 3) := dk_159 0 7 (dk_at dksX2_isOpen_0 12 rfl rfl)
theorem dX2_isOpen_15 : decode cX2_isOpen 15 = .ok (.iconst 1, 1) := dk_4 (dk_at dksX2_isOpen_0 15 rfl rfl)
theorem dX2_isOpen_16 : decode cX2_isOpen 16 = .ok (.goto 4, 3) := dk_167 0 4 (dk_at dksX2_isOpen_0 16 rfl rfl)
theorem dX2_isOpen_19 : decode cX2_isOpen 19 = .ok (.iconst 0, 1) := dk_3 (dk_at dksX2_isOpen_0 19 rfl rfl)
theorem dX2_isOpen_20 : decode cX2_isOpen 20 = .ok (.ireturn, 1) := dk_172 (dk_at dksX2_isOpen_0 20 rfl rfl)
def dkwX2_step_0 : List UInt8 := [29, 42, 27, 28, 182, 0, 55, 96, 42, 180, 0, 24, 28, 46, 96, 172]
abbrev dktX2_step_0 : List UInt8 := dkwX2_step_0 ++ []
theorem dksX2_step_0 : cX2_step.data.toList.drop 0 = dktX2_step_0 := by decide +kernel
theorem dX2_step_0 : decode cX2_step 0 = .ok (.iload_n 3, 1) := dk_29 (dk_at dksX2_step_0 0 rfl rfl)
theorem dX2_step_1 : decode cX2_step 1 = .ok (.aload_n 0, 1) := dk_42 (dk_at dksX2_step_0 1 rfl rfl)
theorem dX2_step_2 : decode cX2_step 2 = .ok (.iload_n 1, 1) := dk_27 (dk_at dksX2_step_0 2 rfl rfl)
theorem dX2_step_3 : decode cX2_step 3 = .ok (.iload_n 2, 1) := dk_28 (dk_at dksX2_step_0 3 rfl rfl)
theorem dX2_step_4 : decode cX2_step 4 = .ok (.invokevirtual 55, 3) := dk_182 0 55 (dk_at dksX2_step_0 4 rfl rfl)
theorem dX2_step_7 : decode cX2_step 7 = .ok (.iadd, 1) := dk_96 (dk_at dksX2_step_0 7 rfl rfl)
theorem dX2_step_8 : decode cX2_step 8 = .ok (.aload_n 0, 1) := dk_42 (dk_at dksX2_step_0 8 rfl rfl)
theorem dX2_step_9 : decode cX2_step 9 = .ok (.getfield 24, 3) := dk_180 0 24 (dk_at dksX2_step_0 9 rfl rfl)
theorem dX2_step_12 : decode cX2_step 12 = .ok (.iload_n 2, 1) := dk_28 (dk_at dksX2_step_0 12 rfl rfl)
theorem dX2_step_13 : decode cX2_step 13 = .ok (.iaload, 1) := dk_46 (dk_at dksX2_step_0 13 rfl rfl)
theorem dX2_step_14 : decode cX2_step 14 = .ok (.iadd, 1) := dk_96 (dk_at dksX2_step_0 14 rfl rfl)
theorem dX2_step_15 : decode cX2_step 15 = .ok (.ireturn, 1) := dk_172 (dk_at dksX2_step_0 15 rfl rfl)
def dkwX2_fence_1 : List UInt8 := [184, 0, 51, 46, 172]
abbrev dktX2_fence_1 : List UInt8 := dkwX2_fence_1 ++ []
def dkwX2_fence_0 : List UInt8 := [27, 28, 100, 184, 0, 45, 4, 160, 0, 10, 42, 180, 0, 27, 167, 0, 7, 42, 180, 0, 30, 27, 28]
abbrev dktX2_fence_0 : List UInt8 := dkwX2_fence_0 ++ dktX2_fence_1
theorem dksX2_fence_0 : cX2_fence.data.toList.drop 0 = dktX2_fence_0 := by decide +kernel
theorem dksX2_fence_1 : cX2_fence.data.toList.drop 23 = dktX2_fence_1 := dk_seg dksX2_fence_0 23 rfl rfl
theorem dX2_fence_0 : decode cX2_fence 0 = .ok (.iload_n 1, 1) := dk_27 (dk_at dksX2_fence_0 0 rfl rfl)
theorem dX2_fence_1 : decode cX2_fence 1 = .ok (.iload_n 2, 1) := dk_28 (dk_at dksX2_fence_0 1 rfl rfl)
theorem dX2_fence_2 : decode cX2_fence 2 = .ok (.isub, 1) := dk_100 (dk_at dksX2_fence_0 2 rfl rfl)
theorem dX2_fence_3 : decode cX2_fence 3 = .ok (.invokestatic 45, 3) := dk_184 0 45 (dk_at dksX2_fence_0 3 rfl rfl)
theorem dX2_fence_6 : decode cX2_fence 6 = .ok (.iconst 1, 1) := dk_4 (dk_at dksX2_fence_0 6 rfl rfl)
theorem dX2_fence_7 : decode cX2_fence 7 = .ok (.if_icmp .ne 10, 3) := dk_160 0 10 (dk_at dksX2_fence_0 7 rfl rfl)
theorem dX2_fence_10 : decode cX2_fence 10 = .ok (.aload_n 0, 1) := dk_42 (dk_at dksX2_fence_0 10 rfl rfl)
theorem dX2_fence_11 : decode cX2_fence 11 = .ok (.getfield 27, 3) := dk_180 0 27 (dk_at dksX2_fence_0 11 rfl rfl)
theorem dX2_fence_14 : decode cX2_fence 14 = .ok (.goto 7, 3) := dk_167 0 7 (dk_at dksX2_fence_0 14 rfl rfl)
theorem dX2_fence_17 : decode cX2_fence 17 = .ok (.aload_n 0, 1) := dk_42 (dk_at dksX2_fence_0 17 rfl rfl)
theorem dX2_fence_18 : decode cX2_fence 18 = .ok (.getfield 30, 3) := dk_180 0 30 (dk_at dksX2_fence_0 18 rfl rfl)
theorem dX2_fence_21 : decode cX2_fence 21 = .ok (.iload_n 1, 1) := dk_27 (dk_at dksX2_fence_0 21 rfl rfl)
theorem dX2_fence_22 : decode cX2_fence 22 = .ok (.iload_n 2, 1) := dk_28 (dk_at dksX2_fence_0 22 rfl rfl)
theorem dX2_fence_23 : decode cX2_fence 23 = .ok (.invokestatic 51, 3) := dk_184 0 51 (dk_at dksX2_fence_1 0 rfl rfl)
theorem dX2_fence_26 : decode cX2_fence 26 = .ok (.iaload, 1) := dk_46 (dk_at dksX2_fence_1 3 rfl rfl)
theorem dX2_fence_27 : decode cX2_fence 27 = .ok (.ireturn, 1) := dk_172 (dk_at dksX2_fence_1 4 rfl rfl)
def dkwX2_isRipe_1 : List UInt8 := [172]
abbrev dktX2_isRipe_1 : List UInt8 := dkwX2_isRipe_1 ++ []
def dkwX2_isRipe_0 : List UInt8 := [42, 180, 0, 9, 27, 46, 5, 160, 0, 16, 42, 180, 0, 21, 27, 46, 158, 0, 7, 4, 167, 0, 4, 3]
abbrev dktX2_isRipe_0 : List UInt8 := dkwX2_isRipe_0 ++ dktX2_isRipe_1
theorem dksX2_isRipe_0 : cX2_isRipe.data.toList.drop 0 = dktX2_isRipe_0 := by decide +kernel
theorem dksX2_isRipe_1 : cX2_isRipe.data.toList.drop 24 = dktX2_isRipe_1 := dk_seg dksX2_isRipe_0 24 rfl rfl
theorem dX2_isRipe_0 : decode cX2_isRipe 0 = .ok (.aload_n 0, 1) := dk_42 (dk_at dksX2_isRipe_0 0 rfl rfl)
theorem dX2_isRipe_1 : decode cX2_isRipe 1 = .ok (.getfield 9, 3) := dk_180 0 9 (dk_at dksX2_isRipe_0 1 rfl rfl)
theorem dX2_isRipe_4 : decode cX2_isRipe 4 = .ok (.iload_n 1, 1) := dk_27 (dk_at dksX2_isRipe_0 4 rfl rfl)
theorem dX2_isRipe_5 : decode cX2_isRipe 5 = .ok (.iaload, 1) := dk_46 (dk_at dksX2_isRipe_0 5 rfl rfl)
theorem dX2_isRipe_6 : decode cX2_isRipe 6 = .ok (.iconst 2, 1) := dk_5 (dk_at dksX2_isRipe_0 6 rfl rfl)
theorem dX2_isRipe_7 : decode cX2_isRipe 7 = .ok (.if_icmp .ne 16, 3) := dk_160 0 16 (dk_at dksX2_isRipe_0 7 rfl rfl)
theorem dX2_isRipe_10 : decode cX2_isRipe 10 = .ok (.aload_n 0, 1) := dk_42 (dk_at dksX2_isRipe_0 10 rfl rfl)
theorem dX2_isRipe_11 : decode cX2_isRipe 11 = .ok (.getfield 21, 3) := dk_180 0 21 (dk_at dksX2_isRipe_0 11 rfl rfl)
theorem dX2_isRipe_14 : decode cX2_isRipe 14 = .ok (.iload_n 1, 1) := dk_27 (dk_at dksX2_isRipe_0 14 rfl rfl)
theorem dX2_isRipe_15 : decode cX2_isRipe 15 = .ok (.iaload, 1) := dk_46 (dk_at dksX2_isRipe_0 15 rfl rfl)
theorem dX2_isRipe_16 : decode cX2_isRipe 16 = .ok (.ifCond .le 7, 3) := dk_158 0 7 (dk_at dksX2_isRipe_0 16 rfl rfl)
theorem dX2_isRipe_19 : decode cX2_isRipe 19 = .ok (.iconst 1, 1) := dk_4 (dk_at dksX2_isRipe_0 19 rfl rfl)
theorem dX2_isRipe_20 : decode cX2_isRipe 20 = .ok (.goto 4, 3) := dk_167 0 4 (dk_at dksX2_isRipe_0 20 rfl rfl)
theorem dX2_isRipe_23 : decode cX2_isRipe 23 = .ok (.iconst 0, 1) := dk_3 (dk_at dksX2_isRipe_0 23 rfl rfl)
theorem dX2_isRipe_24 : decode cX2_isRipe 24 = .ok (.ireturn, 1) := dk_172 (dk_at dksX2_isRipe_1 0 rfl rfl)
def dkwX2_fence_2_1 : List UInt8 := [184, 0, 51, 29, 79, 177]
abbrev dktX2_fence_2_1 : List UInt8 := dkwX2_fence_2_1 ++ []
def dkwX2_fence_2_0 : List UInt8 := [27, 28, 100, 184, 0, 45, 4, 160, 0, 10, 42, 180, 0, 27, 167, 0, 7, 42, 180, 0, 30, 27, 28]
abbrev dktX2_fence_2_0 : List UInt8 := dkwX2_fence_2_0 ++ dktX2_fence_2_1
theorem dksX2_fence_2_0 : cX2_fence_2.data.toList.drop 0 = dktX2_fence_2_0 := by decide +kernel
theorem dksX2_fence_2_1 : cX2_fence_2.data.toList.drop 23 = dktX2_fence_2_1 := dk_seg dksX2_fence_2_0 23 rfl rfl
theorem dX2_fence_2_0 : decode cX2_fence_2 0 = .ok (.iload_n 1, 1) := dk_27 (dk_at dksX2_fence_2_0 0 rfl rfl)
theorem dX2_fence_2_1 : decode cX2_fence_2 1 = .ok (.iload_n 2, 1) := dk_28 (dk_at dksX2_fence_2_0 1 rfl rfl)
theorem dX2_fence_2_2 : decode cX2_fence_2 2 = .ok (.isub, 1) := dk_100 (dk_at dksX2_fence_2_0 2 rfl rfl)
theorem dX2_fence_2_3 : decode cX2_fence_2 3 = .ok (.invokestatic 45, 3) := dk_184 0 45 (dk_at dksX2_fence_2_0 3 rfl rfl)
theorem dX2_fence_2_6 : decode cX2_fence_2 6 = .ok (.iconst 1, 1) := dk_4 (dk_at dksX2_fence_2_0 6 rfl rfl)
theorem dX2_fence_2_7 : decode cX2_fence_2 7 = .ok (.if_icmp .ne 10, 3) := dk_160 0 10 (dk_at dksX2_fence_2_0 7 rfl rfl)
theorem dX2_fence_2_10 : decode cX2_fence_2 10 = .ok (.aload_n 0, 1) := dk_42 (dk_at dksX2_fence_2_0 10 rfl rfl)
theorem dX2_fence_2_11 : decode cX2_fence_2 11 = .ok (.getfield 27, 3) := dk_180 0 27 (dk_at dksX2_fence_2_0 11 rfl rfl)
theorem dX2_fence_2_14 : decode cX2_fence_2 14 = .ok (.goto 7, 3) := dk_167 0 7 (dk_at dksX2_fence_2_0 14 rfl rfl)
theorem dX2_fence_2_17 : decode cX2_fence_2 17 = .ok (.aload_n 0, 1) := dk_42 (dk_at dksX2_fence_2_0 17 rfl rfl)
theorem dX2_fence_2_18 : decode cX2_fence_2 18 = .ok (.getfield 30, 3) := dk_180 0 30 (dk_at dksX2_fence_2_0 18 rfl rfl)
theorem dX2_fence_2_21 : decode cX2_fence_2 21 = .ok (.iload_n 1, 1) := dk_27 (dk_at dksX2_fence_2_0 21 rfl rfl)
theorem dX2_fence_2_22 : decode cX2_fence_2 22 = .ok (.iload_n 2, 1) := dk_28 (dk_at dksX2_fence_2_0 22 rfl rfl)
theorem dX2_fence_2_23 : decode cX2_fence_2 23 = .ok (.invokestatic 51, 3) := dk_184 0 51 (dk_at dksX2_fence_2_1 0 rfl rfl)
theorem dX2_fence_2_26 : decode cX2_fence_2 26 = .ok (.iload_n 3, 1) := dk_29 (dk_at dksX2_fence_2_1 3 rfl rfl)
theorem dX2_fence_2_27 : decode cX2_fence_2 27 = .ok (.iastore, 1) := dk_79 (dk_at dksX2_fence_2_1 4 rfl rfl)
theorem dX2_fence_2_28 : decode cX2_fence_2 28 = .ok (.return_, 1) := dk_177 (dk_at dksX2_fence_2_1 5 rfl rfl)
def dkwX2_loses_0 : List UInt8 := [42, 180, 0, 21, 27, 46, 28, 184, 0, 51, 62, 42, 180, 0, 21, 27, 92, 46, 29, 100, 79, 29, 172]
abbrev dktX2_loses_0 : List UInt8 := dkwX2_loses_0 ++ []
theorem dksX2_loses_0 : cX2_loses.data.toList.drop 0 = dktX2_loses_0 := by decide +kernel
theorem dX2_loses_0 : decode cX2_loses 0 = .ok (.aload_n 0, 1) := dk_42 (dk_at dksX2_loses_0 0 rfl rfl)
theorem dX2_loses_1 : decode cX2_loses 1 = .ok (.getfield 21, 3) := dk_180 0 21 (dk_at dksX2_loses_0 1 rfl rfl)
theorem dX2_loses_4 : decode cX2_loses 4 = .ok (.iload_n 1, 1) := dk_27 (dk_at dksX2_loses_0 4 rfl rfl)
theorem dX2_loses_5 : decode cX2_loses 5 = .ok (.iaload, 1) := dk_46 (dk_at dksX2_loses_0 5 rfl rfl)
theorem dX2_loses_6 : decode cX2_loses 6 = .ok (.iload_n 2, 1) := dk_28 (dk_at dksX2_loses_0 6 rfl rfl)
theorem dX2_loses_7 : decode cX2_loses 7 = .ok (.invokestatic 51, 3) := dk_184 0 51 (dk_at dksX2_loses_0 7 rfl rfl)
theorem dX2_loses_10 : decode cX2_loses 10 = .ok (.istore_n 3, 1) := dk_62 (dk_at dksX2_loses_0 10 rfl rfl)
theorem dX2_loses_11 : decode cX2_loses 11 = .ok (.aload_n 0, 1) := dk_42 (dk_at dksX2_loses_0 11 rfl rfl)
theorem dX2_loses_12 : decode cX2_loses 12 = .ok (.getfield 21, 3) := dk_180 0 21 (dk_at dksX2_loses_0 12 rfl rfl)
theorem dX2_loses_15 : decode cX2_loses 15 = .ok (.iload_n 1, 1) := dk_27 (dk_at dksX2_loses_0 15 rfl rfl)
theorem dX2_loses_16 : decode cX2_loses 16 = .ok (.dup2, 1) := dk_92 (dk_at dksX2_loses_0 16 rfl rfl)
theorem dX2_loses_17 : decode cX2_loses 17 = .ok (.iaload, 1) := dk_46 (dk_at dksX2_loses_0 17 rfl rfl)
theorem dX2_loses_18 : decode cX2_loses 18 = .ok (.iload_n 3, 1) := dk_29 (dk_at dksX2_loses_0 18 rfl rfl)
theorem dX2_loses_19 : decode cX2_loses 19 = .ok (.isub, 1) := dk_100 (dk_at dksX2_loses_0 19 rfl rfl)
theorem dX2_loses_20 : decode cX2_loses 20 = .ok (.iastore, 1) := dk_79 (dk_at dksX2_loses_0 20 rfl rfl)
theorem dX2_loses_21 : decode cX2_loses 21 = .ok (.iload_n 3, 1) := dk_29 (dk_at dksX2_loses_0 21 rfl rfl)
theorem dX2_loses_22 : decode cX2_loses 22 = .ok (.ireturn, 1) := dk_172 (dk_at dksX2_loses_0 22 rfl rfl)
def dkwX2_wears_1 : List UInt8 := [79, 132, 2, 1, 167, 255, 230, 177]
abbrev dktX2_wears_1 : List UInt8 := dkwX2_wears_1 ++ []
def dkwX2_wears_0 : List UInt8 := [3, 61, 28, 16, 64, 162, 0, 26, 42, 180, 0, 24, 28, 42, 180, 0, 24, 28, 46, 27, 104, 16, 100, 108]
abbrev dktX2_wears_0 : List UInt8 := dkwX2_wears_0 ++ dktX2_wears_1
theorem dksX2_wears_0 : cX2_wears.data.toList.drop 0 = dktX2_wears_0 := by decide +kernel
theorem dksX2_wears_1 : cX2_wears.data.toList.drop 24 = dktX2_wears_1 := dk_seg dksX2_wears_0 24 rfl rfl
theorem dX2_wears_0 : decode cX2_wears 0 = .ok (.iconst 0, 1) := dk_3 (dk_at dksX2_wears_0 0 rfl rfl)
theorem dX2_wears_1 : decode cX2_wears 1 = .ok (.istore_n 2, 1) := dk_61 (dk_at dksX2_wears_0 1 rfl rfl)
theorem dX2_wears_2 : decode cX2_wears 2 = .ok (.iload_n 2, 1) := dk_28 (dk_at dksX2_wears_0 2 rfl rfl)
theorem dX2_wears_3 : decode cX2_wears 3 = .ok (.bipush 64, 2) := dk_16 64 (dk_at dksX2_wears_0 3 rfl rfl)
theorem dX2_wears_5 : decode cX2_wears 5 = .ok (.if_icmp .ge 26, 3) := dk_162 0 26 (dk_at dksX2_wears_0 5 rfl rfl)
theorem dX2_wears_8 : decode cX2_wears 8 = .ok (.aload_n 0, 1) := dk_42 (dk_at dksX2_wears_0 8 rfl rfl)
theorem dX2_wears_9 : decode cX2_wears 9 = .ok (.getfield 24, 3) := dk_180 0 24 (dk_at dksX2_wears_0 9 rfl rfl)
theorem dX2_wears_12 : decode cX2_wears 12 = .ok (.iload_n 2, 1) := dk_28 (dk_at dksX2_wears_0 12 rfl rfl)
theorem dX2_wears_13 : decode cX2_wears 13 = .ok (.aload_n 0, 1) := dk_42 (dk_at dksX2_wears_0 13 rfl rfl)
theorem dX2_wears_14 : decode cX2_wears 14 = .ok (.getfield 24, 3) := dk_180 0 24 (dk_at dksX2_wears_0 14 rfl rfl)
theorem dX2_wears_17 : decode cX2_wears 17 = .ok (.iload_n 2, 1) := dk_28 (dk_at dksX2_wears_0 17 rfl rfl)
theorem dX2_wears_18 : decode cX2_wears 18 = .ok (.iaload, 1) := dk_46 (dk_at dksX2_wears_0 18 rfl rfl)
theorem dX2_wears_19 : decode cX2_wears 19 = .ok (.iload_n 1, 1) := dk_27 (dk_at dksX2_wears_0 19 rfl rfl)
theorem dX2_wears_20 : decode cX2_wears 20 = .ok (.imul, 1) := dk_104 (dk_at dksX2_wears_0 20 rfl rfl)
theorem dX2_wears_21 : decode cX2_wears 21 = .ok (.bipush 100, 2) := dk_16 100 (dk_at dksX2_wears_0 21 rfl rfl)
theorem dX2_wears_23 : decode cX2_wears 23 = .ok (.idiv, 1) := dk_108 (dk_at dksX2_wears_0 23 rfl rfl)
theorem dX2_wears_24 : decode cX2_wears 24 = .ok (.iastore, 1) := dk_79 (dk_at dksX2_wears_1 0 rfl rfl)
theorem dX2_wears_25 : decode cX2_wears 25 = .ok (.iinc 2 1, 3) := dk_132 2 1 (dk_at dksX2_wears_1 1 rfl rfl)
theorem dX2_wears_28 : decode cX2_wears 28 = .ok (.goto (-26), 3) := dk_167 255 230 (dk_at dksX2_wears_1 4 rfl rfl)
theorem dX2_wears_31 : decode cX2_wears 31 = .ok (.return_, 1) := dk_177 (dk_at dksX2_wears_1 7 rfl rfl)
def dkwX2_without_2 : List UInt8 := [160, 0, 7, 3, 167, 0, 9, 42, 180, 0, 30, 28, 46, 79, 132, 2, 1, 167, 255, 195, 177]
abbrev dktX2_without_2 : List UInt8 := dkwX2_without_2 ++ []
def dkwX2_without_1 : List UInt8 := [167, 0, 9, 42, 180, 0, 27, 28, 46, 79, 42, 180, 0, 30, 28, 42, 180, 0, 36, 28, 46, 27]
abbrev dktX2_without_1 : List UInt8 := dkwX2_without_1 ++ dktX2_without_2
def dkwX2_without_0 : List UInt8 := [3, 61, 28, 16, 64, 162, 0, 61, 42, 180, 0, 27, 28, 42, 180, 0, 33, 28, 46, 27, 160, 0, 7, 3]
abbrev dktX2_without_0 : List UInt8 := dkwX2_without_0 ++ dktX2_without_1
theorem dksX2_without_0 : cX2_without.data.toList.drop 0 = dktX2_without_0 := by decide +kernel
theorem dksX2_without_1 : cX2_without.data.toList.drop 24 = dktX2_without_1 := dk_seg dksX2_without_0 24 rfl rfl
theorem dksX2_without_2 : cX2_without.data.toList.drop 46 = dktX2_without_2 := dk_seg dksX2_without_1 22 rfl rfl
theorem dX2_without_0 : decode cX2_without 0 = .ok (.iconst 0, 1) := dk_3 (dk_at dksX2_without_0 0 rfl rfl)
theorem dX2_without_1 : decode cX2_without 1 = .ok (.istore_n 2, 1) := dk_61 (dk_at dksX2_without_0 1 rfl rfl)
theorem dX2_without_2 : decode cX2_without 2 = .ok (.iload_n 2, 1) := dk_28 (dk_at dksX2_without_0 2 rfl rfl)
theorem dX2_without_3 : decode cX2_without 3 = .ok (.bipush 64, 2) := dk_16 64 (dk_at dksX2_without_0 3 rfl rfl)
theorem dX2_without_5 : decode cX2_without 5 = .ok (.if_icmp .ge 61, 3) := dk_162 0 61 (dk_at dksX2_without_0 5 rfl rfl)
theorem dX2_without_8 : decode cX2_without 8 = .ok (.aload_n 0, 1) := dk_42 (dk_at dksX2_without_0 8 rfl rfl)
theorem dX2_without_9 : decode cX2_without 9 = .ok (.getfield 27, 3) := dk_180 0 27 (dk_at dksX2_without_0 9 rfl rfl)
theorem dX2_without_12 : decode cX2_without 12 = .ok (.iload_n 2, 1) := dk_28 (dk_at dksX2_without_0 12 rfl rfl)
theorem dX2_without_13 : decode cX2_without 13 = .ok (.aload_n 0, 1) := dk_42 (dk_at dksX2_without_0 13 rfl rfl)
theorem dX2_without_14 : decode cX2_without 14 = .ok (.getfield 33, 3) := dk_180 0 33 (dk_at dksX2_without_0 14 rfl rfl)
theorem dX2_without_17 : decode cX2_without 17 = .ok (.iload_n 2, 1) := dk_28 (dk_at dksX2_without_0 17 rfl rfl)
theorem dX2_without_18 : decode cX2_without 18 = .ok (.iaload, 1) := dk_46 (dk_at dksX2_without_0 18 rfl rfl)
theorem dX2_without_19 : decode cX2_without 19 = .ok (.iload_n 1, 1) := dk_27 (dk_at dksX2_without_0 19 rfl rfl)
theorem dX2_without_20 : decode cX2_without 20 = .ok (.if_icmp .ne 7, 3) := dk_160 0 7 (dk_at dksX2_without_0 20 rfl rfl)
theorem dX2_without_23 : decode cX2_without 23 = .ok (.iconst 0, 1) := dk_3 (dk_at dksX2_without_0 23 rfl rfl)
theorem dX2_without_24 : decode cX2_without 24 = .ok (.goto 9, 3) := dk_167 0 9 (dk_at dksX2_without_1 0 rfl rfl)
theorem dX2_without_27 : decode cX2_without 27 = .ok (.aload_n 0, 1) := dk_42 (dk_at dksX2_without_1 3 rfl rfl)
theorem dX2_without_28 : decode cX2_without 28 = .ok (.getfield 27, 3) := dk_180 0 27 (dk_at dksX2_without_1 4 rfl rfl)
theorem dX2_without_31 : decode cX2_without 31 = .ok (.iload_n 2, 1) := dk_28 (dk_at dksX2_without_1 7 rfl rfl)
theorem dX2_without_32 : decode cX2_without 32 = .ok (.iaload, 1) := dk_46 (dk_at dksX2_without_1 8 rfl rfl)
theorem dX2_without_33 : decode cX2_without 33 = .ok (.iastore, 1) := dk_79 (dk_at dksX2_without_1 9 rfl rfl)
theorem dX2_without_34 : decode cX2_without 34 = .ok (.aload_n 0, 1) := dk_42 (dk_at dksX2_without_1 10 rfl rfl)
theorem dX2_without_35 : decode cX2_without 35 = .ok (.getfield 30, 3) := dk_180 0 30 (dk_at dksX2_without_1 11 rfl rfl)
theorem dX2_without_38 : decode cX2_without 38 = .ok (.iload_n 2, 1) := dk_28 (dk_at dksX2_without_1 14 rfl rfl)
theorem dX2_without_39 : decode cX2_without 39 = .ok (.aload_n 0, 1) := dk_42 (dk_at dksX2_without_1 15 rfl rfl)
theorem dX2_without_40 : decode cX2_without 40 = .ok (.getfield 36, 3) := dk_180 0 36 (dk_at dksX2_without_1 16 rfl rfl)
theorem dX2_without_43 : decode cX2_without 43 = .ok (.iload_n 2, 1) := dk_28 (dk_at dksX2_without_1 19 rfl rfl)
theorem dX2_without_44 : decode cX2_without 44 = .ok (.iaload, 1) := dk_46 (dk_at dksX2_without_1 20 rfl rfl)
theorem dX2_without_45 : decode cX2_without 45 = .ok (.iload_n 1, 1) := dk_27 (dk_at dksX2_without_1 21 rfl rfl)
theorem dX2_without_46 : decode cX2_without 46 = .ok (.if_icmp .ne 7, 3) := dk_160 0 7 (dk_at dksX2_without_2 0 rfl rfl)
theorem dX2_without_49 : decode cX2_without 49 = .ok (.iconst 0, 1) := dk_3 (dk_at dksX2_without_2 3 rfl rfl)
theorem dX2_without_50 : decode cX2_without 50 = .ok (.goto 9, 3) := dk_167 0 9 (dk_at dksX2_without_2 4 rfl rfl)
theorem dX2_without_53 : decode cX2_without 53 = .ok (.aload_n 0, 1) := dk_42 (dk_at dksX2_without_2 7 rfl rfl)
theorem dX2_without_54 : decode cX2_without 54 = .ok (.getfield 30, 3) := dk_180 0 30 (dk_at dksX2_without_2 8 rfl rfl)
theorem dX2_without_57 : decode cX2_without 57 = .ok (.iload_n 2, 1) := dk_28 (dk_at dksX2_without_2 11 rfl rfl)
theorem dX2_without_58 : decode cX2_without 58 = .ok (.iaload, 1) := dk_46 (dk_at dksX2_without_2 12 rfl rfl)
theorem dX2_without_59 : decode cX2_without 59 = .ok (.iastore, 1) := dk_79 (dk_at dksX2_without_2 13 rfl rfl)
theorem dX2_without_60 : decode cX2_without 60 = .ok (.iinc 2 1, 3) := dk_132 2 1 (dk_at dksX2_without_2 14 rfl rfl)
theorem dX2_without_63 : decode cX2_without 63 = .ok (.goto (-61), 3) := dk_167 255 195 (dk_at dksX2_without_2 17 rfl rfl)
theorem dX2_without_66 : decode cX2_without 66 = .ok (.return_, 1) := dk_177 (dk_at dksX2_without_2 20 rfl rfl)
def dkwX2_builder_1 : List UInt8 := [184, 0, 51, 29, 79, 177]
abbrev dktX2_builder_1 : List UInt8 := dkwX2_builder_1 ++ []
def dkwX2_builder_0 : List UInt8 := [27, 28, 100, 184, 0, 45, 4, 160, 0, 10, 42, 180, 0, 33, 167, 0, 7, 42, 180, 0, 36, 27, 28]
abbrev dktX2_builder_0 : List UInt8 := dkwX2_builder_0 ++ dktX2_builder_1
theorem dksX2_builder_0 : cX2_builder.data.toList.drop 0 = dktX2_builder_0 := by decide +kernel
theorem dksX2_builder_1 : cX2_builder.data.toList.drop 23 = dktX2_builder_1 := dk_seg dksX2_builder_0 23 rfl rfl
theorem dX2_builder_0 : decode cX2_builder 0 = .ok (.iload_n 1, 1) := dk_27 (dk_at dksX2_builder_0 0 rfl rfl)
theorem dX2_builder_1 : decode cX2_builder 1 = .ok (.iload_n 2, 1) := dk_28 (dk_at dksX2_builder_0 1 rfl rfl)
theorem dX2_builder_2 : decode cX2_builder 2 = .ok (.isub, 1) := dk_100 (dk_at dksX2_builder_0 2 rfl rfl)
theorem dX2_builder_3 : decode cX2_builder 3 = .ok (.invokestatic 45, 3) := dk_184 0 45 (dk_at dksX2_builder_0 3 rfl rfl)
theorem dX2_builder_6 : decode cX2_builder 6 = .ok (.iconst 1, 1) := dk_4 (dk_at dksX2_builder_0 6 rfl rfl)
theorem dX2_builder_7 : decode cX2_builder 7 = .ok (.if_icmp .ne 10, 3) := dk_160 0 10 (dk_at dksX2_builder_0 7 rfl rfl)
theorem dX2_builder_10 : decode cX2_builder 10 = .ok (.aload_n 0, 1) := dk_42 (dk_at dksX2_builder_0 10 rfl rfl)
theorem dX2_builder_11 : decode cX2_builder 11 = .ok (.getfield 33, 3) := dk_180 0 33 (dk_at dksX2_builder_0 11 rfl rfl)
theorem dX2_builder_14 : decode cX2_builder 14 = .ok (.goto 7, 3) := dk_167 0 7 (dk_at dksX2_builder_0 14 rfl rfl)
theorem dX2_builder_17 : decode cX2_builder 17 = .ok (.aload_n 0, 1) := dk_42 (dk_at dksX2_builder_0 17 rfl rfl)
theorem dX2_builder_18 : decode cX2_builder 18 = .ok (.getfield 36, 3) := dk_180 0 36 (dk_at dksX2_builder_0 18 rfl rfl)
theorem dX2_builder_21 : decode cX2_builder 21 = .ok (.iload_n 1, 1) := dk_27 (dk_at dksX2_builder_0 21 rfl rfl)
theorem dX2_builder_22 : decode cX2_builder 22 = .ok (.iload_n 2, 1) := dk_28 (dk_at dksX2_builder_0 22 rfl rfl)
theorem dX2_builder_23 : decode cX2_builder 23 = .ok (.invokestatic 51, 3) := dk_184 0 51 (dk_at dksX2_builder_1 0 rfl rfl)
theorem dX2_builder_26 : decode cX2_builder 26 = .ok (.iload_n 3, 1) := dk_29 (dk_at dksX2_builder_1 3 rfl rfl)
theorem dX2_builder_27 : decode cX2_builder 27 = .ok (.iastore, 1) := dk_79 (dk_at dksX2_builder_1 4 rfl rfl)
theorem dX2_builder_28 : decode cX2_builder 28 = .ok (.return_, 1) := dk_177 (dk_at dksX2_builder_1 5 rfl rfl)
def dkwX2_ripe_1 : List UInt8 := [43, 28, 132, 2, 1, 29, 79, 132, 3, 1, 167, 255, 226, 28, 172]
abbrev dktX2_ripe_1 : List UInt8 := dkwX2_ripe_1 ++ []
def dkwX2_ripe_0 : List UInt8 := [3, 61, 3, 62, 29, 16, 64, 162, 0, 30, 28, 16, 12, 162, 0, 24, 42, 29, 182, 0, 61, 153, 0, 10]
abbrev dktX2_ripe_0 : List UInt8 := dkwX2_ripe_0 ++ dktX2_ripe_1
theorem dksX2_ripe_0 : cX2_ripe.data.toList.drop 0 = dktX2_ripe_0 := by decide +kernel
theorem dksX2_ripe_1 : cX2_ripe.data.toList.drop 24 = dktX2_ripe_1 := dk_seg dksX2_ripe_0 24 rfl rfl
theorem dX2_ripe_0 : decode cX2_ripe 0 = .ok (.iconst 0, 1) := dk_3 (dk_at dksX2_ripe_0 0 rfl rfl)
theorem dX2_ripe_1 : decode cX2_ripe 1 = .ok (.istore_n 2, 1) := dk_61 (dk_at dksX2_ripe_0 1 rfl rfl)
theorem dX2_ripe_2 : decode cX2_ripe 2 = .ok (.iconst 0, 1) := dk_3 (dk_at dksX2_ripe_0 2 rfl rfl)
theorem dX2_ripe_3 : decode cX2_ripe 3 = .ok (.istore_n 3, 1) := dk_62 (dk_at dksX2_ripe_0 3 rfl rfl)
theorem dX2_ripe_4 : decode cX2_ripe 4 = .ok (.iload_n 3, 1) := dk_29 (dk_at dksX2_ripe_0 4 rfl rfl)
theorem dX2_ripe_5 : decode cX2_ripe 5 = .ok (.bipush 64, 2) := dk_16 64 (dk_at dksX2_ripe_0 5 rfl rfl)
theorem dX2_ripe_7 : decode cX2_ripe 7 = .ok (.if_icmp .ge 30, 3) := dk_162 0 30 (dk_at dksX2_ripe_0 7 rfl rfl)
theorem dX2_ripe_10 : decode cX2_ripe 10 = .ok (.iload_n 2, 1) := dk_28 (dk_at dksX2_ripe_0 10 rfl rfl)
theorem dX2_ripe_11 : decode cX2_ripe 11 = .ok (.bipush 12, 2) := dk_16 12 (dk_at dksX2_ripe_0 11 rfl rfl)
theorem dX2_ripe_13 : decode cX2_ripe 13 = .ok (.if_icmp .ge 24, 3) := dk_162 0 24 (dk_at dksX2_ripe_0 13 rfl rfl)
theorem dX2_ripe_16 : decode cX2_ripe 16 = .ok (.aload_n 0, 1) := dk_42 (dk_at dksX2_ripe_0 16 rfl rfl)
theorem dX2_ripe_17 : decode cX2_ripe 17 = .ok (.iload_n 3, 1) := dk_29 (dk_at dksX2_ripe_0 17 rfl rfl)
theorem dX2_ripe_18 : decode cX2_ripe 18 = .ok (.invokevirtual 61, 3) := dk_182 0 61 (dk_at dksX2_ripe_0 18 rfl rfl)
theorem dX2_ripe_21 : decode cX2_ripe 21 = .ok (.ifCond .eq 10, 3) := dk_153 0 10 (dk_at dksX2_ripe_0 21 rfl rfl)
theorem dX2_ripe_24 : decode cX2_ripe 24 = .ok (.aload_n 1, 1) := dk_43 (dk_at dksX2_ripe_1 0 rfl rfl)
theorem dX2_ripe_25 : decode cX2_ripe 25 = .ok (.iload_n 2, 1) := dk_28 (dk_at dksX2_ripe_1 1 rfl rfl)
theorem dX2_ripe_26 : decode cX2_ripe 26 = .ok (.iinc 2 1, 3) := dk_132 2 1 (dk_at dksX2_ripe_1 2 rfl rfl)
theorem dX2_ripe_29 : decode cX2_ripe 29 = .ok (.iload_n 3, 1) := dk_29 (dk_at dksX2_ripe_1 5 rfl rfl)
theorem dX2_ripe_30 : decode cX2_ripe 30 = .ok (.iastore, 1) := dk_79 (dk_at dksX2_ripe_1 6 rfl rfl)
theorem dX2_ripe_31 : decode cX2_ripe 31 = .ok (.iinc 3 1, 3) := dk_132 3 1 (dk_at dksX2_ripe_1 7 rfl rfl)
theorem dX2_ripe_34 : decode cX2_ripe 34 = .ok (.goto (-30), 3) := dk_167 255 226 (dk_at dksX2_ripe_1 10 rfl rfl)
theorem dX2_ripe_37 : decode cX2_ripe 37 = .ok (.iload_n 2, 1) := dk_28 (dk_at dksX2_ripe_1 13 rfl rfl)
theorem dX2_ripe_38 : decode cX2_ripe 38 = .ok (.ireturn, 1) := dk_172 (dk_at dksX2_ripe_1 14 rfl rfl)
def dkwX3_init_1 : List UInt8 := [188, 4, 181, 0, 18, 177]
abbrev dktX3_init_1 : List UInt8 := dkwX3_init_1 ++ []
def dkwX3_init_0 : List UInt8 := [42, 183, 0, 3, 42, 16, 64, 188, 10, 181, 0, 9, 42, 16, 64, 188, 10, 181, 0, 15, 42, 16, 64]
abbrev dktX3_init_0 : List UInt8 := dkwX3_init_0 ++ dktX3_init_1
theorem dksX3_init_0 : cX3_init.data.toList.drop 0 = dktX3_init_0 := by decide +kernel
theorem dksX3_init_1 : cX3_init.data.toList.drop 23 = dktX3_init_1 := dk_seg dksX3_init_0 23 rfl rfl
theorem dX3_init_0 : decode cX3_init 0 = .ok (.aload_n 0, 1) := dk_42 (dk_at dksX3_init_0 0 rfl rfl)
theorem dX3_init_1 : decode cX3_init 1 = .ok (.invokespecial 3, 3) := dk_183 0 3 (dk_at dksX3_init_0 1 rfl rfl)
theorem dX3_init_4 : decode cX3_init 4 = .ok (.aload_n 0, 1) := dk_42 (dk_at dksX3_init_0 4 rfl rfl)
theorem dX3_init_5 : decode cX3_init 5 = .ok (.bipush 64, 2) := dk_16 64 (dk_at dksX3_init_0 5 rfl rfl)
theorem dX3_init_7 : decode cX3_init 7 = .ok (.newarray .int, 2) := dk_188_10 (dk_at dksX3_init_0 7 rfl rfl)
theorem dX3_init_9 : decode cX3_init 9 = .ok (.putfield 9, 3) := dk_181 0 9 (dk_at dksX3_init_0 9 rfl rfl)
theorem dX3_init_12 : decode cX3_init 12 = .ok (.aload_n 0, 1) := dk_42 (dk_at dksX3_init_0 12 rfl rfl)
theorem dX3_init_13 : decode cX3_init 13 = .ok (.bipush 64, 2) := dk_16 64 (dk_at dksX3_init_0 13 rfl rfl)
theorem dX3_init_15 : decode cX3_init 15 = .ok (.newarray .int, 2) := dk_188_10 (dk_at dksX3_init_0 15 rfl rfl)
theorem dX3_init_17 : decode cX3_init 17 = .ok (.putfield 15, 3) := dk_181 0 15 (dk_at dksX3_init_0 17 rfl rfl)
theorem dX3_init_20 : decode cX3_init 20 = .ok (.aload_n 0, 1) := dk_42 (dk_at dksX3_init_0 20 rfl rfl)
theorem dX3_init_21 : decode cX3_init 21 = .ok (.bipush 64, 2) := dk_16 64 (dk_at dksX3_init_0 21 rfl rfl)
theorem dX3_init_23 : decode cX3_init 23 = .ok (.newarray .boolean, 2) := dk_188_4 (dk_at dksX3_init_1 0 rfl rfl)
theorem dX3_init_25 : decode cX3_init 25 = .ok (.putfield 18, 3) := dk_181 0 18 (dk_at dksX3_init_1 2 rfl rfl)
theorem dX3_init_28 : decode cX3_init 28 = .ok (.return_, 1) := dk_177 (dk_at dksX3_init_1 5 rfl rfl)
def dkwX3_from_6 : List UInt8 := [167, 255, 178, 42, 182, 0, 23, 54, 5, 167, 255, 152, 177]
abbrev dktX3_from_6 : List UInt8 := dkwX3_from_6 ++ []
def dkwX3_from_5 : List UInt8 := [29, 182, 0, 37, 167, 0, 12, 43, 21, 5, 21, 7, 29, 182, 0, 37, 96, 184, 0, 41, 79, 132, 6, 1]
abbrev dktX3_from_5 : List UInt8 := dkwX3_from_5 ++ dktX3_from_6
def dkwX3_from_4 : List UInt8 := [42, 180, 0, 9, 21, 7, 46, 42, 180, 0, 9, 21, 5, 46, 21, 4, 153, 0, 15, 43, 21, 7, 21, 5]
abbrev dktX3_from_4 : List UInt8 := dkwX3_from_4 ++ dktX3_from_5
def dkwX3_from_3 : List UInt8 := [21, 5, 21, 6, 184, 0, 27, 54, 7, 43, 21, 7, 182, 0, 31, 153, 0, 54, 42, 180, 0, 9, 21, 7]
abbrev dktX3_from_3 : List UInt8 := dkwX3_from_3 ++ dktX3_from_4
def dkwX3_from_2 : List UInt8 := [21, 5, 2, 159, 0, 104, 42, 180, 0, 18, 21, 5, 4, 84, 3, 54, 6, 21, 6, 7, 162, 0, 78]
abbrev dktX3_from_2 : List UInt8 := dkwX3_from_2 ++ dktX3_from_3
def dkwX3_from_1 : List UInt8 := [21, 5, 3, 84, 132, 5, 1, 167, 255, 229, 42, 180, 0, 9, 28, 3, 79, 42, 182, 0, 23, 54, 5]
abbrev dktX3_from_1 : List UInt8 := dkwX3_from_1 ++ dktX3_from_2
def dkwX3_from_0 : List UInt8 := [3, 54, 5, 21, 5, 16, 64, 162, 0, 26, 42, 180, 0, 9, 21, 5, 18, 22, 79, 42, 180, 0, 18]
abbrev dktX3_from_0 : List UInt8 := dkwX3_from_0 ++ dktX3_from_1
theorem dksX3_from_0 : cX3_from.data.toList.drop 0 = dktX3_from_0 := by decide +kernel
theorem dksX3_from_1 : cX3_from.data.toList.drop 23 = dktX3_from_1 := dk_seg dksX3_from_0 23 rfl rfl
theorem dksX3_from_2 : cX3_from.data.toList.drop 46 = dktX3_from_2 := dk_seg dksX3_from_1 23 rfl rfl
theorem dksX3_from_3 : cX3_from.data.toList.drop 69 = dktX3_from_3 := dk_seg dksX3_from_2 23 rfl rfl
theorem dksX3_from_4 : cX3_from.data.toList.drop 93 = dktX3_from_4 := dk_seg dksX3_from_3 24 rfl rfl
theorem dksX3_from_5 : cX3_from.data.toList.drop 117 = dktX3_from_5 := dk_seg dksX3_from_4 24 rfl rfl
theorem dksX3_from_6 : cX3_from.data.toList.drop 141 = dktX3_from_6 := dk_seg dksX3_from_5 24 rfl rfl
theorem dX3_from_0 : decode cX3_from 0 = .ok (.iconst 0, 1) := dk_3 (dk_at dksX3_from_0 0 rfl rfl)
theorem dX3_from_1 : decode cX3_from 1 = .ok (.istore 5, 2) := dk_54 5 (dk_at dksX3_from_0 1 rfl rfl)
theorem dX3_from_3 : decode cX3_from 3 = .ok (.iload 5, 2) := dk_21 5 (dk_at dksX3_from_0 3 rfl rfl)
theorem dX3_from_5 : decode cX3_from 5 = .ok (.bipush 64, 2) := dk_16 64 (dk_at dksX3_from_0 5 rfl rfl)
theorem dX3_from_7 : decode cX3_from 7 = .ok (.if_icmp .ge 26, 3) := dk_162 0 26 (dk_at dksX3_from_0 7 rfl rfl)
theorem dX3_from_10 : decode cX3_from 10 = .ok (.aload_n 0, 1) := dk_42 (dk_at dksX3_from_0 10 rfl rfl)
theorem dX3_from_11 : decode cX3_from 11 = .ok (.getfield 9, 3) := dk_180 0 9 (dk_at dksX3_from_0 11 rfl rfl)
theorem dX3_from_14 : decode cX3_from 14 = .ok (.iload 5, 2) := dk_21 5 (dk_at dksX3_from_0 14 rfl rfl)
theorem dX3_from_16 : decode cX3_from 16 = .ok (.ldc 22, 2) := dk_18 22 (dk_at dksX3_from_0 16 rfl rfl)
theorem dX3_from_18 : decode cX3_from 18 = .ok (.iastore, 1) := dk_79 (dk_at dksX3_from_0 18 rfl rfl)
theorem dX3_from_19 : decode cX3_from 19 = .ok (.aload_n 0, 1) := dk_42 (dk_at dksX3_from_0 19 rfl rfl)
theorem dX3_from_20 : decode cX3_from 20 = .ok (.getfield 18, 3) := dk_180 0 18 (dk_at dksX3_from_0 20 rfl rfl)
theorem dX3_from_23 : decode cX3_from 23 = .ok (.iload 5, 2) := dk_21 5 (dk_at dksX3_from_1 0 rfl rfl)
theorem dX3_from_25 : decode cX3_from 25 = .ok (.iconst 0, 1) := dk_3 (dk_at dksX3_from_1 2 rfl rfl)
theorem dX3_from_26 : decode cX3_from 26 = .ok (.bastore, 1) := dk_84 (dk_at dksX3_from_1 3 rfl rfl)
theorem dX3_from_27 : decode cX3_from 27 = .ok (.iinc 5 1, 3) := dk_132 5 1 (dk_at dksX3_from_1 4 rfl rfl)
theorem dX3_from_30 : decode cX3_from 30 = .ok (.goto (-27), 3) := dk_167 255 229 (dk_at dksX3_from_1 7 rfl rfl)
theorem dX3_from_33 : decode cX3_from 33 = .ok (.aload_n 0, 1) := dk_42 (dk_at dksX3_from_1 10 rfl rfl)
theorem dX3_from_34 : decode cX3_from 34 = .ok (.getfield 9, 3) := dk_180 0 9 (dk_at dksX3_from_1 11 rfl rfl)
theorem dX3_from_37 : decode cX3_from 37 = .ok (.iload_n 2, 1) := dk_28 (dk_at dksX3_from_1 14 rfl rfl)
theorem dX3_from_38 : decode cX3_from 38 = .ok (.iconst 0, 1) := dk_3 (dk_at dksX3_from_1 15 rfl rfl)
theorem dX3_from_39 : decode cX3_from 39 = .ok (.iastore, 1) := dk_79 (dk_at dksX3_from_1 16 rfl rfl)
theorem dX3_from_40 : decode cX3_from 40 = .ok (.aload_n 0, 1) := dk_42 (dk_at dksX3_from_1 17 rfl rfl)
theorem dX3_from_41 : decode cX3_from 41 = .ok (.invokevirtual 23, 3) := dk_182 0 23 (dk_at dksX3_from_1 18 rfl rfl)
theorem dX3_from_44 : decode cX3_from 44 = .ok (.istore 5, 2) := dk_54 5 (dk_at dksX3_from_1 21 rfl rfl)
theorem dX3_from_46 : decode cX3_from 46 = .ok (.iload 5, 2) := dk_21 5 (dk_at dksX3_from_2 0 rfl rfl)
theorem dX3_from_48 : decode cX3_from 48 = .ok (.iconst (-1), 1) := dk_2 (dk_at dksX3_from_2 2 rfl rfl)
theorem dX3_from_49 : decode cX3_from 49 = .ok (.if_icmp .eq 104, 3) := dk_159 0 104 (dk_at dksX3_from_2 3 rfl rfl)
theorem dX3_from_52 : decode cX3_from 52 = .ok (.aload_n 0, 1) := dk_42 (dk_at dksX3_from_2 6 rfl rfl)
theorem dX3_from_53 : decode cX3_from 53 = .ok (.getfield 18, 3) := dk_180 0 18 (dk_at dksX3_from_2 7 rfl rfl)
theorem dX3_from_56 : decode cX3_from 56 = .ok (.iload 5, 2) := dk_21 5 (dk_at dksX3_from_2 10 rfl rfl)
theorem dX3_from_58 : decode cX3_from 58 = .ok (.iconst 1, 1) := dk_4 (dk_at dksX3_from_2 12 rfl rfl)
theorem dX3_from_59 : decode cX3_from 59 = .ok (.bastore, 1) := dk_84 (dk_at dksX3_from_2 13 rfl rfl)
theorem dX3_from_60 : decode cX3_from 60 = .ok (.iconst 0, 1) := dk_3 (dk_at dksX3_from_2 14 rfl rfl)
theorem dX3_from_61 : decode cX3_from 61 = .ok (.istore 6, 2) := dk_54 6 (dk_at dksX3_from_2 15 rfl rfl)
theorem dX3_from_63 : decode cX3_from 63 = .ok (.iload 6, 2) := dk_21 6 (dk_at dksX3_from_2 17 rfl rfl)
theorem dX3_from_65 : decode cX3_from 65 = .ok (.iconst 4, 1) := dk_7 (dk_at dksX3_from_2 19 rfl rfl)
theorem dX3_from_66 : decode cX3_from 66 = .ok (.if_icmp .ge 78, 3) := dk_162 0 78 (dk_at dksX3_from_2 20 rfl rfl)
theorem dX3_from_69 : decode cX3_from 69 = .ok (.iload 5, 2) := dk_21 5 (dk_at dksX3_from_3 0 rfl rfl)
theorem dX3_from_71 : decode cX3_from 71 = .ok (.iload 6, 2) := dk_21 6 (dk_at dksX3_from_3 2 rfl rfl)
theorem dX3_from_73 : decode cX3_from 73 = .ok (.invokestatic 27, 3) := dk_184 0 27 (dk_at dksX3_from_3 4 rfl rfl)
theorem dX3_from_76 : decode cX3_from 76 = .ok (.istore 7, 2) := dk_54 7 (dk_at dksX3_from_3 7 rfl rfl)
theorem dX3_from_78 : decode cX3_from 78 = .ok (.aload_n 1, 1) := dk_43 (dk_at dksX3_from_3 9 rfl rfl)
theorem dX3_from_79 : decode cX3_from 79 = .ok (.iload 7, 2) := dk_21 7 (dk_at dksX3_from_3 10 rfl rfl)
theorem dX3_from_81 : decode cX3_from 81 = .ok (.invokevirtual 31, 3) := dk_182 0 31 (dk_at dksX3_from_3 12 rfl rfl)
theorem dX3_from_84 : decode cX3_from 84 = .ok (.ifCond .eq 54, 3) := dk_153 0 54 (dk_at dksX3_from_3 15 rfl rfl)
theorem dX3_from_87 : decode cX3_from 87 = .ok (.aload_n 0, 1) := dk_42 (dk_at dksX3_from_3 18 rfl rfl)
theorem dX3_from_88 : decode cX3_from 88 = .ok (.getfield 9, 3) := dk_180 0 9 (dk_at dksX3_from_3 19 rfl rfl)
theorem dX3_from_91 : decode cX3_from 91 = .ok (.iload 7, 2) := dk_21 7 (dk_at dksX3_from_3 22 rfl rfl)
theorem dX3_from_93 : decode cX3_from 93 = .ok (.aload_n 0, 1) := dk_42 (dk_at dksX3_from_4 0 rfl rfl)
theorem dX3_from_94 : decode cX3_from 94 = .ok (.getfield 9, 3) := dk_180 0 9 (dk_at dksX3_from_4 1 rfl rfl)
theorem dX3_from_97 : decode cX3_from 97 = .ok (.iload 7, 2) := dk_21 7 (dk_at dksX3_from_4 4 rfl rfl)
theorem dX3_from_99 : decode cX3_from 99 = .ok (.iaload, 1) := dk_46 (dk_at dksX3_from_4 6 rfl rfl)
theorem dX3_from_100 : decode cX3_from 100 = .ok (.aload_n 0, 1) := dk_42 (dk_at dksX3_from_4 7 rfl rfl)
theorem dX3_from_101 : decode cX3_from 101 = .ok (.getfield 9, 3) := dk_180 0 9 (dk_at dksX3_from_4 8 rfl rfl)
theorem dX3_from_104 : decode cX3_from 104 = .ok (.iload 5, 2) := dk_21 5 (dk_at dksX3_from_4 11 rfl rfl)
theorem dX3_from_106 : decode cX3_from 106 = .ok (.iaload, 1) := dk_46 (dk_at dksX3_from_4 13 rfl rfl)
theorem dX3_from_107 : decode cX3_from 107 = .ok (.iload 4, 2) := dk_21 4 (dk_at dksX3_from_4 14 rfl rfl)
theorem dX3_from_109 : decode cX3_from 109 = .ok (.ifCond .eq 15, 3) := dk_153 0 15 (dk_at dksX3_from_4 16 rfl rfl)
theorem dX3_from_112 : decode cX3_from 112 = .ok (.aload_n 1, 1) := dk_43 (dk_at dksX3_from_4 19 rfl rfl)
theorem dX3_from_113 : decode cX3_from 113 = .ok (.iload 7, 2) := dk_21 7 (dk_at dksX3_from_4 20 rfl rfl)
theorem dX3_from_115 : decode cX3_from 115 = .ok (.iload 5, 2) := dk_21 5 (dk_at dksX3_from_4 22 rfl rfl)
theorem dX3_from_117 : decode cX3_from 117 = .ok (.iload_n 3, 1) := dk_29 (dk_at dksX3_from_5 0 rfl rfl)
theorem dX3_from_118 : decode cX3_from 118 = .ok (.invokevirtual 37, 3) := dk_182 0 37 (dk_at dksX3_from_5 1 rfl rfl)
theorem dX3_from_121 : decode cX3_from 121 = .ok (.goto 12, 3) := dk_167 0 12 (dk_at dksX3_from_5 4 rfl rfl)
theorem dX3_from_124 : decode cX3_from 124 = .ok (.aload_n 1, 1) := dk_43 (dk_at dksX3_from_5 7 rfl rfl)
theorem dX3_from_125 : decode cX3_from 125 = .ok (.iload 5, 2) := dk_21 5 (dk_at dksX3_from_5 8 rfl rfl)
theorem dX3_from_127 : decode cX3_from 127 = .ok (.iload 7, 2) := dk_21 7 (dk_at dksX3_from_5 10 rfl rfl)
theorem dX3_from_129 : decode cX3_from 129 = .ok (.iload_n 3, 1) := dk_29 (dk_at dksX3_from_5 12 rfl rfl)
theorem dX3_from_130 : decode cX3_from 130 = .ok (.invokevirtual 37, 3) := dk_182 0 37 (dk_at dksX3_from_5 13 rfl rfl)
theorem dX3_from_133 : decode cX3_from 133 = .ok (.iadd, 1) := dk_96 (dk_at dksX3_from_5 16 rfl rfl)
theorem dX3_from_134 : decode cX3_from 134 = .ok (.invokestatic 41, 3) := dk_184 0 41 (dk_at dksX3_from_5 17 rfl rfl)
theorem dX3_from_137 : decode cX3_from 137 = .ok (.iastore, 1) := dk_79 (dk_at dksX3_from_5 20 rfl rfl)
theorem dX3_from_138 : decode cX3_from 138 = .ok (.iinc 6 1, 3) := dk_132 6 1 (dk_at dksX3_from_5 21 rfl rfl)
theorem dX3_from_141 : decode cX3_from 141 = .ok (.goto (-78), 3) := dk_167 255 178 (dk_at dksX3_from_6 0 rfl rfl)
theorem dX3_from_144 : decode cX3_from 144 = .ok (.aload_n 0, 1) := dk_42 (dk_at dksX3_from_6 3 rfl rfl)
theorem dX3_from_145 : decode cX3_from 145 = .ok (.invokevirtual 23, 3) := dk_182 0 23 (dk_at dksX3_from_6 4 rfl rfl)
theorem dX3_from_148 : decode cX3_from 148 = .ok (.istore 5, 2) := dk_54 5 (dk_at dksX3_from_6 7 rfl rfl)
theorem dX3_from_150 : decode cX3_from 150 = .ok (.goto (-104), 3) := dk_167 255 152 (dk_at dksX3_from_6 9 rfl rfl)
theorem dX3_from_153 : decode cX3_from 153 = .ok (.return_, 1) := dk_177 (dk_at dksX3_from_6 12 rfl rfl)
def dkwX3_nearest_2 : List UInt8 := [162, 0, 5, 28, 60, 132, 2, 1, 167, 255, 205, 27, 172]
abbrev dktX3_nearest_2 : List UInt8 := dkwX3_nearest_2 ++ []
def dkwX3_nearest_1 : List UInt8 := [46, 18, 22, 162, 0, 25, 27, 2, 159, 0, 18, 42, 180, 0, 9, 28, 46, 42, 180, 0, 9, 27, 46]
abbrev dktX3_nearest_1 : List UInt8 := dkwX3_nearest_1 ++ dktX3_nearest_2
def dkwX3_nearest_0 : List UInt8 := [2, 60, 3, 61, 28, 16, 64, 162, 0, 51, 42, 180, 0, 18, 28, 51, 154, 0, 36, 42, 180, 0, 9, 28]
abbrev dktX3_nearest_0 : List UInt8 := dkwX3_nearest_0 ++ dktX3_nearest_1
theorem dksX3_nearest_0 : cX3_nearest.data.toList.drop 0 = dktX3_nearest_0 := by decide +kernel
theorem dksX3_nearest_1 : cX3_nearest.data.toList.drop 24 = dktX3_nearest_1 := dk_seg dksX3_nearest_0 24 rfl rfl
theorem dksX3_nearest_2 : cX3_nearest.data.toList.drop 47 = dktX3_nearest_2 := dk_seg dksX3_nearest_1 23 rfl rfl
theorem dX3_nearest_0 : decode cX3_nearest 0 = .ok (.iconst (-1), 1) := dk_2 (dk_at dksX3_nearest_0 0 rfl rfl)
theorem dX3_nearest_1 : decode cX3_nearest 1 = .ok (.istore_n 1, 1) := dk_60 (dk_at dksX3_nearest_0 1 rfl rfl)
theorem dX3_nearest_2 : decode cX3_nearest 2 = .ok (.iconst 0, 1) := dk_3 (dk_at dksX3_nearest_0 2 rfl rfl)
theorem dX3_nearest_3 : decode cX3_nearest 3 = .ok (.istore_n 2, 1) := dk_61 (dk_at dksX3_nearest_0 3 rfl rfl)
theorem dX3_nearest_4 : decode cX3_nearest 4 = .ok (.iload_n 2, 1) := dk_28 (dk_at dksX3_nearest_0 4 rfl rfl)
theorem dX3_nearest_5 : decode cX3_nearest 5 = .ok (.bipush 64, 2) := dk_16 64 (dk_at dksX3_nearest_0 5 rfl rfl)
theorem dX3_nearest_7 : decode cX3_nearest 7 = .ok (.if_icmp .ge 51, 3) := dk_162 0 51 (dk_at dksX3_nearest_0 7 rfl rfl)
theorem dX3_nearest_10 : decode cX3_nearest 10 = .ok (.aload_n 0, 1) := dk_42 (dk_at dksX3_nearest_0 10 rfl rfl)
theorem dX3_nearest_11 : decode cX3_nearest 11 = .ok (.getfield 18, 3) := dk_180 0 18 (dk_at dksX3_nearest_0 11 rfl rfl)
theorem dX3_nearest_14 : decode cX3_nearest 14 = .ok (.iload_n 2, 1) := dk_28 (dk_at dksX3_nearest_0 14 rfl rfl)
theorem dX3_nearest_15 : decode cX3_nearest 15 = .ok (.baload, 1) := dk_51 (dk_at dksX3_nearest_0 15 rfl rfl)
theorem dX3_nearest_16 : decode cX3_nearest 16 = .ok (.ifCond .ne 36, 3) := dk_154 0 36 (dk_at dksX3_nearest_0 16 rfl rfl)
theorem dX3_nearest_19 : decode cX3_nearest 19 = .ok (.aload_n 0, 1) := dk_42 (dk_at dksX3_nearest_0 19 rfl rfl)
theorem dX3_nearest_20 : decode cX3_nearest 20 = .ok (.getfield 9, 3) := dk_180 0 9 (dk_at dksX3_nearest_0 20 rfl rfl)
theorem dX3_nearest_23 : decode cX3_nearest 23 = .ok (.iload_n 2, 1) := dk_28 (dk_at dksX3_nearest_0 23 rfl rfl)
theorem dX3_nearest_24 : decode cX3_nearest 24 = .ok (.iaload, 1) := dk_46 (dk_at dksX3_nearest_1 0 rfl rfl)
theorem dX3_nearest_25 : decode cX3_nearest 25 = .ok (.ldc 22, 2) := dk_18 22 (dk_at dksX3_nearest_1 1 rfl rfl)
theorem dX3_nearest_27 : decode cX3_nearest 27 = .ok (.if_icmp .ge 25, 3) := dk_162 0 25 (dk_at dksX3_nearest_1 3 rfl rfl)
theorem dX3_nearest_30 : decode cX3_nearest 30 = .ok (.iload_n 1, 1) := dk_27 (dk_at dksX3_nearest_1 6 rfl rfl)
theorem dX3_nearest_31 : decode cX3_nearest 31 = .ok (.iconst (-1), 1) := dk_2 (dk_at dksX3_nearest_1 7 rfl rfl)
theorem dX3_nearest_32 : decode cX3_nearest 32 = .ok (.if_icmp .eq 18, 3) := dk_159 0 18 (dk_at dksX3_nearest_1 8 rfl rfl)
theorem dX3_nearest_35 : decode cX3_nearest 35 = .ok (.aload_n 0, 1) := dk_42 (dk_at dksX3_nearest_1 11 rfl rfl)
theorem dX3_nearest_36 : decode cX3_nearest 36 = .ok (.getfield 9, 3) := dk_180 0 9 (dk_at dksX3_nearest_1 12 rfl rfl)
theorem dX3_nearest_39 : decode cX3_nearest 39 = .ok (.iload_n 2, 1) := dk_28 (dk_at dksX3_nearest_1 15 rfl rfl)
theorem dX3_nearest_40 : decode cX3_nearest 40 = .ok (.iaload, 1) := dk_46 (dk_at dksX3_nearest_1 16 rfl rfl)
theorem dX3_nearest_41 : decode cX3_nearest 41 = .ok (.aload_n 0, 1) := dk_42 (dk_at dksX3_nearest_1 17 rfl rfl)
theorem dX3_nearest_42 : decode cX3_nearest 42 = .ok (.getfield 9, 3) := dk_180 0 9 (dk_at dksX3_nearest_1 18 rfl rfl)
theorem dX3_nearest_45 : decode cX3_nearest 45 = .ok (.iload_n 1, 1) := dk_27 (dk_at dksX3_nearest_1 21 rfl rfl)
theorem dX3_nearest_46 : decode cX3_nearest 46 = .ok (.iaload, 1) := dk_46 (dk_at dksX3_nearest_1 22 rfl rfl)
theorem dX3_nearest_47 : decode cX3_nearest 47 = .ok (.if_icmp .ge 5, 3) := dk_162 0 5 (dk_at dksX3_nearest_2 0 rfl rfl)
theorem dX3_nearest_50 : decode cX3_nearest 50 = .ok (.iload_n 2, 1) := dk_28 (dk_at dksX3_nearest_2 3 rfl rfl)
theorem dX3_nearest_51 : decode cX3_nearest 51 = .ok (.istore_n 1, 1) := dk_60 (dk_at dksX3_nearest_2 4 rfl rfl)
theorem dX3_nearest_52 : decode cX3_nearest 52 = .ok (.iinc 2 1, 3) := dk_132 2 1 (dk_at dksX3_nearest_2 5 rfl rfl)
theorem dX3_nearest_55 : decode cX3_nearest 55 = .ok (.goto (-51), 3) := dk_167 255 205 (dk_at dksX3_nearest_2 8 rfl rfl)
theorem dX3_nearest_58 : decode cX3_nearest 58 = .ok (.iload_n 1, 1) := dk_27 (dk_at dksX3_nearest_2 11 rfl rfl)
theorem dX3_nearest_59 : decode cX3_nearest 59 = .ok (.ireturn, 1) := dk_172 (dk_at dksX3_nearest_2 12 rfl rfl)
def dkwX3_goes_7 : List UInt8 := [184, 0, 27, 79, 167, 255, 144, 177]
abbrev dktX3_goes_7 : List UInt8 := dkwX3_goes_7 ++ []
def dkwX3_goes_6 : List UInt8 := [167, 255, 201, 42, 180, 0, 15, 42, 89, 180, 0, 46, 90, 4, 96, 181, 0, 46, 21, 5, 21, 6]
abbrev dktX3_goes_6 : List UInt8 := dkwX3_goes_6 ++ dktX3_goes_7
def dkwX3_goes_5 : List UInt8 := [184, 0, 27, 21, 4, 182, 0, 37, 96, 42, 180, 0, 9, 21, 5, 46, 159, 0, 9, 132, 6, 1]
abbrev dktX3_goes_5 : List UInt8 := dkwX3_goes_5 ++ dktX3_goes_6
def dkwX3_goes_4 : List UInt8 := [153, 0, 41, 42, 180, 0, 9, 21, 5, 21, 6, 184, 0, 27, 46, 43, 21, 5, 21, 5, 21, 6]
abbrev dktX3_goes_4 : List UInt8 := dkwX3_goes_4 ++ dktX3_goes_5
def dkwX3_goes_3 : List UInt8 := [42, 180, 0, 46, 4, 100, 46, 54, 5, 3, 54, 6, 43, 21, 5, 21, 6, 184, 0, 27, 182, 0, 31]
abbrev dktX3_goes_3 : List UInt8 := dkwX3_goes_3 ++ dktX3_goes_4
def dkwX3_goes_2 : List UInt8 := [181, 0, 46, 28, 79, 42, 180, 0, 15, 42, 180, 0, 46, 4, 100, 46, 29, 159, 0, 103, 42, 180, 0, 15]
abbrev dktX3_goes_2 : List UInt8 := dkwX3_goes_2 ++ dktX3_goes_3
def dkwX3_goes_1 : List UInt8 := [180, 0, 9, 28, 46, 18, 22, 160, 0, 4, 177, 42, 180, 0, 15, 42, 89, 180, 0, 46, 90, 4, 96]
abbrev dktX3_goes_1 : List UInt8 := dkwX3_goes_1 ++ dktX3_goes_2
def dkwX3_goes_0 : List UInt8 := [42, 3, 181, 0, 46, 43, 29, 182, 0, 31, 154, 0, 4, 177, 42, 43, 29, 21, 4, 4, 182, 0, 50, 42]
abbrev dktX3_goes_0 : List UInt8 := dkwX3_goes_0 ++ dktX3_goes_1
theorem dksX3_goes_0 : cX3_goes.data.toList.drop 0 = dktX3_goes_0 := by decide +kernel
theorem dksX3_goes_1 : cX3_goes.data.toList.drop 24 = dktX3_goes_1 := dk_seg dksX3_goes_0 24 rfl rfl
theorem dksX3_goes_2 : cX3_goes.data.toList.drop 47 = dktX3_goes_2 := dk_seg dksX3_goes_1 23 rfl rfl
theorem dksX3_goes_3 : cX3_goes.data.toList.drop 71 = dktX3_goes_3 := dk_seg dksX3_goes_2 24 rfl rfl
theorem dksX3_goes_4 : cX3_goes.data.toList.drop 94 = dktX3_goes_4 := dk_seg dksX3_goes_3 23 rfl rfl
theorem dksX3_goes_5 : cX3_goes.data.toList.drop 116 = dktX3_goes_5 := dk_seg dksX3_goes_4 22 rfl rfl
theorem dksX3_goes_6 : cX3_goes.data.toList.drop 138 = dktX3_goes_6 := dk_seg dksX3_goes_5 22 rfl rfl
theorem dksX3_goes_7 : cX3_goes.data.toList.drop 160 = dktX3_goes_7 := dk_seg dksX3_goes_6 22 rfl rfl
theorem dX3_goes_0 : decode cX3_goes 0 = .ok (.aload_n 0, 1) := dk_42 (dk_at dksX3_goes_0 0 rfl rfl)
theorem dX3_goes_1 : decode cX3_goes 1 = .ok (.iconst 0, 1) := dk_3 (dk_at dksX3_goes_0 1 rfl rfl)
theorem dX3_goes_2 : decode cX3_goes 2 = .ok (.putfield 46, 3) := dk_181 0 46 (dk_at dksX3_goes_0 2 rfl rfl)
theorem dX3_goes_5 : decode cX3_goes 5 = .ok (.aload_n 1, 1) := dk_43 (dk_at dksX3_goes_0 5 rfl rfl)
theorem dX3_goes_6 : decode cX3_goes 6 = .ok (.iload_n 3, 1) := dk_29 (dk_at dksX3_goes_0 6 rfl rfl)
theorem dX3_goes_7 : decode cX3_goes 7 = .ok (.invokevirtual 31, 3) := dk_182 0 31 (dk_at dksX3_goes_0 7 rfl rfl)
theorem dX3_goes_10 : decode cX3_goes 10 = .ok (.ifCond .ne 4, 3) := dk_154 0 4 (dk_at dksX3_goes_0 10 rfl rfl)
theorem dX3_goes_13 : decode cX3_goes 13 = .ok (.return_, 1) := dk_177 (dk_at dksX3_goes_0 13 rfl rfl)
theorem dX3_goes_14 : decode cX3_goes 14 = .ok (.aload_n 0, 1) := dk_42 (dk_at dksX3_goes_0 14 rfl rfl)
theorem dX3_goes_15 : decode cX3_goes 15 = .ok (.aload_n 1, 1) := dk_43 (dk_at dksX3_goes_0 15 rfl rfl)
theorem dX3_goes_16 : decode cX3_goes 16 = .ok (.iload_n 3, 1) := dk_29 (dk_at dksX3_goes_0 16 rfl rfl)
theorem dX3_goes_17 : decode cX3_goes 17 = .ok (.iload 4, 2) := dk_21 4 (dk_at dksX3_goes_0 17 rfl rfl)
theorem dX3_goes_19 : decode cX3_goes 19 = .ok (.iconst 1, 1) := dk_4 (dk_at dksX3_goes_0 19 rfl rfl)
theorem dX3_goes_20 : decode cX3_goes 20 = .ok (.invokevirtual 50, 3) := dk_182 0 50 (dk_at dksX3_goes_0 20 rfl rfl)
theorem dX3_goes_23 : decode cX3_goes 23 = .ok (.aload_n 0, 1) := dk_42 (dk_at dksX3_goes_0 23 rfl rfl)
theorem dX3_goes_24 : decode cX3_goes 24 = .ok (.getfield 9, 3) := dk_180 0 9 (dk_at dksX3_goes_1 0 rfl rfl)
theorem dX3_goes_27 : decode cX3_goes 27 = .ok (.iload_n 2, 1) := dk_28 (dk_at dksX3_goes_1 3 rfl rfl)
theorem dX3_goes_28 : decode cX3_goes 28 = .ok (.iaload, 1) := dk_46 (dk_at dksX3_goes_1 4 rfl rfl)
theorem dX3_goes_29 : decode cX3_goes 29 = .ok (.ldc 22, 2) := dk_18 22 (dk_at dksX3_goes_1 5 rfl rfl)
theorem dX3_goes_31 : decode cX3_goes 31 = .ok (.if_icmp .ne 4, 3) := dk_160 0 4 (dk_at dksX3_goes_1 7 rfl rfl)
theorem dX3_goes_34 : decode cX3_goes 34 = .ok (.return_, 1) := dk_177 (dk_at dksX3_goes_1 10 rfl rfl)
theorem dX3_goes_35 : decode cX3_goes 35 = .ok (.aload_n 0, 1) := dk_42 (dk_at dksX3_goes_1 11 rfl rfl)
theorem dX3_goes_36 : decode cX3_goes 36 = .ok (.getfield 15, 3) := dk_180 0 15 (dk_at dksX3_goes_1 12 rfl rfl)
theorem dX3_goes_39 : decode cX3_goes 39 = .ok (.aload_n 0, 1) := dk_42 (dk_at dksX3_goes_1 15 rfl rfl)
theorem dX3_goes_40 : decode cX3_goes 40 = .ok (.dup, 1) := dk_89 (dk_at dksX3_goes_1 16 rfl rfl)
theorem dX3_goes_41 : decode cX3_goes 41 = .ok (.getfield 46, 3) := dk_180 0 46 (dk_at dksX3_goes_1 17 rfl rfl)
theorem dX3_goes_44 : decode cX3_goes 44 = .ok (.dup_x1, 1) := dk_90 (dk_at dksX3_goes_1 20 rfl rfl)
theorem dX3_goes_45 : decode cX3_goes 45 = .ok (.iconst 1, 1) := dk_4 (dk_at dksX3_goes_1 21 rfl rfl)
theorem dX3_goes_46 : decode cX3_goes 46 = .ok (.iadd, 1) := dk_96 (dk_at dksX3_goes_1 22 rfl rfl)
theorem dX3_goes_47 : decode cX3_goes 47 = .ok (.putfield 46, 3) := dk_181 0 46 (dk_at dksX3_goes_2 0 rfl rfl)
theorem dX3_goes_50 : decode cX3_goes 50 = .ok (.iload_n 2, 1) := dk_28 (dk_at dksX3_goes_2 3 rfl rfl)
theorem dX3_goes_51 : decode cX3_goes 51 = .ok (.iastore, 1) := dk_79 (dk_at dksX3_goes_2 4 rfl rfl)
theorem dX3_goes_52 : decode cX3_goes 52 = .ok (.aload_n 0, 1) := dk_42 (dk_at dksX3_goes_2 5 rfl rfl)
theorem dX3_goes_53 : decode cX3_goes 53 = .ok (.getfield 15, 3) := dk_180 0 15 (dk_at dksX3_goes_2 6 rfl rfl)
theorem dX3_goes_56 : decode cX3_goes 56 = .ok (.aload_n 0, 1) := dk_42 (dk_at dksX3_goes_2 9 rfl rfl)
theorem dX3_goes_57 : decode cX3_goes 57 = .ok (.getfield 46, 3) := dk_180 0 46 (dk_at dksX3_goes_2 10 rfl rfl)
theorem dX3_goes_60 : decode cX3_goes 60 = .ok (.iconst 1, 1) := dk_4 (dk_at dksX3_goes_2 13 rfl rfl)
theorem dX3_goes_61 : decode cX3_goes 61 = .ok (.isub, 1) := dk_100 (dk_at dksX3_goes_2 14 rfl rfl)
theorem dX3_goes_62 : decode cX3_goes 62 = .ok (.iaload, 1) := dk_46 (dk_at dksX3_goes_2 15 rfl rfl)
theorem dX3_goes_63 : decode cX3_goes 63 = .ok (.iload_n 3, 1) := dk_29 (dk_at dksX3_goes_2 16 rfl rfl)
theorem dX3_goes_64 : decode cX3_goes 64 = .ok (.if_icmp .eq 103, 3) := dk_159 0 103 (dk_at dksX3_goes_2 17 rfl rfl)
theorem dX3_goes_67 : decode cX3_goes 67 = .ok (.aload_n 0, 1) := dk_42 (dk_at dksX3_goes_2 20 rfl rfl)
theorem dX3_goes_68 : decode cX3_goes 68 = .ok (.getfield 15, 3) := dk_180 0 15 (dk_at dksX3_goes_2 21 rfl rfl)
theorem dX3_goes_71 : decode cX3_goes 71 = .ok (.aload_n 0, 1) := dk_42 (dk_at dksX3_goes_3 0 rfl rfl)
theorem dX3_goes_72 : decode cX3_goes 72 = .ok (.getfield 46, 3) := dk_180 0 46 (dk_at dksX3_goes_3 1 rfl rfl)
theorem dX3_goes_75 : decode cX3_goes 75 = .ok (.iconst 1, 1) := dk_4 (dk_at dksX3_goes_3 4 rfl rfl)
theorem dX3_goes_76 : decode cX3_goes 76 = .ok (.isub, 1) := dk_100 (dk_at dksX3_goes_3 5 rfl rfl)
theorem dX3_goes_77 : decode cX3_goes 77 = .ok (.iaload, 1) := dk_46 (dk_at dksX3_goes_3 6 rfl rfl)
theorem dX3_goes_78 : decode cX3_goes 78 = .ok (.istore 5, 2) := dk_54 5 (dk_at dksX3_goes_3 7 rfl rfl)
theorem dX3_goes_80 : decode cX3_goes 80 = .ok (.iconst 0, 1) := dk_3 (dk_at dksX3_goes_3 9 rfl rfl)
theorem dX3_goes_81 : decode cX3_goes 81 = .ok (.istore 6, 2) := dk_54 6 (dk_at dksX3_goes_3 10 rfl rfl)
theorem dX3_goes_83 : decode cX3_goes 83 = .ok (.aload_n 1, 1) := dk_43 (dk_at dksX3_goes_3 12 rfl rfl)
theorem dX3_goes_84 : decode cX3_goes 84 = .ok (.iload 5, 2) := dk_21 5 (dk_at dksX3_goes_3 13 rfl rfl)
theorem dX3_goes_86 : decode cX3_goes 86 = .ok (.iload 6, 2) := dk_21 6 (dk_at dksX3_goes_3 15 rfl rfl)
theorem dX3_goes_88 : decode cX3_goes 88 = .ok (.invokestatic 27, 3) := dk_184 0 27 (dk_at dksX3_goes_3 17 rfl rfl)
theorem dX3_goes_91 : decode cX3_goes 91 = .ok (.invokevirtual 31, 3) := dk_182 0 31 (dk_at dksX3_goes_3 20 rfl rfl)
theorem dX3_goes_94 : decode cX3_goes 94 = .ok (.ifCond .eq 41, 3) := dk_153 0 41 (dk_at dksX3_goes_4 0 rfl rfl)
theorem dX3_goes_97 : decode cX3_goes 97 = .ok (.aload_n 0, 1) := dk_42 (dk_at dksX3_goes_4 3 rfl rfl)
theorem dX3_goes_98 : decode cX3_goes 98 = .ok (.getfield 9, 3) := dk_180 0 9 (dk_at dksX3_goes_4 4 rfl rfl)
theorem dX3_goes_101 : decode cX3_goes 101 = .ok (.iload 5, 2) := dk_21 5 (dk_at dksX3_goes_4 7 rfl rfl)
theorem dX3_goes_103 : decode cX3_goes 103 = .ok (.iload 6, 2) := dk_21 6 (dk_at dksX3_goes_4 9 rfl rfl)
theorem dX3_goes_105 : decode cX3_goes 105 = .ok (.invokestatic 27, 3) := dk_184 0 27 (dk_at dksX3_goes_4 11 rfl rfl)
theorem dX3_goes_108 : decode cX3_goes 108 = .ok (.iaload, 1) := dk_46 (dk_at dksX3_goes_4 14 rfl rfl)
theorem dX3_goes_109 : decode cX3_goes 109 = .ok (.aload_n 1, 1) := dk_43 (dk_at dksX3_goes_4 15 rfl rfl)
theorem dX3_goes_110 : decode cX3_goes 110 = .ok (.iload 5, 2) := dk_21 5 (dk_at dksX3_goes_4 16 rfl rfl)
theorem dX3_goes_112 : decode cX3_goes 112 = .ok (.iload 5, 2) := dk_21 5 (dk_at dksX3_goes_4 18 rfl rfl)
theorem dX3_goes_114 : decode cX3_goes 114 = .ok (.iload 6, 2) := dk_21 6 (dk_at dksX3_goes_4 20 rfl rfl)
theorem dX3_goes_116 : decode cX3_goes 116 = .ok (.invokestatic 27, 3) := dk_184 0 27 (dk_at dksX3_goes_5 0 rfl rfl)
theorem dX3_goes_119 : decode cX3_goes 119 = .ok (.iload 4, 2) := dk_21 4 (dk_at dksX3_goes_5 3 rfl rfl)
theorem dX3_goes_121 : decode cX3_goes 121 = .ok (.invokevirtual 37, 3) := dk_182 0 37 (dk_at dksX3_goes_5 5 rfl rfl)
theorem dX3_goes_124 : decode cX3_goes 124 = .ok (.iadd, 1) := dk_96 (dk_at dksX3_goes_5 8 rfl rfl)
theorem dX3_goes_125 : decode cX3_goes 125 = .ok (.aload_n 0, 1) := dk_42 (dk_at dksX3_goes_5 9 rfl rfl)
theorem dX3_goes_126 : decode cX3_goes 126 = .ok (.getfield 9, 3) := dk_180 0 9 (dk_at dksX3_goes_5 10 rfl rfl)
theorem dX3_goes_129 : decode cX3_goes 129 = .ok (.iload 5, 2) := dk_21 5 (dk_at dksX3_goes_5 13 rfl rfl)
theorem dX3_goes_131 : decode cX3_goes 131 = .ok (.iaload, 1) := dk_46 (dk_at dksX3_goes_5 15 rfl rfl)
theorem dX3_goes_132 : decode cX3_goes 132 = .ok (.if_icmp .eq 9, 3) := dk_159 0 9 (dk_at dksX3_goes_5 16 rfl rfl)
theorem dX3_goes_135 : decode cX3_goes 135 = .ok (.iinc 6 1, 3) := dk_132 6 1 (dk_at dksX3_goes_5 19 rfl rfl)
theorem dX3_goes_138 : decode cX3_goes 138 = .ok (.goto (-55), 3) := dk_167 255 201 (dk_at dksX3_goes_6 0 rfl rfl)
theorem dX3_goes_141 : decode cX3_goes 141 = .ok (.aload_n 0, 1) := dk_42 (dk_at dksX3_goes_6 3 rfl rfl)
theorem dX3_goes_142 : decode cX3_goes 142 = .ok (.getfield 15, 3) := dk_180 0 15 (dk_at dksX3_goes_6 4 rfl rfl)
theorem dX3_goes_145 : decode cX3_goes 145 = .ok (.aload_n 0, 1) := dk_42 (dk_at dksX3_goes_6 7 rfl rfl)
theorem dX3_goes_146 : decode cX3_goes 146 = .ok (.dup, 1) := dk_89 (dk_at dksX3_goes_6 8 rfl rfl)
theorem dX3_goes_147 : decode cX3_goes 147 = .ok (.getfield 46, 3) := dk_180 0 46 (dk_at dksX3_goes_6 9 rfl rfl)
theorem dX3_goes_150 : decode cX3_goes 150 = .ok (.dup_x1, 1) := dk_90 (dk_at dksX3_goes_6 12 rfl rfl)
theorem dX3_goes_151 : decode cX3_goes 151 = .ok (.iconst 1, 1) := dk_4 (dk_at dksX3_goes_6 13 rfl rfl)
theorem dX3_goes_152 : decode cX3_goes 152 = .ok (.iadd, 1) := dk_96 (dk_at dksX3_goes_6 14 rfl rfl)
theorem dX3_goes_153 : decode cX3_goes 153 = .ok (.putfield 46, 3) := dk_181 0 46 (dk_at dksX3_goes_6 15 rfl rfl)
theorem dX3_goes_156 : decode cX3_goes 156 = .ok (.iload 5, 2) := dk_21 5 (dk_at dksX3_goes_6 18 rfl rfl)
theorem dX3_goes_158 : decode cX3_goes 158 = .ok (.iload 6, 2) := dk_21 6 (dk_at dksX3_goes_6 20 rfl rfl)
theorem dX3_goes_160 : decode cX3_goes 160 = .ok (.invokestatic 27, 3) := dk_184 0 27 (dk_at dksX3_goes_7 0 rfl rfl)
theorem dX3_goes_163 : decode cX3_goes 163 = .ok (.iastore, 1) := dk_79 (dk_at dksX3_goes_7 3 rfl rfl)
theorem dX3_goes_164 : decode cX3_goes 164 = .ok (.goto (-112), 3) := dk_167 255 144 (dk_at dksX3_goes_7 4 rfl rfl)
theorem dX3_goes_167 : decode cX3_goes 167 = .ok (.return_, 1) := dk_177 (dk_at dksX3_goes_7 7 rfl rfl)
def dkwX4_init_0 : List UInt8 := [42, 183, 0, 3, 42, 16, 64, 188, 10, 181, 0, 9, 42, 16, 64, 188, 10, 181, 0, 15, 177]
abbrev dktX4_init_0 : List UInt8 := dkwX4_init_0 ++ []
theorem dksX4_init_0 : cX4_init.data.toList.drop 0 = dktX4_init_0 := by decide +kernel
theorem dX4_init_0 : decode cX4_init 0 = .ok (.aload_n 0, 1) := dk_42 (dk_at dksX4_init_0 0 rfl rfl)
theorem dX4_init_1 : decode cX4_init 1 = .ok (.invokespecial 3, 3) := dk_183 0 3 (dk_at dksX4_init_0 1 rfl rfl)
theorem dX4_init_4 : decode cX4_init 4 = .ok (.aload_n 0, 1) := dk_42 (dk_at dksX4_init_0 4 rfl rfl)
theorem dX4_init_5 : decode cX4_init 5 = .ok (.bipush 64, 2) := dk_16 64 (dk_at dksX4_init_0 5 rfl rfl)
theorem dX4_init_7 : decode cX4_init 7 = .ok (.newarray .int, 2) := dk_188_10 (dk_at dksX4_init_0 7 rfl rfl)
theorem dX4_init_9 : decode cX4_init 9 = .ok (.putfield 9, 3) := dk_181 0 9 (dk_at dksX4_init_0 9 rfl rfl)
theorem dX4_init_12 : decode cX4_init 12 = .ok (.aload_n 0, 1) := dk_42 (dk_at dksX4_init_0 12 rfl rfl)
theorem dX4_init_13 : decode cX4_init 13 = .ok (.bipush 64, 2) := dk_16 64 (dk_at dksX4_init_0 13 rfl rfl)
theorem dX4_init_15 : decode cX4_init 15 = .ok (.newarray .int, 2) := dk_188_10 (dk_at dksX4_init_0 15 rfl rfl)
theorem dX4_init_17 : decode cX4_init 17 = .ok (.putfield 15, 3) := dk_181 0 15 (dk_at dksX4_init_0 17 rfl rfl)
theorem dX4_init_20 : decode cX4_init 20 = .ok (.return_, 1) := dk_177 (dk_at dksX4_init_0 20 rfl rfl)
def dkwX4_from_6 : List UInt8 := [132, 4, 1, 167, 255, 158, 177]
abbrev dktX4_from_6 : List UInt8 := dkwX4_from_6 ++ []
def dkwX4_from_5 : List UInt8 := [21, 4, 46, 46, 4, 96, 79, 42, 180, 0, 15, 29, 132, 3, 1, 21, 6, 79, 132, 5, 1, 167, 255, 173]
abbrev dktX4_from_5 : List UInt8 := dkwX4_from_5 ++ dktX4_from_6
def dkwX4_from_4 : List UInt8 := [46, 18, 18, 162, 0, 6, 167, 0, 35, 42, 180, 0, 9, 21, 6, 42, 180, 0, 9, 42, 180, 0, 15]
abbrev dktX4_from_4 : List UInt8 := dkwX4_from_4 ++ dktX4_from_5
def dkwX4_from_3 : List UInt8 := [184, 0, 19, 54, 6, 21, 6, 2, 159, 0, 57, 44, 21, 6, 51, 154, 0, 50, 42, 180, 0, 9, 21, 6]
abbrev dktX4_from_3 : List UInt8 := dkwX4_from_3 ++ dktX4_from_4
def dkwX4_from_2 : List UInt8 := [21, 4, 29, 162, 0, 98, 3, 54, 5, 21, 5, 7, 162, 0, 83, 42, 180, 0, 15, 21, 4, 46, 21, 5]
abbrev dktX4_from_2 : List UInt8 := dkwX4_from_2 ++ dktX4_from_3
def dkwX4_from_1 : List UInt8 := [51, 153, 0, 4, 177, 42, 180, 0, 9, 27, 3, 79, 42, 180, 0, 15, 3, 27, 79, 4, 62, 3, 54, 4]
abbrev dktX4_from_1 : List UInt8 := dkwX4_from_1 ++ dktX4_from_2
def dkwX4_from_0 : List UInt8 := [3, 62, 29, 16, 64, 162, 0, 17, 42, 180, 0, 9, 29, 18, 18, 79, 132, 3, 1, 167, 255, 239, 44, 27]
abbrev dktX4_from_0 : List UInt8 := dkwX4_from_0 ++ dktX4_from_1
theorem dksX4_from_0 : cX4_from.data.toList.drop 0 = dktX4_from_0 := by decide +kernel
theorem dksX4_from_1 : cX4_from.data.toList.drop 24 = dktX4_from_1 := dk_seg dksX4_from_0 24 rfl rfl
theorem dksX4_from_2 : cX4_from.data.toList.drop 48 = dktX4_from_2 := dk_seg dksX4_from_1 24 rfl rfl
theorem dksX4_from_3 : cX4_from.data.toList.drop 72 = dktX4_from_3 := dk_seg dksX4_from_2 24 rfl rfl
theorem dksX4_from_4 : cX4_from.data.toList.drop 96 = dktX4_from_4 := dk_seg dksX4_from_3 24 rfl rfl
theorem dksX4_from_5 : cX4_from.data.toList.drop 119 = dktX4_from_5 := dk_seg dksX4_from_4 23 rfl rfl
theorem dksX4_from_6 : cX4_from.data.toList.drop 143 = dktX4_from_6 := dk_seg dksX4_from_5 24 rfl rfl
theorem dX4_from_0 : decode cX4_from 0 = .ok (.iconst 0, 1) := dk_3 (dk_at dksX4_from_0 0 rfl rfl)
theorem dX4_from_1 : decode cX4_from 1 = .ok (.istore_n 3, 1) := dk_62 (dk_at dksX4_from_0 1 rfl rfl)
theorem dX4_from_2 : decode cX4_from 2 = .ok (.iload_n 3, 1) := dk_29 (dk_at dksX4_from_0 2 rfl rfl)
theorem dX4_from_3 : decode cX4_from 3 = .ok (.bipush 64, 2) := dk_16 64 (dk_at dksX4_from_0 3 rfl rfl)
theorem dX4_from_5 : decode cX4_from 5 = .ok (.if_icmp .ge 17, 3) := dk_162 0 17 (dk_at dksX4_from_0 5 rfl rfl)
theorem dX4_from_8 : decode cX4_from 8 = .ok (.aload_n 0, 1) := dk_42 (dk_at dksX4_from_0 8 rfl rfl)
theorem dX4_from_9 : decode cX4_from 9 = .ok (.getfield 9, 3) := dk_180 0 9 (dk_at dksX4_from_0 9 rfl rfl)
theorem dX4_from_12 : decode cX4_from 12 = .ok (.iload_n 3, 1) := dk_29 (dk_at dksX4_from_0 12 rfl rfl)
theorem dX4_from_13 : decode cX4_from 13 = .ok (.ldc 18, 2) := dk_18 18 (dk_at dksX4_from_0 13 rfl rfl)
theorem dX4_from_15 : decode cX4_from 15 = .ok (.iastore, 1) := dk_79 (dk_at dksX4_from_0 15 rfl rfl)
theorem dX4_from_16 : decode cX4_from 16 = .ok (.iinc 3 1, 3) := dk_132 3 1 (dk_at dksX4_from_0 16 rfl rfl)
theorem dX4_from_19 : decode cX4_from 19 = .ok (.goto (-17), 3) := dk_167 255 239 (dk_at dksX4_from_0 19 rfl rfl)
theorem dX4_from_22 : decode cX4_from 22 = .ok (.aload_n 2, 1) := dk_44 (dk_at dksX4_from_0 22 rfl rfl)
theorem dX4_from_23 : decode cX4_from 23 = .ok (.iload_n 1, 1) := dk_27 (dk_at dksX4_from_0 23 rfl rfl)
theorem dX4_from_24 : decode cX4_from 24 = .ok (.baload, 1) := dk_51 (dk_at dksX4_from_1 0 rfl rfl)
theorem dX4_from_25 : decode cX4_from 25 = .ok (.ifCond .eq 4, 3) := dk_153 0 4 (dk_at dksX4_from_1 1 rfl rfl)
theorem dX4_from_28 : decode cX4_from 28 = .ok (.return_, 1) := dk_177 (dk_at dksX4_from_1 4 rfl rfl)
theorem dX4_from_29 : decode cX4_from 29 = .ok (.aload_n 0, 1) := dk_42 (dk_at dksX4_from_1 5 rfl rfl)
theorem dX4_from_30 : decode cX4_from 30 = .ok (.getfield 9, 3) := dk_180 0 9 (dk_at dksX4_from_1 6 rfl rfl)
theorem dX4_from_33 : decode cX4_from 33 = .ok (.iload_n 1, 1) := dk_27 (dk_at dksX4_from_1 9 rfl rfl)
theorem dX4_from_34 : decode cX4_from 34 = .ok (.iconst 0, 1) := dk_3 (dk_at dksX4_from_1 10 rfl rfl)
theorem dX4_from_35 : decode cX4_from 35 = .ok (.iastore, 1) := dk_79 (dk_at dksX4_from_1 11 rfl rfl)
theorem dX4_from_36 : decode cX4_from 36 = .ok (.aload_n 0, 1) := dk_42 (dk_at dksX4_from_1 12 rfl rfl)
theorem dX4_from_37 : decode cX4_from 37 = .ok (.getfield 15, 3) := dk_180 0 15 (dk_at dksX4_from_1 13 rfl rfl)
theorem dX4_from_40 : decode cX4_from 40 = .ok (.iconst 0, 1) := dk_3 (dk_at dksX4_from_1 16 rfl rfl)
theorem dX4_from_41 : decode cX4_from 41 = .ok (.iload_n 1, 1) := dk_27 (dk_at dksX4_from_1 17 rfl rfl)
theorem dX4_from_42 : decode cX4_from 42 = .ok (.iastore, 1) := dk_79 (dk_at dksX4_from_1 18 rfl rfl)
theorem dX4_from_43 : decode cX4_from 43 = .ok (.iconst 1, 1) := dk_4 (dk_at dksX4_from_1 19 rfl rfl)
theorem dX4_from_44 : decode cX4_from 44 = .ok (.istore_n 3, 1) := dk_62 (dk_at dksX4_from_1 20 rfl rfl)
theorem dX4_from_45 : decode cX4_from 45 = .ok (.iconst 0, 1) := dk_3 (dk_at dksX4_from_1 21 rfl rfl)
theorem dX4_from_46 : decode cX4_from 46 = .ok (.istore 4, 2) := dk_54 4 (dk_at dksX4_from_1 22 rfl rfl)
theorem dX4_from_48 : decode cX4_from 48 = .ok (.iload 4, 2) := dk_21 4 (dk_at dksX4_from_2 0 rfl rfl)
theorem dX4_from_50 : decode cX4_from 50 = .ok (.iload_n 3, 1) := dk_29 (dk_at dksX4_from_2 2 rfl rfl)
theorem dX4_from_51 : decode cX4_from 51 = .ok (.if_icmp .ge 98, 3) := dk_162 0 98 (dk_at dksX4_from_2 3 rfl rfl)
theorem dX4_from_54 : decode cX4_from 54 = .ok (.iconst 0, 1) := dk_3 (dk_at dksX4_from_2 6 rfl rfl)
theorem dX4_from_55 : decode cX4_from 55 = .ok (.istore 5, 2) := dk_54 5 (dk_at dksX4_from_2 7 rfl rfl)
theorem dX4_from_57 : decode cX4_from 57 = .ok (.iload 5, 2) := dk_21 5 (dk_at dksX4_from_2 9 rfl rfl)
theorem dX4_from_59 : decode cX4_from 59 = .ok (.iconst 4, 1) := dk_7 (dk_at dksX4_from_2 11 rfl rfl)
theorem dX4_from_60 : decode cX4_from 60 = .ok (.if_icmp .ge 83, 3) := dk_162 0 83 (dk_at dksX4_from_2 12 rfl rfl)
theorem dX4_from_63 : decode cX4_from 63 = .ok (.aload_n 0, 1) := dk_42 (dk_at dksX4_from_2 15 rfl rfl)
theorem dX4_from_64 : decode cX4_from 64 = .ok (.getfield 15, 3) := dk_180 0 15 (dk_at dksX4_from_2 16 rfl rfl)
theorem dX4_from_67 : decode cX4_from 67 = .ok (.iload 4, 2) := dk_21 4 (dk_at dksX4_from_2 19 rfl rfl)
theorem dX4_from_69 : decode cX4_from 69 = .ok (.iaload, 1) := dk_46 (dk_at dksX4_from_2 21 rfl rfl)
theorem dX4_from_70 : decode cX4_from 70 = .ok (.iload 5, 2) := dk_21 5 (dk_at dksX4_from_2 22 rfl rfl)
theorem dX4_from_72 : decode cX4_from 72 = .ok (.invokestatic 19, 3) := dk_184 0 19 (dk_at dksX4_from_3 0 rfl rfl)
theorem dX4_from_75 : decode cX4_from 75 = .ok (.istore 6, 2) := dk_54 6 (dk_at dksX4_from_3 3 rfl rfl)
theorem dX4_from_77 : decode cX4_from 77 = .ok (.iload 6, 2) := dk_21 6 (dk_at dksX4_from_3 5 rfl rfl)
theorem dX4_from_79 : decode cX4_from 79 = .ok (.iconst (-1), 1) := dk_2 (dk_at dksX4_from_3 7 rfl rfl)
theorem dX4_from_80 : decode cX4_from 80 = .ok (.if_icmp .eq 57, 3) := dk_159 0 57 (dk_at dksX4_from_3 8 rfl rfl)
theorem dX4_from_83 : decode cX4_from 83 = .ok (.aload_n 2, 1) := dk_44 (dk_at dksX4_from_3 11 rfl rfl)
theorem dX4_from_84 : decode cX4_from 84 = .ok (.iload 6, 2) := dk_21 6 (dk_at dksX4_from_3 12 rfl rfl)
theorem dX4_from_86 : decode cX4_from 86 = .ok (.baload, 1) := dk_51 (dk_at dksX4_from_3 14 rfl rfl)
theorem dX4_from_87 : decode cX4_from 87 = .ok (.ifCond .ne 50, 3) := dk_154 0 50 (dk_at dksX4_from_3 15 rfl rfl)
theorem dX4_from_90 : decode cX4_from 90 = .ok (.aload_n 0, 1) := dk_42 (dk_at dksX4_from_3 18 rfl rfl)
theorem dX4_from_91 : decode cX4_from 91 = .ok (.getfield 9, 3) := dk_180 0 9 (dk_at dksX4_from_3 19 rfl rfl)
theorem dX4_from_94 : decode cX4_from 94 = .ok (.iload 6, 2) := dk_21 6 (dk_at dksX4_from_3 22 rfl rfl)
theorem dX4_from_96 : decode cX4_from 96 = .ok (.iaload, 1) := dk_46 (dk_at dksX4_from_4 0 rfl rfl)
theorem dX4_from_97 : decode cX4_from 97 = .ok (.ldc 18, 2) := dk_18 18 (dk_at dksX4_from_4 1 rfl rfl)
theorem dX4_from_99 : decode cX4_from 99 = .ok (.if_icmp .ge 6, 3) := dk_162 0 6 (dk_at dksX4_from_4 3 rfl rfl)
theorem dX4_from_102 : decode cX4_from 102 = .ok (.goto 35, 3) := dk_167 0 35 (dk_at dksX4_from_4 6 rfl rfl)
theorem dX4_from_105 : decode cX4_from 105 = .ok (.aload_n 0, 1) := dk_42 (dk_at dksX4_from_4 9 rfl rfl)
theorem dX4_from_106 : decode cX4_from 106 = .ok (.getfield 9, 3) := dk_180 0 9 (dk_at dksX4_from_4 10 rfl rfl)
theorem dX4_from_109 : decode cX4_from 109 = .ok (.iload 6, 2) := dk_21 6 (dk_at dksX4_from_4 13 rfl rfl)
theorem dX4_from_111 : decode cX4_from 111 = .ok (.aload_n 0, 1) := dk_42 (dk_at dksX4_from_4 15 rfl rfl)
theorem dX4_from_112 : decode cX4_from 112 = .ok (.getfield 9, 3) := dk_180 0 9 (dk_at dksX4_from_4 16 rfl rfl)
theorem dX4_from_115 : decode cX4_from 115 = .ok (.aload_n 0, 1) := dk_42 (dk_at dksX4_from_4 19 rfl rfl)
theorem dX4_from_116 : decode cX4_from 116 = .ok (.getfield 15, 3) := dk_180 0 15 (dk_at dksX4_from_4 20 rfl rfl)
theorem dX4_from_119 : decode cX4_from 119 = .ok (.iload 4, 2) := dk_21 4 (dk_at dksX4_from_5 0 rfl rfl)
theorem dX4_from_121 : decode cX4_from 121 = .ok (.iaload, 1) := dk_46 (dk_at dksX4_from_5 2 rfl rfl)
theorem dX4_from_122 : decode cX4_from 122 = .ok (.iaload, 1) := dk_46 (dk_at dksX4_from_5 3 rfl rfl)
theorem dX4_from_123 : decode cX4_from 123 = .ok (.iconst 1, 1) := dk_4 (dk_at dksX4_from_5 4 rfl rfl)
theorem dX4_from_124 : decode cX4_from 124 = .ok (.iadd, 1) := dk_96 (dk_at dksX4_from_5 5 rfl rfl)
theorem dX4_from_125 : decode cX4_from 125 = .ok (.iastore, 1) := dk_79 (dk_at dksX4_from_5 6 rfl rfl)
theorem dX4_from_126 : decode cX4_from 126 = .ok (.aload_n 0, 1) := dk_42 (dk_at dksX4_from_5 7 rfl rfl)
theorem dX4_from_127 : decode cX4_from 127 = .ok (.getfield 15, 3) := dk_180 0 15 (dk_at dksX4_from_5 8 rfl rfl)
theorem dX4_from_130 : decode cX4_from 130 = .ok (.iload_n 3, 1) := dk_29 (dk_at dksX4_from_5 11 rfl rfl)
theorem dX4_from_131 : decode cX4_from 131 = .ok (.iinc 3 1, 3) := dk_132 3 1 (dk_at dksX4_from_5 12 rfl rfl)
theorem dX4_from_134 : decode cX4_from 134 = .ok (.iload 6, 2) := dk_21 6 (dk_at dksX4_from_5 15 rfl rfl)
theorem dX4_from_136 : decode cX4_from 136 = .ok (.iastore, 1) := dk_79 (dk_at dksX4_from_5 17 rfl rfl)
theorem dX4_from_137 : decode cX4_from 137 = .ok (.iinc 5 1, 3) := dk_132 5 1 (dk_at dksX4_from_5 18 rfl rfl)
theorem dX4_from_140 : decode cX4_from 140 = .ok (.goto (-83), 3) := dk_167 255 173 (dk_at dksX4_from_5 21 rfl rfl)
theorem dX4_from_143 : decode cX4_from 143 = .ok (.iinc 4 1, 3) := dk_132 4 1 (dk_at dksX4_from_6 0 rfl rfl)
theorem dX4_from_146 : decode cX4_from 146 = .ok (.goto (-98), 3) := dk_167 255 158 (dk_at dksX4_from_6 3 rfl rfl)
theorem dX4_from_149 : decode cX4_from 149 = .ok (.return_, 1) := dk_177 (dk_at dksX4_from_6 6 rfl rfl)
theorem dJ0_init_0 : decode cJ0_init 0 = .ok (.aload_n 0, 1) := by decide +kernel
theorem dJ0_init_1 : decode cJ0_init 1 = .ok (.invokespecial 1, 3) := by decide +kernel
theorem dJ0_init_4 : decode cJ0_init 4 = .ok (.return_, 1) := by decide +kernel
def dkwJ1_init_0 : List UInt8 := [42, 183, 0, 1, 42, 3, 181, 0, 7, 177]
abbrev dktJ1_init_0 : List UInt8 := dkwJ1_init_0 ++ []
theorem dksJ1_init_0 : cJ1_init.data.toList.drop 0 = dktJ1_init_0 := by decide +kernel
theorem dJ1_init_0 : decode cJ1_init 0 = .ok (.aload_n 0, 1) := dk_42 (dk_at dksJ1_init_0 0 rfl rfl)
theorem dJ1_init_1 : decode cJ1_init 1 = .ok (.invokespecial 1, 3) := dk_183 0 1 (dk_at dksJ1_init_0 1 rfl rfl)
theorem dJ1_init_4 : decode cJ1_init 4 = .ok (.aload_n 0, 1) := dk_42 (dk_at dksJ1_init_0 4 rfl rfl)
theorem dJ1_init_5 : decode cJ1_init 5 = .ok (.iconst 0, 1) := dk_3 (dk_at dksJ1_init_0 5 rfl rfl)
theorem dJ1_init_6 : decode cJ1_init 6 = .ok (.putfield 7, 3) := dk_181 0 7 (dk_at dksJ1_init_0 6 rfl rfl)
theorem dJ1_init_9 : decode cJ1_init 9 = .ok (.return_, 1) := dk_177 (dk_at dksJ1_init_0 9 rfl rfl)
def dkwJ2_init_0 : List UInt8 := [42, 183, 0, 1, 42, 178, 0, 39, 181, 0, 9, 177]
abbrev dktJ2_init_0 : List UInt8 := dkwJ2_init_0 ++ []
theorem dksJ2_init_0 : cJ2_init.data.toList.drop 0 = dktJ2_init_0 := by decide +kernel
theorem dJ2_init_0 : decode cJ2_init 0 = .ok (.aload_n 0, 1) := dk_42 (dk_at dksJ2_init_0 0 rfl rfl)
theorem dJ2_init_1 : decode cJ2_init 1 = .ok (.invokespecial 1, 3) := dk_183 0 1 (dk_at dksJ2_init_0 1 rfl rfl)
theorem dJ2_init_4 : decode cJ2_init 4 = .ok (.aload_n 0, 1) := dk_42 (dk_at dksJ2_init_0 4 rfl rfl)
theorem dJ2_init_5 : decode cJ2_init 5 = .ok (.getstatic 39, 3) := dk_178 0 39 (dk_at dksJ2_init_0 5 rfl rfl)
theorem dJ2_init_8 : decode cJ2_init 8 = .ok (.putfield 9, 3) := dk_181 0 9 (dk_at dksJ2_init_0 8 rfl rfl)
theorem dJ2_init_11 : decode cJ2_init 11 = .ok (.return_, 1) := dk_177 (dk_at dksJ2_init_0 11 rfl rfl)
theorem dJ2_size_0 : decode cJ2_size 0 = .ok (.aload_n 0, 1) := by decide +kernel
theorem dJ2_size_1 : decode cJ2_size 1 = .ok (.getfield 48, 3) := by decide +kernel
theorem dJ2_size_4 : decode cJ2_size 4 = .ok (.ireturn, 1) := by decide +kernel
def dkwJ2_get_0 : List UInt8 := [27, 42, 180, 0, 48, 184, 0, 118, 87, 42, 27, 182, 0, 123, 176]
abbrev dktJ2_get_0 : List UInt8 := dkwJ2_get_0 ++ []
theorem dksJ2_get_0 : cJ2_get.data.toList.drop 0 = dktJ2_get_0 := by decide +kernel
theorem dJ2_get_0 : decode cJ2_get 0 = .ok (.iload_n 1, 1) := dk_27 (dk_at dksJ2_get_0 0 rfl rfl)
theorem dJ2_get_1 : decode cJ2_get 1 = .ok (.aload_n 0, 1) := dk_42 (dk_at dksJ2_get_0 1 rfl rfl)
theorem dJ2_get_2 : decode cJ2_get 2 = .ok (.getfield 48, 3) := dk_180 0 48 (dk_at dksJ2_get_0 2 rfl rfl)
theorem dJ2_get_5 : decode cJ2_get 5 = .ok (.invokestatic 118, 3) := dk_184 0 118 (dk_at dksJ2_get_0 5 rfl rfl)
theorem dJ2_get_8 : decode cJ2_get 8 = .ok (.pop, 1) := dk_87 (dk_at dksJ2_get_0 8 rfl rfl)
theorem dJ2_get_9 : decode cJ2_get 9 = .ok (.aload_n 0, 1) := dk_42 (dk_at dksJ2_get_0 9 rfl rfl)
theorem dJ2_get_10 : decode cJ2_get 10 = .ok (.iload_n 1, 1) := dk_27 (dk_at dksJ2_get_0 10 rfl rfl)
theorem dJ2_get_11 : decode cJ2_get 11 = .ok (.invokevirtual 123, 3) := dk_182 0 123 (dk_at dksJ2_get_0 11 rfl rfl)
theorem dJ2_get_14 : decode cJ2_get 14 = .ok (.areturn, 1) := dk_176 (dk_at dksJ2_get_0 14 rfl rfl)
def dkwJ2_elementData_0 : List UInt8 := [42, 180, 0, 9, 27, 50, 176]
abbrev dktJ2_elementData_0 : List UInt8 := dkwJ2_elementData_0 ++ []
theorem dksJ2_elementData_0 : cJ2_elementData.data.toList.drop 0 = dktJ2_elementData_0 := by decide +kernel
theorem dJ2_elementData_0 : decode cJ2_elementData 0 = .ok (.aload_n 0, 1) := dk_42 (dk_at dksJ2_elementData_0 0 rfl rfl)
theorem dJ2_elementData_1 : decode cJ2_elementData 1 = .ok (.getfield 9, 3) := dk_180 0 9 (dk_at dksJ2_elementData_0 1 rfl rfl)
theorem dJ2_elementData_4 : decode cJ2_elementData 4 = .ok (.iload_n 1, 1) := dk_27 (dk_at dksJ2_elementData_0 4 rfl rfl)
theorem dJ2_elementData_5 : decode cJ2_elementData 5 = .ok (.aaload, 1) := dk_50 (dk_at dksJ2_elementData_0 5 rfl rfl)
theorem dJ2_elementData_6 : decode cJ2_elementData 6 = .ok (.areturn, 1) := dk_176 (dk_at dksJ2_elementData_0 6 rfl rfl)
def dkwJ2_add_1 : List UInt8 := [172]
abbrev dktJ2_add_1 : List UInt8 := dkwJ2_add_1 ++ []
def dkwJ2_add_0 : List UInt8 := [42, 89, 180, 0, 63, 4, 96, 181, 0, 63, 42, 43, 42, 180, 0, 9, 42, 180, 0, 48, 182, 0, 131, 4]
abbrev dktJ2_add_0 : List UInt8 := dkwJ2_add_0 ++ dktJ2_add_1
theorem dksJ2_add_0 : cJ2_add.data.toList.drop 0 = dktJ2_add_0 := by decide +kernel
theorem dksJ2_add_1 : cJ2_add.data.toList.drop 24 = dktJ2_add_1 := dk_seg dksJ2_add_0 24 rfl rfl
theorem dJ2_add_0 : decode cJ2_add 0 = .ok (.aload_n 0, 1) := dk_42 (dk_at dksJ2_add_0 0 rfl rfl)
theorem dJ2_add_1 : decode cJ2_add 1 = .ok (.dup, 1) := dk_89 (dk_at dksJ2_add_0 1 rfl rfl)
theorem dJ2_add_2 : decode cJ2_add 2 = .ok (.getfield 63, 3) := dk_180 0 63 (dk_at dksJ2_add_0 2 rfl rfl)
theorem dJ2_add_5 : decode cJ2_add 5 = .ok (.iconst 1, 1) := dk_4 (dk_at dksJ2_add_0 5 rfl rfl)
theorem dJ2_add_6 : decode cJ2_add 6 = .ok (.iadd, 1) := dk_96 (dk_at dksJ2_add_0 6 rfl rfl)
theorem dJ2_add_7 : decode cJ2_add 7 = .ok (.putfield 63, 3) := dk_181 0 63 (dk_at dksJ2_add_0 7 rfl rfl)
theorem dJ2_add_10 : decode cJ2_add 10 = .ok (.aload_n 0, 1) := dk_42 (dk_at dksJ2_add_0 10 rfl rfl)
theorem dJ2_add_11 : decode cJ2_add 11 = .ok (.aload_n 1, 1) := dk_43 (dk_at dksJ2_add_0 11 rfl rfl)
theorem dJ2_add_12 : decode cJ2_add 12 = .ok (.aload_n 0, 1) := dk_42 (dk_at dksJ2_add_0 12 rfl rfl)
theorem dJ2_add_13 : decode cJ2_add 13 = .ok (.getfield 9, 3) := dk_180 0 9 (dk_at dksJ2_add_0 13 rfl rfl)
theorem dJ2_add_16 : decode cJ2_add 16 = .ok (.aload_n 0, 1) := dk_42 (dk_at dksJ2_add_0 16 rfl rfl)
theorem dJ2_add_17 : decode cJ2_add 17 = .ok (.getfield 48, 3) := dk_180 0 48 (dk_at dksJ2_add_0 17 rfl rfl)
theorem dJ2_add_20 : decode cJ2_add 20 = .ok (.invokevirtual 131, 3) := dk_182 0 131 (dk_at dksJ2_add_0 20 rfl rfl)
theorem dJ2_add_23 : decode cJ2_add 23 = .ok (.iconst 1, 1) := dk_4 (dk_at dksJ2_add_0 23 rfl rfl)
theorem dJ2_add_24 : decode cJ2_add 24 = .ok (.ireturn, 1) := dk_172 (dk_at dksJ2_add_1 0 rfl rfl)
def dkwJ2_add_2_0 : List UInt8 := [29, 44, 190, 160, 0, 8, 42, 182, 0, 129, 77, 44, 29, 43, 83, 42, 29, 4, 96, 181, 0, 48, 177]
abbrev dktJ2_add_2_0 : List UInt8 := dkwJ2_add_2_0 ++ []
theorem dksJ2_add_2_0 : cJ2_add_2.data.toList.drop 0 = dktJ2_add_2_0 := by decide +kernel
theorem dJ2_add_2_0 : decode cJ2_add_2 0 = .ok (.iload_n 3, 1) := dk_29 (dk_at dksJ2_add_2_0 0 rfl rfl)
theorem dJ2_add_2_1 : decode cJ2_add_2 1 = .ok (.aload_n 2, 1) := dk_44 (dk_at dksJ2_add_2_0 1 rfl rfl)
theorem dJ2_add_2_2 : decode cJ2_add_2 2 = .ok (.arraylength, 1) := dk_190 (dk_at dksJ2_add_2_0 2 rfl rfl)
theorem dJ2_add_2_3 : decode cJ2_add_2 3 = .ok (.if_icmp .ne 8, 3) := dk_160 0 8 (dk_at dksJ2_add_2_0 3 rfl rfl)
theorem dJ2_add_2_6 : decode cJ2_add_2 6 = .ok (.aload_n 0, 1) := dk_42 (dk_at dksJ2_add_2_0 6 rfl rfl)
theorem dJ2_add_2_7 : decode cJ2_add_2 7 = .ok (.invokevirtual 129, 3) := dk_182 0 129 (dk_at dksJ2_add_2_0 7 rfl rfl)
theorem dJ2_add_2_10 : decode cJ2_add_2 10 = .ok (.astore_n 2, 1) := dk_77 (dk_at dksJ2_add_2_0 10 rfl rfl)
theorem dJ2_add_2_11 : decode cJ2_add_2 11 = .ok (.aload_n 2, 1) := dk_44 (dk_at dksJ2_add_2_0 11 rfl rfl)
theorem dJ2_add_2_12 : decode cJ2_add_2 12 = .ok (.iload_n 3, 1) := dk_29 (dk_at dksJ2_add_2_0 12 rfl rfl)
theorem dJ2_add_2_13 : decode cJ2_add_2 13 = .ok (.aload_n 1, 1) := dk_43 (dk_at dksJ2_add_2_0 13 rfl rfl)
theorem dJ2_add_2_14 : decode cJ2_add_2 14 = .ok (.aastore, 1) := dk_83 (dk_at dksJ2_add_2_0 14 rfl rfl)
theorem dJ2_add_2_15 : decode cJ2_add_2 15 = .ok (.aload_n 0, 1) := dk_42 (dk_at dksJ2_add_2_0 15 rfl rfl)
theorem dJ2_add_2_16 : decode cJ2_add_2 16 = .ok (.iload_n 3, 1) := dk_29 (dk_at dksJ2_add_2_0 16 rfl rfl)
theorem dJ2_add_2_17 : decode cJ2_add_2 17 = .ok (.iconst 1, 1) := dk_4 (dk_at dksJ2_add_2_0 17 rfl rfl)
theorem dJ2_add_2_18 : decode cJ2_add_2 18 = .ok (.iadd, 1) := dk_96 (dk_at dksJ2_add_2_0 18 rfl rfl)
theorem dJ2_add_2_19 : decode cJ2_add_2 19 = .ok (.putfield 48, 3) := dk_181 0 48 (dk_at dksJ2_add_2_0 19 rfl rfl)
theorem dJ2_add_2_22 : decode cJ2_add_2 22 = .ok (.return_, 1) := dk_177 (dk_at dksJ2_add_2_0 22 rfl rfl)
def dkwJ2_grow_0 : List UInt8 := [42, 42, 180, 0, 48, 4, 96, 182, 0, 69, 176]
abbrev dktJ2_grow_0 : List UInt8 := dkwJ2_grow_0 ++ []
theorem dksJ2_grow_0 : cJ2_grow.data.toList.drop 0 = dktJ2_grow_0 := by decide +kernel
theorem dJ2_grow_0 : decode cJ2_grow 0 = .ok (.aload_n 0, 1) := dk_42 (dk_at dksJ2_grow_0 0 rfl rfl)
theorem dJ2_grow_1 : decode cJ2_grow 1 = .ok (.aload_n 0, 1) := dk_42 (dk_at dksJ2_grow_0 1 rfl rfl)
theorem dJ2_grow_2 : decode cJ2_grow 2 = .ok (.getfield 48, 3) := dk_180 0 48 (dk_at dksJ2_grow_0 2 rfl rfl)
theorem dJ2_grow_5 : decode cJ2_grow 5 = .ok (.iconst 1, 1) := dk_4 (dk_at dksJ2_grow_0 5 rfl rfl)
theorem dJ2_grow_6 : decode cJ2_grow 6 = .ok (.iadd, 1) := dk_96 (dk_at dksJ2_grow_0 6 rfl rfl)
theorem dJ2_grow_7 : decode cJ2_grow 7 = .ok (.invokevirtual 69, 3) := dk_182 0 69 (dk_at dksJ2_grow_0 7 rfl rfl)
theorem dJ2_grow_10 : decode cJ2_grow 10 = .ok (.areturn, 1) := dk_176 (dk_at dksJ2_grow_0 10 rfl rfl)
def dkwJ2_grow_2_2 : List UInt8 := [27, 184, 0, 79, 189, 0, 7, 90, 181, 0, 9, 176]
abbrev dktJ2_grow_2_2 : List UInt8 := dkwJ2_grow_2_2 ++ []
def dkwJ2_grow_2_1 : List UInt8 := [28, 4, 122, 184, 0, 73, 62, 42, 42, 180, 0, 9, 29, 184, 0, 66, 90, 181, 0, 9, 176, 42, 16, 10]
abbrev dktJ2_grow_2_1 : List UInt8 := dkwJ2_grow_2_1 ++ dktJ2_grow_2_2
def dkwJ2_grow_2_0 : List UInt8 := [42, 180, 0, 9, 190, 61, 28, 157, 0, 13, 42, 180, 0, 9, 178, 0, 39, 165, 0, 28, 28, 27, 28, 100]
abbrev dktJ2_grow_2_0 : List UInt8 := dkwJ2_grow_2_0 ++ dktJ2_grow_2_1
theorem dksJ2_grow_2_0 : cJ2_grow_2.data.toList.drop 0 = dktJ2_grow_2_0 := by decide +kernel
theorem dksJ2_grow_2_1 : cJ2_grow_2.data.toList.drop 24 = dktJ2_grow_2_1 := dk_seg dksJ2_grow_2_0 24 rfl rfl
theorem dksJ2_grow_2_2 : cJ2_grow_2.data.toList.drop 48 = dktJ2_grow_2_2 := dk_seg dksJ2_grow_2_1 24 rfl rfl
theorem dJ2_grow_2_0 : decode cJ2_grow_2 0 = .ok (.aload_n 0, 1) := dk_42 (dk_at dksJ2_grow_2_0 0 rfl rfl)
theorem dJ2_grow_2_1 : decode cJ2_grow_2 1 = .ok (.getfield 9, 3) := dk_180 0 9 (dk_at dksJ2_grow_2_0 1 rfl rfl)
theorem dJ2_grow_2_4 : decode cJ2_grow_2 4 = .ok (.arraylength, 1) := dk_190 (dk_at dksJ2_grow_2_0 4 rfl rfl)
theorem dJ2_grow_2_5 : decode cJ2_grow_2 5 = .ok (.istore_n 2, 1) := dk_61 (dk_at dksJ2_grow_2_0 5 rfl rfl)
theorem dJ2_grow_2_6 : decode cJ2_grow_2 6 = .ok (.iload_n 2, 1) := dk_28 (dk_at dksJ2_grow_2_0 6 rfl rfl)
theorem dJ2_grow_2_7 : decode cJ2_grow_2 7 = .ok (.ifCond .gt 13, 3) := dk_157 0 13 (dk_at dksJ2_grow_2_0 7 rfl rfl)
theorem dJ2_grow_2_10 : decode cJ2_grow_2 10 = .ok (.aload_n 0, 1) := dk_42 (dk_at dksJ2_grow_2_0 10 rfl rfl)
theorem dJ2_grow_2_11 : decode cJ2_grow_2 11 = .ok (.getfield 9, 3) := dk_180 0 9 (dk_at dksJ2_grow_2_0 11 rfl rfl)
theorem dJ2_grow_2_14 : decode cJ2_grow_2 14 = .ok (.getstatic 39, 3) := dk_178 0 39 (dk_at dksJ2_grow_2_0 14 rfl rfl)
theorem dJ2_grow_2_17 : decode cJ2_grow_2 17 = .ok (.if_acmp .eq 28, 3) := dk_165 0 28 (dk_at dksJ2_grow_2_0 17 rfl rfl)
theorem dJ2_grow_2_20 : decode cJ2_grow_2 20 = .ok (.iload_n 2, 1) := dk_28 (dk_at dksJ2_grow_2_0 20 rfl rfl)
theorem dJ2_grow_2_21 : decode cJ2_grow_2 21 = .ok (.iload_n 1, 1) := dk_27 (dk_at dksJ2_grow_2_0 21 rfl rfl)
theorem dJ2_grow_2_22 : decode cJ2_grow_2 22 = .ok (.iload_n 2, 1) := dk_28 (dk_at dksJ2_grow_2_0 22 rfl rfl)
theorem dJ2_grow_2_23 : decode cJ2_grow_2 23 = .ok (.isub, 1) := dk_100 (dk_at dksJ2_grow_2_0 23 rfl rfl)
theorem dJ2_grow_2_24 : decode cJ2_grow_2 24 = .ok (.iload_n 2, 1) := dk_28 (dk_at dksJ2_grow_2_1 0 rfl rfl)
theorem dJ2_grow_2_25 : decode cJ2_grow_2 25 = .ok (.iconst 1, 1) := dk_4 (dk_at dksJ2_grow_2_1 1 rfl rfl)
theorem dJ2_grow_2_26 : decode cJ2_grow_2 26 = .ok (.ishr, 1) := dk_122 (dk_at dksJ2_grow_2_1 2 rfl rfl)
theorem dJ2_grow_2_27 : decode cJ2_grow_2 27 = .ok (.invokestatic 73, 3) := dk_184 0 73 (dk_at dksJ2_grow_2_1 3 rfl rfl)
theorem dJ2_grow_2_30 : decode cJ2_grow_2 30 = .ok (.istore_n 3, 1) := dk_62 (dk_at dksJ2_grow_2_1 6 rfl rfl)
theorem dJ2_grow_2_31 : decode cJ2_grow_2 31 = .ok (.aload_n 0, 1) := dk_42 (dk_at dksJ2_grow_2_1 7 rfl rfl)
theorem dJ2_grow_2_32 : decode cJ2_grow_2 32 = .ok (.aload_n 0, 1) := dk_42 (dk_at dksJ2_grow_2_1 8 rfl rfl)
theorem dJ2_grow_2_33 : decode cJ2_grow_2 33 = .ok (.getfield 9, 3) := dk_180 0 9 (dk_at dksJ2_grow_2_1 9 rfl rfl)
theorem dJ2_grow_2_36 : decode cJ2_grow_2 36 = .ok (.iload_n 3, 1) := dk_29 (dk_at dksJ2_grow_2_1 12 rfl rfl)
theorem dJ2_grow_2_37 : decode cJ2_grow_2 37 = .ok (.invokestatic 66, 3) := dk_184 0 66 (dk_at dksJ2_grow_2_1 13 rfl rfl)
theorem dJ2_grow_2_40 : decode cJ2_grow_2 40 = .ok (.dup_x1, 1) := dk_90 (dk_at dksJ2_grow_2_1 16 rfl rfl)
theorem dJ2_grow_2_41 : decode cJ2_grow_2 41 = .ok (.putfield 9, 3) := dk_181 0 9 (dk_at dksJ2_grow_2_1 17 rfl rfl)
theorem dJ2_grow_2_44 : decode cJ2_grow_2 44 = .ok (.areturn, 1) := dk_176 (dk_at dksJ2_grow_2_1 20 rfl rfl)
theorem dJ2_grow_2_45 : decode cJ2_grow_2 45 = .ok (.aload_n 0, 1) := dk_42 (dk_at dksJ2_grow_2_1 21 rfl rfl)
theorem dJ2_grow_2_46 : decode cJ2_grow_2 46 = .ok (.bipush 10, 2) := dk_16 10 (dk_at dksJ2_grow_2_1 22 rfl rfl)
theorem dJ2_grow_2_48 : decode cJ2_grow_2 48 = .ok (.iload_n 1, 1) := dk_27 (dk_at dksJ2_grow_2_2 0 rfl rfl)
theorem dJ2_grow_2_49 : decode cJ2_grow_2 49 = .ok (.invokestatic 79, 3) := dk_184 0 79 (dk_at dksJ2_grow_2_2 1 rfl rfl)
theorem dJ2_grow_2_52 : decode cJ2_grow_2 52 = .ok (.anewarray 7, 3) := dk_189 0 7 (dk_at dksJ2_grow_2_2 4 rfl rfl)
theorem dJ2_grow_2_55 : decode cJ2_grow_2 55 = .ok (.dup_x1, 1) := dk_90 (dk_at dksJ2_grow_2_2 7 rfl rfl)
theorem dJ2_grow_2_56 : decode cJ2_grow_2 56 = .ok (.putfield 9, 3) := dk_181 0 9 (dk_at dksJ2_grow_2_2 8 rfl rfl)
theorem dJ2_grow_2_59 : decode cJ2_grow_2 59 = .ok (.areturn, 1) := dk_176 (dk_at dksJ2_grow_2_2 11 rfl rfl)
def dkwX5_init_4 : List UInt8 := [180, 0, 17, 29, 50, 3, 16, 10, 79, 42, 180, 0, 20, 29, 4, 79, 132, 3, 1, 167, 255, 231, 177]
abbrev dktX5_init_4 : List UInt8 := dkwX5_init_4 ++ []
def dkwX5_init_3 : List UInt8 := [183, 0, 46, 183, 0, 47, 181, 0, 50, 42, 28, 181, 0, 54, 3, 62, 29, 7, 162, 0, 26, 42]
abbrev dktX5_init_3 : List UInt8 := dkwX5_init_3 ++ dktX5_init_4
def dkwX5_init_2 : List UInt8 := [181, 0, 34, 42, 187, 0, 37, 89, 16, 47, 187, 0, 39, 89, 4, 183, 0, 41, 187, 0, 44, 89, 5]
abbrev dktX5_init_2 : List UInt8 := dkwX5_init_2 ++ dktX5_init_3
def dkwX5_init_1 : List UInt8 := [181, 0, 20, 42, 4, 181, 0, 24, 42, 16, 100, 181, 0, 28, 42, 16, 50, 181, 0, 31, 42, 16, 100]
abbrev dktX5_init_1 : List UInt8 := dkwX5_init_1 ++ dktX5_init_2
def dkwX5_init_0 : List UInt8 := [42, 43, 181, 0, 3, 42, 183, 0, 9, 42, 7, 16, 12, 197, 0, 15, 2, 181, 0, 17, 42, 7, 188, 10]
abbrev dktX5_init_0 : List UInt8 := dkwX5_init_0 ++ dktX5_init_1
theorem dksX5_init_0 : cX5_init.data.toList.drop 0 = dktX5_init_0 := by decide +kernel
theorem dksX5_init_1 : cX5_init.data.toList.drop 24 = dktX5_init_1 := dk_seg dksX5_init_0 24 rfl rfl
theorem dksX5_init_2 : cX5_init.data.toList.drop 47 = dktX5_init_2 := dk_seg dksX5_init_1 23 rfl rfl
theorem dksX5_init_3 : cX5_init.data.toList.drop 70 = dktX5_init_3 := dk_seg dksX5_init_2 23 rfl rfl
theorem dksX5_init_4 : cX5_init.data.toList.drop 92 = dktX5_init_4 := dk_seg dksX5_init_3 22 rfl rfl
theorem dX5_init_0 : decode cX5_init 0 = .ok (.aload_n 0, 1) := dk_42 (dk_at dksX5_init_0 0 rfl rfl)
theorem dX5_init_1 : decode cX5_init 1 = .ok (.aload_n 1, 1) := dk_43 (dk_at dksX5_init_0 1 rfl rfl)
theorem dX5_init_2 : decode cX5_init 2 = .ok (.putfield 3, 3) := dk_181 0 3 (dk_at dksX5_init_0 2 rfl rfl)
theorem dX5_init_5 : decode cX5_init 5 = .ok (.aload_n 0, 1) := dk_42 (dk_at dksX5_init_0 5 rfl rfl)
theorem dX5_init_6 : decode cX5_init 6 = .ok (.invokespecial 9, 3) := dk_183 0 9 (dk_at dksX5_init_0 6 rfl rfl)
theorem dX5_init_9 : decode cX5_init 9 = .ok (.aload_n 0, 1) := dk_42 (dk_at dksX5_init_0 9 rfl rfl)
theorem dX5_init_10 : decode cX5_init 10 = .ok (.iconst 4, 1) := dk_7 (dk_at dksX5_init_0 10 rfl rfl)
theorem dX5_init_11 : decode cX5_init 11 = .ok (.bipush 12, 2) := dk_16 12 (dk_at dksX5_init_0 11 rfl rfl)
theorem dX5_init_13 : decode cX5_init 13 = .ok (.multianewarray 15 2, 4) := by decide +kernel
theorem dX5_init_17 : decode cX5_init 17 = .ok (.putfield 17, 3) := dk_181 0 17 (dk_at dksX5_init_0 17 rfl rfl)
theorem dX5_init_20 : decode cX5_init 20 = .ok (.aload_n 0, 1) := dk_42 (dk_at dksX5_init_0 20 rfl rfl)
theorem dX5_init_21 : decode cX5_init 21 = .ok (.iconst 4, 1) := dk_7 (dk_at dksX5_init_0 21 rfl rfl)
theorem dX5_init_22 : decode cX5_init 22 = .ok (.newarray .int, 2) := dk_188_10 (dk_at dksX5_init_0 22 rfl rfl)
theorem dX5_init_24 : decode cX5_init 24 = .ok (.putfield 20, 3) := dk_181 0 20 (dk_at dksX5_init_1 0 rfl rfl)
theorem dX5_init_27 : decode cX5_init 27 = .ok (.aload_n 0, 1) := dk_42 (dk_at dksX5_init_1 3 rfl rfl)
theorem dX5_init_28 : decode cX5_init 28 = .ok (.iconst 1, 1) := dk_4 (dk_at dksX5_init_1 4 rfl rfl)
theorem dX5_init_29 : decode cX5_init 29 = .ok (.putfield 24, 3) := dk_181 0 24 (dk_at dksX5_init_1 5 rfl rfl)
theorem dX5_init_32 : decode cX5_init 32 = .ok (.aload_n 0, 1) := dk_42 (dk_at dksX5_init_1 8 rfl rfl)
theorem dX5_init_33 : decode cX5_init 33 = .ok (.bipush 100, 2) := dk_16 100 (dk_at dksX5_init_1 9 rfl rfl)
theorem dX5_init_35 : decode cX5_init 35 = .ok (.putfield 28, 3) := dk_181 0 28 (dk_at dksX5_init_1 11 rfl rfl)
theorem dX5_init_38 : decode cX5_init 38 = .ok (.aload_n 0, 1) := dk_42 (dk_at dksX5_init_1 14 rfl rfl)
theorem dX5_init_39 : decode cX5_init 39 = .ok (.bipush 50, 2) := dk_16 50 (dk_at dksX5_init_1 15 rfl rfl)
theorem dX5_init_41 : decode cX5_init 41 = .ok (.putfield 31, 3) := dk_181 0 31 (dk_at dksX5_init_1 17 rfl rfl)
theorem dX5_init_44 : decode cX5_init 44 = .ok (.aload_n 0, 1) := dk_42 (dk_at dksX5_init_1 20 rfl rfl)
theorem dX5_init_45 : decode cX5_init 45 = .ok (.bipush 100, 2) := dk_16 100 (dk_at dksX5_init_1 21 rfl rfl)
theorem dX5_init_47 : decode cX5_init 47 = .ok (.putfield 34, 3) := dk_181 0 34 (dk_at dksX5_init_2 0 rfl rfl)
theorem dX5_init_50 : decode cX5_init 50 = .ok (.aload_n 0, 1) := dk_42 (dk_at dksX5_init_2 3 rfl rfl)
theorem dX5_init_51 : decode cX5_init 51 = .ok (.new 37, 3) := dk_187 0 37 (dk_at dksX5_init_2 4 rfl rfl)
theorem dX5_init_54 : decode cX5_init 54 = .ok (.dup, 1) := dk_89 (dk_at dksX5_init_2 7 rfl rfl)
theorem dX5_init_55 : decode cX5_init 55 = .ok (.bipush 47, 2) := dk_16 47 (dk_at dksX5_init_2 8 rfl rfl)
theorem dX5_init_57 : decode cX5_init 57 = .ok (.new 39, 3) := dk_187 0 39 (dk_at dksX5_init_2 10 rfl rfl)
theorem dX5_init_60 : decode cX5_init 60 = .ok (.dup, 1) := dk_89 (dk_at dksX5_init_2 13 rfl rfl)
theorem dX5_init_61 : decode cX5_init 61 = .ok (.iconst 1, 1) := dk_4 (dk_at dksX5_init_2 14 rfl rfl)
theorem dX5_init_62 : decode cX5_init 62 = .ok (.invokespecial 41, 3) := dk_183 0 41 (dk_at dksX5_init_2 15 rfl rfl)
theorem dX5_init_65 : decode cX5_init 65 = .ok (.new 44, 3) := dk_187 0 44 (dk_at dksX5_init_2 18 rfl rfl)
theorem dX5_init_68 : decode cX5_init 68 = .ok (.dup, 1) := dk_89 (dk_at dksX5_init_2 21 rfl rfl)
theorem dX5_init_69 : decode cX5_init 69 = .ok (.iconst 2, 1) := dk_5 (dk_at dksX5_init_2 22 rfl rfl)
theorem dX5_init_70 : decode cX5_init 70 = .ok (.invokespecial 46, 3) := dk_183 0 46 (dk_at dksX5_init_3 0 rfl rfl)
theorem dX5_init_73 : decode cX5_init 73 = .ok (.invokespecial 47, 3) := dk_183 0 47 (dk_at dksX5_init_3 3 rfl rfl)
theorem dX5_init_76 : decode cX5_init 76 = .ok (.putfield 50, 3) := dk_181 0 50 (dk_at dksX5_init_3 6 rfl rfl)
theorem dX5_init_79 : decode cX5_init 79 = .ok (.aload_n 0, 1) := dk_42 (dk_at dksX5_init_3 9 rfl rfl)
theorem dX5_init_80 : decode cX5_init 80 = .ok (.iload_n 2, 1) := dk_28 (dk_at dksX5_init_3 10 rfl rfl)
theorem dX5_init_81 : decode cX5_init 81 = .ok (.putfield 54, 3) := dk_181 0 54 (dk_at dksX5_init_3 11 rfl rfl)
theorem dX5_init_84 : decode cX5_init 84 = .ok (.iconst 0, 1) := dk_3 (dk_at dksX5_init_3 14 rfl rfl)
theorem dX5_init_85 : decode cX5_init 85 = .ok (.istore_n 3, 1) := dk_62 (dk_at dksX5_init_3 15 rfl rfl)
theorem dX5_init_86 : decode cX5_init 86 = .ok (.iload_n 3, 1) := dk_29 (dk_at dksX5_init_3 16 rfl rfl)
theorem dX5_init_87 : decode cX5_init 87 = .ok (.iconst 4, 1) := dk_7 (dk_at dksX5_init_3 17 rfl rfl)
theorem dX5_init_88 : decode cX5_init 88 = .ok (.if_icmp .ge 26, 3) := dk_162 0 26 (dk_at dksX5_init_3 18 rfl rfl)
theorem dX5_init_91 : decode cX5_init 91 = .ok (.aload_n 0, 1) := dk_42 (dk_at dksX5_init_3 21 rfl rfl)
theorem dX5_init_92 : decode cX5_init 92 = .ok (.getfield 17, 3) := dk_180 0 17 (dk_at dksX5_init_4 0 rfl rfl)
theorem dX5_init_95 : decode cX5_init 95 = .ok (.iload_n 3, 1) := dk_29 (dk_at dksX5_init_4 3 rfl rfl)
theorem dX5_init_96 : decode cX5_init 96 = .ok (.aaload, 1) := dk_50 (dk_at dksX5_init_4 4 rfl rfl)
theorem dX5_init_97 : decode cX5_init 97 = .ok (.iconst 0, 1) := dk_3 (dk_at dksX5_init_4 5 rfl rfl)
theorem dX5_init_98 : decode cX5_init 98 = .ok (.bipush 10, 2) := dk_16 10 (dk_at dksX5_init_4 6 rfl rfl)
theorem dX5_init_100 : decode cX5_init 100 = .ok (.iastore, 1) := dk_79 (dk_at dksX5_init_4 8 rfl rfl)
theorem dX5_init_101 : decode cX5_init 101 = .ok (.aload_n 0, 1) := dk_42 (dk_at dksX5_init_4 9 rfl rfl)
theorem dX5_init_102 : decode cX5_init 102 = .ok (.getfield 20, 3) := dk_180 0 20 (dk_at dksX5_init_4 10 rfl rfl)
theorem dX5_init_105 : decode cX5_init 105 = .ok (.iload_n 3, 1) := dk_29 (dk_at dksX5_init_4 13 rfl rfl)
theorem dX5_init_106 : decode cX5_init 106 = .ok (.iconst 1, 1) := dk_4 (dk_at dksX5_init_4 14 rfl rfl)
theorem dX5_init_107 : decode cX5_init 107 = .ok (.iastore, 1) := dk_79 (dk_at dksX5_init_4 15 rfl rfl)
theorem dX5_init_108 : decode cX5_init 108 = .ok (.iinc 3 1, 3) := dk_132 3 1 (dk_at dksX5_init_4 16 rfl rfl)
theorem dX5_init_111 : decode cX5_init 111 = .ok (.goto (-25), 3) := dk_167 255 231 (dk_at dksX5_init_4 19 rfl rfl)
theorem dX5_init_114 : decode cX5_init 114 = .ok (.return_, 1) := dk_177 (dk_at dksX5_init_4 22 rfl rfl)
def dkwX5_like_0 : List UInt8 := [42, 180, 0, 17, 27, 50, 28, 42, 180, 0, 20, 27, 46, 4, 100, 184, 0, 57, 46, 172]
abbrev dktX5_like_0 : List UInt8 := dkwX5_like_0 ++ []
theorem dksX5_like_0 : cX5_like.data.toList.drop 0 = dktX5_like_0 := by decide +kernel
theorem dX5_like_0 : decode cX5_like 0 = .ok (.aload_n 0, 1) := dk_42 (dk_at dksX5_like_0 0 rfl rfl)
theorem dX5_like_1 : decode cX5_like 1 = .ok (.getfield 17, 3) := dk_180 0 17 (dk_at dksX5_like_0 1 rfl rfl)
theorem dX5_like_4 : decode cX5_like 4 = .ok (.iload_n 1, 1) := dk_27 (dk_at dksX5_like_0 4 rfl rfl)
theorem dX5_like_5 : decode cX5_like 5 = .ok (.aaload, 1) := dk_50 (dk_at dksX5_like_0 5 rfl rfl)
theorem dX5_like_6 : decode cX5_like 6 = .ok (.iload_n 2, 1) := dk_28 (dk_at dksX5_like_0 6 rfl rfl)
theorem dX5_like_7 : decode cX5_like 7 = .ok (.aload_n 0, 1) := dk_42 (dk_at dksX5_like_0 7 rfl rfl)
theorem dX5_like_8 : decode cX5_like 8 = .ok (.getfield 20, 3) := dk_180 0 20 (dk_at dksX5_like_0 8 rfl rfl)
theorem dX5_like_11 : decode cX5_like 11 = .ok (.iload_n 1, 1) := dk_27 (dk_at dksX5_like_0 11 rfl rfl)
theorem dX5_like_12 : decode cX5_like 12 = .ok (.iaload, 1) := dk_46 (dk_at dksX5_like_0 12 rfl rfl)
theorem dX5_like_13 : decode cX5_like 13 = .ok (.iconst 1, 1) := dk_4 (dk_at dksX5_like_0 13 rfl rfl)
theorem dX5_like_14 : decode cX5_like 14 = .ok (.isub, 1) := dk_100 (dk_at dksX5_like_0 14 rfl rfl)
theorem dX5_like_15 : decode cX5_like 15 = .ok (.invokestatic 57, 3) := dk_184 0 57 (dk_at dksX5_like_0 15 rfl rfl)
theorem dX5_like_18 : decode cX5_like 18 = .ok (.iaload, 1) := dk_46 (dk_at dksX5_like_0 18 rfl rfl)
theorem dX5_like_19 : decode cX5_like 19 = .ok (.ireturn, 1) := dk_172 (dk_at dksX5_like_0 19 rfl rfl)
def dkwX5_read_2 : List UInt8 := [167, 255, 210, 177]
abbrev dktX5_read_2 : List UInt8 := dkwX5_read_2 ++ []
def dkwX5_read_1 : List UInt8 := [182, 0, 70, 42, 182, 0, 74, 42, 16, 59, 182, 0, 77, 42, 89, 180, 0, 67, 4, 96, 181, 0, 67]
abbrev dktX5_read_1 : List UInt8 := dkwX5_read_1 ++ dktX5_read_2
def dkwX5_read_0 : List UInt8 := [42, 182, 0, 63, 2, 159, 0, 44, 42, 42, 180, 0, 67, 16, 12, 162, 0, 7, 4, 167, 0, 4, 3]
abbrev dktX5_read_0 : List UInt8 := dkwX5_read_0 ++ dktX5_read_1
theorem dksX5_read_0 : cX5_read.data.toList.drop 0 = dktX5_read_0 := by decide +kernel
theorem dksX5_read_1 : cX5_read.data.toList.drop 23 = dktX5_read_1 := dk_seg dksX5_read_0 23 rfl rfl
theorem dksX5_read_2 : cX5_read.data.toList.drop 46 = dktX5_read_2 := dk_seg dksX5_read_1 23 rfl rfl
theorem dX5_read_0 : decode cX5_read 0 = .ok (.aload_n 0, 1) := dk_42 (dk_at dksX5_read_0 0 rfl rfl)
theorem dX5_read_1 : decode cX5_read 1 = .ok (.invokevirtual 63, 3) := dk_182 0 63 (dk_at dksX5_read_0 1 rfl rfl)
theorem dX5_read_4 : decode cX5_read 4 = .ok (.iconst (-1), 1) := dk_2 (dk_at dksX5_read_0 4 rfl rfl)
theorem dX5_read_5 : decode cX5_read 5 = .ok (.if_icmp .eq 44, 3) := dk_159 0 44 (dk_at dksX5_read_0 5 rfl rfl)
theorem dX5_read_8 : decode cX5_read 8 = .ok (.aload_n 0, 1) := dk_42 (dk_at dksX5_read_0 8 rfl rfl)
theorem dX5_read_9 : decode cX5_read 9 = .ok (.aload_n 0, 1) := dk_42 (dk_at dksX5_read_0 9 rfl rfl)
theorem dX5_read_10 : decode cX5_read 10 = .ok (.getfield 67, 3) := dk_180 0 67 (dk_at dksX5_read_0 10 rfl rfl)
theorem dX5_read_13 : decode cX5_read 13 = .ok (.bipush 12, 2) := dk_16 12 (dk_at dksX5_read_0 13 rfl rfl)
theorem dX5_read_15 : decode cX5_read 15 = .ok (.if_icmp .ge 7, 3) := dk_162 0 7 (dk_at dksX5_read_0 15 rfl rfl)
theorem dX5_read_18 : decode cX5_read 18 = .ok (.iconst 1, 1) := dk_4 (dk_at dksX5_read_0 18 rfl rfl)
theorem dX5_read_19 : decode cX5_read 19 = .ok (.goto 4, 3) := dk_167 0 4 (dk_at dksX5_read_0 19 rfl rfl)
theorem dX5_read_22 : decode cX5_read 22 = .ok (.iconst 0, 1) := dk_3 (dk_at dksX5_read_0 22 rfl rfl)
theorem dX5_read_23 : decode cX5_read 23 = .ok (.invokevirtual 70, 3) := dk_182 0 70 (dk_at dksX5_read_1 0 rfl rfl)
theorem dX5_read_26 : decode cX5_read 26 = .ok (.aload_n 0, 1) := dk_42 (dk_at dksX5_read_1 3 rfl rfl)
theorem dX5_read_27 : decode cX5_read 27 = .ok (.invokevirtual 74, 3) := dk_182 0 74 (dk_at dksX5_read_1 4 rfl rfl)
theorem dX5_read_30 : decode cX5_read 30 = .ok (.aload_n 0, 1) := dk_42 (dk_at dksX5_read_1 7 rfl rfl)
theorem dX5_read_31 : decode cX5_read 31 = .ok (.bipush 59, 2) := dk_16 59 (dk_at dksX5_read_1 8 rfl rfl)
theorem dX5_read_33 : decode cX5_read 33 = .ok (.invokevirtual 77, 3) := dk_182 0 77 (dk_at dksX5_read_1 10 rfl rfl)
theorem dX5_read_36 : decode cX5_read 36 = .ok (.aload_n 0, 1) := dk_42 (dk_at dksX5_read_1 13 rfl rfl)
theorem dX5_read_37 : decode cX5_read 37 = .ok (.dup, 1) := dk_89 (dk_at dksX5_read_1 14 rfl rfl)
theorem dX5_read_38 : decode cX5_read 38 = .ok (.getfield 67, 3) := dk_180 0 67 (dk_at dksX5_read_1 15 rfl rfl)
theorem dX5_read_41 : decode cX5_read 41 = .ok (.iconst 1, 1) := dk_4 (dk_at dksX5_read_1 18 rfl rfl)
theorem dX5_read_42 : decode cX5_read 42 = .ok (.iadd, 1) := dk_96 (dk_at dksX5_read_1 19 rfl rfl)
theorem dX5_read_43 : decode cX5_read 43 = .ok (.putfield 67, 3) := dk_181 0 67 (dk_at dksX5_read_1 20 rfl rfl)
theorem dX5_read_46 : decode cX5_read 46 = .ok (.goto (-46), 3) := dk_167 255 210 (dk_at dksX5_read_2 0 rfl rfl)
theorem dX5_read_49 : decode cX5_read 49 = .ok (.return_, 1) := dk_177 (dk_at dksX5_read_2 3 rfl rfl)
def dkwX5_now_3 : List UInt8 := [167, 0, 4, 2, 172]
abbrev dktX5_now_3 : List UInt8 := dkwX5_now_3 ++ []
def dkwX5_now_2 : List UInt8 := [180, 0, 54, 162, 0, 22, 42, 180, 0, 3, 180, 0, 148, 42, 180, 0, 111, 51, 17, 0, 255, 126]
abbrev dktX5_now_2 : List UInt8 := dkwX5_now_2 ++ dktX5_now_3
def dkwX5_now_1 : List UInt8 := [16, 32, 160, 0, 16, 42, 89, 180, 0, 111, 4, 96, 181, 0, 111, 167, 255, 218, 42, 180, 0, 111, 42]
abbrev dktX5_now_1 : List UInt8 := dkwX5_now_1 ++ dktX5_now_2
def dkwX5_now_0 : List UInt8 := [42, 180, 0, 111, 42, 180, 0, 54, 162, 0, 33, 42, 180, 0, 3, 180, 0, 148, 42, 180, 0, 111, 51]
abbrev dktX5_now_0 : List UInt8 := dkwX5_now_0 ++ dktX5_now_1
theorem dksX5_now_0 : cX5_now.data.toList.drop 0 = dktX5_now_0 := by decide +kernel
theorem dksX5_now_1 : cX5_now.data.toList.drop 23 = dktX5_now_1 := dk_seg dksX5_now_0 23 rfl rfl
theorem dksX5_now_2 : cX5_now.data.toList.drop 46 = dktX5_now_2 := dk_seg dksX5_now_1 23 rfl rfl
theorem dksX5_now_3 : cX5_now.data.toList.drop 68 = dktX5_now_3 := dk_seg dksX5_now_2 22 rfl rfl
theorem dX5_now_0 : decode cX5_now 0 = .ok (.aload_n 0, 1) := dk_42 (dk_at dksX5_now_0 0 rfl rfl)
theorem dX5_now_1 : decode cX5_now 1 = .ok (.getfield 111, 3) := dk_180 0 111 (dk_at dksX5_now_0 1 rfl rfl)
theorem dX5_now_4 : decode cX5_now 4 = .ok (.aload_n 0, 1) := dk_42 (dk_at dksX5_now_0 4 rfl rfl)
theorem dX5_now_5 : decode cX5_now 5 = .ok (.getfield 54, 3) := dk_180 0 54 (dk_at dksX5_now_0 5 rfl rfl)
theorem dX5_now_8 : decode cX5_now 8 = .ok (.if_icmp .ge 33, 3) := dk_162 0 33 (dk_at dksX5_now_0 8 rfl rfl)
theorem dX5_now_11 : decode cX5_now 11 = .ok (.aload_n 0, 1) := dk_42 (dk_at dksX5_now_0 11 rfl rfl)
theorem dX5_now_12 : decode cX5_now 12 = .ok (.getfield 3, 3) := dk_180 0 3 (dk_at dksX5_now_0 12 rfl rfl)
theorem dX5_now_15 : decode cX5_now 15 = .ok (.getfield 148, 3) := dk_180 0 148 (dk_at dksX5_now_0 15 rfl rfl)
theorem dX5_now_18 : decode cX5_now 18 = .ok (.aload_n 0, 1) := dk_42 (dk_at dksX5_now_0 18 rfl rfl)
theorem dX5_now_19 : decode cX5_now 19 = .ok (.getfield 111, 3) := dk_180 0 111 (dk_at dksX5_now_0 19 rfl rfl)
theorem dX5_now_22 : decode cX5_now 22 = .ok (.baload, 1) := dk_51 (dk_at dksX5_now_0 22 rfl rfl)
theorem dX5_now_23 : decode cX5_now 23 = .ok (.bipush 32, 2) := dk_16 32 (dk_at dksX5_now_1 0 rfl rfl)
theorem dX5_now_25 : decode cX5_now 25 = .ok (.if_icmp .ne 16, 3) := dk_160 0 16 (dk_at dksX5_now_1 2 rfl rfl)
theorem dX5_now_28 : decode cX5_now 28 = .ok (.aload_n 0, 1) := dk_42 (dk_at dksX5_now_1 5 rfl rfl)
theorem dX5_now_29 : decode cX5_now 29 = .ok (.dup, 1) := dk_89 (dk_at dksX5_now_1 6 rfl rfl)
theorem dX5_now_30 : decode cX5_now 30 = .ok (.getfield 111, 3) := dk_180 0 111 (dk_at dksX5_now_1 7 rfl rfl)
theorem dX5_now_33 : decode cX5_now 33 = .ok (.iconst 1, 1) := dk_4 (dk_at dksX5_now_1 10 rfl rfl)
theorem dX5_now_34 : decode cX5_now 34 = .ok (.iadd, 1) := dk_96 (dk_at dksX5_now_1 11 rfl rfl)
theorem dX5_now_35 : decode cX5_now 35 = .ok (.putfield 111, 3) := dk_181 0 111 (dk_at dksX5_now_1 12 rfl rfl)
theorem dX5_now_38 : decode cX5_now 38 = .ok (.goto (-38), 3) := dk_167 255 218 (dk_at dksX5_now_1 15 rfl rfl)
theorem dX5_now_41 : decode cX5_now 41 = .ok (.aload_n 0, 1) := dk_42 (dk_at dksX5_now_1 18 rfl rfl)
theorem dX5_now_42 : decode cX5_now 42 = .ok (.getfield 111, 3) := dk_180 0 111 (dk_at dksX5_now_1 19 rfl rfl)
theorem dX5_now_45 : decode cX5_now 45 = .ok (.aload_n 0, 1) := dk_42 (dk_at dksX5_now_1 22 rfl rfl)
theorem dX5_now_46 : decode cX5_now 46 = .ok (.getfield 54, 3) := dk_180 0 54 (dk_at dksX5_now_2 0 rfl rfl)
theorem dX5_now_49 : decode cX5_now 49 = .ok (.if_icmp .ge 22, 3) := dk_162 0 22 (dk_at dksX5_now_2 3 rfl rfl)
theorem dX5_now_52 : decode cX5_now 52 = .ok (.aload_n 0, 1) := dk_42 (dk_at dksX5_now_2 6 rfl rfl)
theorem dX5_now_53 : decode cX5_now 53 = .ok (.getfield 3, 3) := dk_180 0 3 (dk_at dksX5_now_2 7 rfl rfl)
theorem dX5_now_56 : decode cX5_now 56 = .ok (.getfield 148, 3) := dk_180 0 148 (dk_at dksX5_now_2 10 rfl rfl)
theorem dX5_now_59 : decode cX5_now 59 = .ok (.aload_n 0, 1) := dk_42 (dk_at dksX5_now_2 13 rfl rfl)
theorem dX5_now_60 : decode cX5_now 60 = .ok (.getfield 111, 3) := dk_180 0 111 (dk_at dksX5_now_2 14 rfl rfl)
theorem dX5_now_63 : decode cX5_now 63 = .ok (.baload, 1) := dk_51 (dk_at dksX5_now_2 17 rfl rfl)
theorem dX5_now_64 : decode cX5_now 64 = .ok (.sipush 255, 3) := dk_17 0 255 (dk_at dksX5_now_2 18 rfl rfl)
theorem dX5_now_67 : decode cX5_now 67 = .ok (.iand, 1) := dk_126 (dk_at dksX5_now_2 21 rfl rfl)
theorem dX5_now_68 : decode cX5_now 68 = .ok (.goto 4, 3) := dk_167 0 4 (dk_at dksX5_now_3 0 rfl rfl)
theorem dX5_now_71 : decode cX5_now 71 = .ok (.iconst (-1), 1) := dk_2 (dk_at dksX5_now_3 3 rfl rfl)
theorem dX5_now_72 : decode cX5_now 72 = .ok (.ireturn, 1) := dk_172 (dk_at dksX5_now_3 4 rfl rfl)
def dkwX5_right_0 : List UInt8 := [27, 154, 0, 11, 187, 0, 152, 89, 183, 0, 154, 191, 177]
abbrev dktX5_right_0 : List UInt8 := dkwX5_right_0 ++ []
theorem dksX5_right_0 : cX5_right.data.toList.drop 0 = dktX5_right_0 := by decide +kernel
theorem dX5_right_0 : decode cX5_right 0 = .ok (.iload_n 1, 1) := dk_27 (dk_at dksX5_right_0 0 rfl rfl)
theorem dX5_right_1 : decode cX5_right 1 = .ok (.ifCond .ne 11, 3) := dk_154 0 11 (dk_at dksX5_right_0 1 rfl rfl)
theorem dX5_right_4 : decode cX5_right 4 = .ok (.new 152, 3) := dk_187 0 152 (dk_at dksX5_right_0 4 rfl rfl)
theorem dX5_right_7 : decode cX5_right 7 = .ok (.dup, 1) := dk_89 (dk_at dksX5_right_0 7 rfl rfl)
theorem dX5_right_8 : decode cX5_right 8 = .ok (.invokespecial 154, 3) := dk_183 0 154 (dk_at dksX5_right_0 8 rfl rfl)
theorem dX5_right_11 : decode cX5_right 11 = .ok (.athrow, 1) := dk_191 (dk_at dksX5_right_0 11 rfl rfl)
theorem dX5_right_12 : decode cX5_right 12 = .ok (.return_, 1) := dk_177 (dk_at dksX5_right_0 12 rfl rfl)
def dkwX5_clause_5 : List UInt8 := [182, 0, 82, 182, 0, 70, 42, 42, 182, 0, 96, 181, 0, 50, 177]
abbrev dktX5_clause_5 : List UInt8 := dkwX5_clause_5 ++ []
def dkwX5_clause_4 : List UInt8 := [153, 0, 18, 42, 42, 3, 17, 3, 231, 182, 0, 89, 181, 0, 34, 167, 0, 21, 42, 42, 18, 95]
abbrev dktX5_clause_4 : List UInt8 := dkwX5_clause_4 ++ dktX5_clause_5
def dkwX5_clause_3 : List UInt8 := [153, 0, 17, 42, 42, 3, 16, 100, 182, 0, 89, 181, 0, 31, 167, 0, 45, 42, 18, 94, 182, 0, 82]
abbrev dktX5_clause_3 : List UInt8 := dkwX5_clause_3 ++ dktX5_clause_4
def dkwX5_clause_2 : List UInt8 := [153, 0, 18, 42, 42, 3, 17, 1, 244, 182, 0, 89, 181, 0, 28, 167, 0, 68, 42, 18, 93, 182, 0, 82]
abbrev dktX5_clause_2 : List UInt8 := dkwX5_clause_2 ++ dktX5_clause_3
def dkwX5_clause_1 : List UInt8 := [153, 0, 17, 42, 42, 4, 16, 50, 182, 0, 89, 181, 0, 24, 167, 0, 92, 42, 18, 92, 182, 0, 82]
abbrev dktX5_clause_1 : List UInt8 := dkwX5_clause_1 ++ dktX5_clause_2
def dkwX5_clause_0 : List UInt8 := [42, 18, 80, 182, 0, 82, 153, 0, 10, 42, 182, 0, 86, 167, 0, 115, 42, 18, 88, 182, 0, 82]
abbrev dktX5_clause_0 : List UInt8 := dkwX5_clause_0 ++ dktX5_clause_1
theorem dksX5_clause_0 : cX5_clause.data.toList.drop 0 = dktX5_clause_0 := by decide +kernel
theorem dksX5_clause_1 : cX5_clause.data.toList.drop 22 = dktX5_clause_1 := dk_seg dksX5_clause_0 22 rfl rfl
theorem dksX5_clause_2 : cX5_clause.data.toList.drop 45 = dktX5_clause_2 := dk_seg dksX5_clause_1 23 rfl rfl
theorem dksX5_clause_3 : cX5_clause.data.toList.drop 69 = dktX5_clause_3 := dk_seg dksX5_clause_2 24 rfl rfl
theorem dksX5_clause_4 : cX5_clause.data.toList.drop 92 = dktX5_clause_4 := dk_seg dksX5_clause_3 23 rfl rfl
theorem dksX5_clause_5 : cX5_clause.data.toList.drop 114 = dktX5_clause_5 := dk_seg dksX5_clause_4 22 rfl rfl
theorem dX5_clause_0 : decode cX5_clause 0 = .ok (.aload_n 0, 1) := dk_42 (dk_at dksX5_clause_0 0 rfl rfl)
theorem dX5_clause_1 : decode cX5_clause 1 = .ok (.ldc 80, 2) := dk_18 80 (dk_at dksX5_clause_0 1 rfl rfl)
theorem dX5_clause_3 : decode cX5_clause 3 = .ok (.invokevirtual 82, 3) := dk_182 0 82 (dk_at dksX5_clause_0 3 rfl rfl)
theorem dX5_clause_6 : decode cX5_clause 6 = .ok (.ifCond .eq 10, 3) := dk_153 0 10 (dk_at dksX5_clause_0 6 rfl rfl)
theorem dX5_clause_9 : decode cX5_clause 9 = .ok (.aload_n 0, 1) := dk_42 (dk_at dksX5_clause_0 9 rfl rfl)
theorem dX5_clause_10 : decode cX5_clause 10 = .ok (.invokevirtual 86, 3) := dk_182 0 86 (dk_at dksX5_clause_0 10 rfl rfl)
theorem dX5_clause_13 : decode cX5_clause 13 = .ok (.goto 115, 3) := dk_167 0 115 (dk_at dksX5_clause_0 13 rfl rfl)
theorem dX5_clause_16 : decode cX5_clause 16 = .ok (.aload_n 0, 1) := dk_42 (dk_at dksX5_clause_0 16 rfl rfl)
theorem dX5_clause_17 : decode cX5_clause 17 = .ok (.ldc 88, 2) := dk_18 88 (dk_at dksX5_clause_0 17 rfl rfl)
theorem dX5_clause_19 : decode cX5_clause 19 = .ok (.invokevirtual 82, 3) := dk_182 0 82 (dk_at dksX5_clause_0 19 rfl rfl)
theorem dX5_clause_22 : decode cX5_clause 22 = .ok (.ifCond .eq 17, 3) := dk_153 0 17 (dk_at dksX5_clause_1 0 rfl rfl)
theorem dX5_clause_25 : decode cX5_clause 25 = .ok (.aload_n 0, 1) := dk_42 (dk_at dksX5_clause_1 3 rfl rfl)
theorem dX5_clause_26 : decode cX5_clause 26 = .ok (.aload_n 0, 1) := dk_42 (dk_at dksX5_clause_1 4 rfl rfl)
theorem dX5_clause_27 : decode cX5_clause 27 = .ok (.iconst 1, 1) := dk_4 (dk_at dksX5_clause_1 5 rfl rfl)
theorem dX5_clause_28 : decode cX5_clause 28 = .ok (.bipush 50, 2) := dk_16 50 (dk_at dksX5_clause_1 6 rfl rfl)
theorem dX5_clause_30 : decode cX5_clause 30 = .ok (.invokevirtual 89, 3) := dk_182 0 89 (dk_at dksX5_clause_1 8 rfl rfl)
theorem dX5_clause_33 : decode cX5_clause 33 = .ok (.putfield 24, 3) := dk_181 0 24 (dk_at dksX5_clause_1 11 rfl rfl)
theorem dX5_clause_36 : decode cX5_clause 36 = .ok (.goto 92, 3) := dk_167 0 92 (dk_at dksX5_clause_1 14 rfl rfl)
theorem dX5_clause_39 : decode cX5_clause 39 = .ok (.aload_n 0, 1) := dk_42 (dk_at dksX5_clause_1 17 rfl rfl)
theorem dX5_clause_40 : decode cX5_clause 40 = .ok (.ldc 92, 2) := dk_18 92 (dk_at dksX5_clause_1 18 rfl rfl)
theorem dX5_clause_42 : decode cX5_clause 42 = .ok (.invokevirtual 82, 3) := dk_182 0 82 (dk_at dksX5_clause_1 20 rfl rfl)
theorem dX5_clause_45 : decode cX5_clause 45 = .ok (.ifCond .eq 18, 3) := dk_153 0 18 (dk_at dksX5_clause_2 0 rfl rfl)
theorem dX5_clause_48 : decode cX5_clause 48 = .ok (.aload_n 0, 1) := dk_42 (dk_at dksX5_clause_2 3 rfl rfl)
theorem dX5_clause_49 : decode cX5_clause 49 = .ok (.aload_n 0, 1) := dk_42 (dk_at dksX5_clause_2 4 rfl rfl)
theorem dX5_clause_50 : decode cX5_clause 50 = .ok (.iconst 0, 1) := dk_3 (dk_at dksX5_clause_2 5 rfl rfl)
theorem dX5_clause_51 : decode cX5_clause 51 = .ok (.sipush 500, 3) := dk_17 1 244 (dk_at dksX5_clause_2 6 rfl rfl)
theorem dX5_clause_54 : decode cX5_clause 54 = .ok (.invokevirtual 89, 3) := dk_182 0 89 (dk_at dksX5_clause_2 9 rfl rfl)
theorem dX5_clause_57 : decode cX5_clause 57 = .ok (.putfield 28, 3) := dk_181 0 28 (dk_at dksX5_clause_2 12 rfl rfl)
theorem dX5_clause_60 : decode cX5_clause 60 = .ok (.goto 68, 3) := dk_167 0 68 (dk_at dksX5_clause_2 15 rfl rfl)
theorem dX5_clause_63 : decode cX5_clause 63 = .ok (.aload_n 0, 1) := dk_42 (dk_at dksX5_clause_2 18 rfl rfl)
theorem dX5_clause_64 : decode cX5_clause 64 = .ok (.ldc 93, 2) := dk_18 93 (dk_at dksX5_clause_2 19 rfl rfl)
theorem dX5_clause_66 : decode cX5_clause 66 = .ok (.invokevirtual 82, 3) := dk_182 0 82 (dk_at dksX5_clause_2 21 rfl rfl)
theorem dX5_clause_69 : decode cX5_clause 69 = .ok (.ifCond .eq 17, 3) := dk_153 0 17 (dk_at dksX5_clause_3 0 rfl rfl)
theorem dX5_clause_72 : decode cX5_clause 72 = .ok (.aload_n 0, 1) := dk_42 (dk_at dksX5_clause_3 3 rfl rfl)
theorem dX5_clause_73 : decode cX5_clause 73 = .ok (.aload_n 0, 1) := dk_42 (dk_at dksX5_clause_3 4 rfl rfl)
theorem dX5_clause_74 : decode cX5_clause 74 = .ok (.iconst 0, 1) := dk_3 (dk_at dksX5_clause_3 5 rfl rfl)
theorem dX5_clause_75 : decode cX5_clause 75 = .ok (.bipush 100, 2) := dk_16 100 (dk_at dksX5_clause_3 6 rfl rfl)
theorem dX5_clause_77 : decode cX5_clause 77 = .ok (.invokevirtual 89, 3) := dk_182 0 89 (dk_at dksX5_clause_3 8 rfl rfl)
theorem dX5_clause_80 : decode cX5_clause 80 = .ok (.putfield 31, 3) := dk_181 0 31 (dk_at dksX5_clause_3 11 rfl rfl)
theorem dX5_clause_83 : decode cX5_clause 83 = .ok (.goto 45, 3) := dk_167 0 45 (dk_at dksX5_clause_3 14 rfl rfl)
theorem dX5_clause_86 : decode cX5_clause 86 = .ok (.aload_n 0, 1) := dk_42 (dk_at dksX5_clause_3 17 rfl rfl)
theorem dX5_clause_87 : decode cX5_clause 87 = .ok (.ldc 94, 2) := dk_18 94 (dk_at dksX5_clause_3 18 rfl rfl)
theorem dX5_clause_89 : decode cX5_clause 89 = .ok (.invokevirtual 82, 3) := dk_182 0 82 (dk_at dksX5_clause_3 20 rfl rfl)
theorem dX5_clause_92 : decode cX5_clause 92 = .ok (.ifCond .eq 18, 3) := dk_153 0 18 (dk_at dksX5_clause_4 0 rfl rfl)
theorem dX5_clause_95 : decode cX5_clause 95 = .ok (.aload_n 0, 1) := dk_42 (dk_at dksX5_clause_4 3 rfl rfl)
theorem dX5_clause_96 : decode cX5_clause 96 = .ok (.aload_n 0, 1) := dk_42 (dk_at dksX5_clause_4 4 rfl rfl)
theorem dX5_clause_97 : decode cX5_clause 97 = .ok (.iconst 0, 1) := dk_3 (dk_at dksX5_clause_4 5 rfl rfl)
theorem dX5_clause_98 : decode cX5_clause 98 = .ok (.sipush 999, 3) := dk_17 3 231 (dk_at dksX5_clause_4 6 rfl rfl)
theorem dX5_clause_101 : decode cX5_clause 101 = .ok (.invokevirtual 89, 3) := dk_182 0 89 (dk_at dksX5_clause_4 9 rfl rfl)
theorem dX5_clause_104 : decode cX5_clause 104 = .ok (.putfield 34, 3) := dk_181 0 34 (dk_at dksX5_clause_4 12 rfl rfl)
theorem dX5_clause_107 : decode cX5_clause 107 = .ok (.goto 21, 3) := dk_167 0 21 (dk_at dksX5_clause_4 15 rfl rfl)
theorem dX5_clause_110 : decode cX5_clause 110 = .ok (.aload_n 0, 1) := dk_42 (dk_at dksX5_clause_4 18 rfl rfl)
theorem dX5_clause_111 : decode cX5_clause 111 = .ok (.aload_n 0, 1) := dk_42 (dk_at dksX5_clause_4 19 rfl rfl)
theorem dX5_clause_112 : decode cX5_clause 112 = .ok (.ldc 95, 2) := dk_18 95 (dk_at dksX5_clause_4 20 rfl rfl)
theorem dX5_clause_114 : decode cX5_clause 114 = .ok (.invokevirtual 82, 3) := dk_182 0 82 (dk_at dksX5_clause_5 0 rfl rfl)
theorem dX5_clause_117 : decode cX5_clause 117 = .ok (.invokevirtual 70, 3) := dk_182 0 70 (dk_at dksX5_clause_5 3 rfl rfl)
theorem dX5_clause_120 : decode cX5_clause 120 = .ok (.aload_n 0, 1) := dk_42 (dk_at dksX5_clause_5 6 rfl rfl)
theorem dX5_clause_121 : decode cX5_clause 121 = .ok (.aload_n 0, 1) := dk_42 (dk_at dksX5_clause_5 7 rfl rfl)
theorem dX5_clause_122 : decode cX5_clause 122 = .ok (.invokevirtual 96, 3) := dk_182 0 96 (dk_at dksX5_clause_5 8 rfl rfl)
theorem dX5_clause_125 : decode cX5_clause 125 = .ok (.putfield 50, 3) := dk_181 0 50 (dk_at dksX5_clause_5 11 rfl rfl)
theorem dX5_clause_128 : decode cX5_clause 128 = .ok (.return_, 1) := dk_177 (dk_at dksX5_clause_5 14 rfl rfl)
def dkwX5_eats_4 : List UInt8 := [153, 0, 10, 43, 182, 0, 155, 167, 0, 4, 3, 96, 181, 0, 111, 28, 172]
abbrev dktX5_eats_4 : List UInt8 := dkwX5_eats_4 ++ []
def dkwX5_eats_3 : List UInt8 := [182, 0, 163, 160, 0, 7, 4, 167, 0, 4, 3, 61, 132, 3, 1, 167, 255, 200, 42, 89, 180, 0, 111, 28]
abbrev dktX5_eats_3 : List UInt8 := dkwX5_eats_3 ++ dktX5_eats_4
def dkwX5_eats_2 : List UInt8 := [96, 42, 180, 0, 54, 162, 0, 29, 42, 180, 0, 3, 180, 0, 148, 42, 180, 0, 111, 29, 96, 51, 43, 29]
abbrev dktX5_eats_2 : List UInt8 := dkwX5_eats_2 ++ dktX5_eats_3
def dkwX5_eats_1 : List UInt8 := [167, 0, 4, 3, 61, 3, 62, 29, 43, 182, 0, 155, 162, 0, 54, 28, 153, 0, 50, 42, 180, 0, 111, 29]
abbrev dktX5_eats_1 : List UInt8 := dkwX5_eats_1 ++ dktX5_eats_2
def dkwX5_eats_0 : List UInt8 := [42, 182, 0, 63, 87, 42, 42, 180, 0, 111, 43, 182, 0, 155, 96, 182, 0, 160, 154, 0, 7, 4]
abbrev dktX5_eats_0 : List UInt8 := dkwX5_eats_0 ++ dktX5_eats_1
theorem dksX5_eats_0 : cX5_eats.data.toList.drop 0 = dktX5_eats_0 := by decide +kernel
theorem dksX5_eats_1 : cX5_eats.data.toList.drop 22 = dktX5_eats_1 := dk_seg dksX5_eats_0 22 rfl rfl
theorem dksX5_eats_2 : cX5_eats.data.toList.drop 46 = dktX5_eats_2 := dk_seg dksX5_eats_1 24 rfl rfl
theorem dksX5_eats_3 : cX5_eats.data.toList.drop 70 = dktX5_eats_3 := dk_seg dksX5_eats_2 24 rfl rfl
theorem dksX5_eats_4 : cX5_eats.data.toList.drop 94 = dktX5_eats_4 := dk_seg dksX5_eats_3 24 rfl rfl
theorem dX5_eats_0 : decode cX5_eats 0 = .ok (.aload_n 0, 1) := dk_42 (dk_at dksX5_eats_0 0 rfl rfl)
theorem dX5_eats_1 : decode cX5_eats 1 = .ok (.invokevirtual 63, 3) := dk_182 0 63 (dk_at dksX5_eats_0 1 rfl rfl)
theorem dX5_eats_4 : decode cX5_eats 4 = .ok (.pop, 1) := dk_87 (dk_at dksX5_eats_0 4 rfl rfl)
theorem dX5_eats_5 : decode cX5_eats 5 = .ok (.aload_n 0, 1) := dk_42 (dk_at dksX5_eats_0 5 rfl rfl)
theorem dX5_eats_6 : decode cX5_eats 6 = .ok (.aload_n 0, 1) := dk_42 (dk_at dksX5_eats_0 6 rfl rfl)
theorem dX5_eats_7 : decode cX5_eats 7 = .ok (.getfield 111, 3) := dk_180 0 111 (dk_at dksX5_eats_0 7 rfl rfl)
theorem dX5_eats_10 : decode cX5_eats 10 = .ok (.aload_n 1, 1) := dk_43 (dk_at dksX5_eats_0 10 rfl rfl)
theorem dX5_eats_11 : decode cX5_eats 11 = .ok (.invokevirtual 155, 3) := dk_182 0 155 (dk_at dksX5_eats_0 11 rfl rfl)
theorem dX5_eats_14 : decode cX5_eats 14 = .ok (.iadd, 1) := dk_96 (dk_at dksX5_eats_0 14 rfl rfl)
theorem dX5_eats_15 : decode cX5_eats 15 = .ok (.invokevirtual 160, 3) := dk_182 0 160 (dk_at dksX5_eats_0 15 rfl rfl)
theorem dX5_eats_18 : decode cX5_eats 18 = .ok (.ifCond .ne 7, 3) := dk_154 0 7 (dk_at dksX5_eats_0 18 rfl rfl)
theorem dX5_eats_21 : decode cX5_eats 21 = .ok (.iconst 1, 1) := dk_4 (dk_at dksX5_eats_0 21 rfl rfl)
theorem dX5_eats_22 : decode cX5_eats 22 = .ok (.goto 4, 3) := dk_167 0 4 (dk_at dksX5_eats_1 0 rfl rfl)
theorem dX5_eats_25 : decode cX5_eats 25 = .ok (.iconst 0, 1) := dk_3 (dk_at dksX5_eats_1 3 rfl rfl)
theorem dX5_eats_26 : decode cX5_eats 26 = .ok (.istore_n 2, 1) := dk_61 (dk_at dksX5_eats_1 4 rfl rfl)
theorem dX5_eats_27 : decode cX5_eats 27 = .ok (.iconst 0, 1) := dk_3 (dk_at dksX5_eats_1 5 rfl rfl)
theorem dX5_eats_28 : decode cX5_eats 28 = .ok (.istore_n 3, 1) := dk_62 (dk_at dksX5_eats_1 6 rfl rfl)
theorem dX5_eats_29 : decode cX5_eats 29 = .ok (.iload_n 3, 1) := dk_29 (dk_at dksX5_eats_1 7 rfl rfl)
theorem dX5_eats_30 : decode cX5_eats 30 = .ok (.aload_n 1, 1) := dk_43 (dk_at dksX5_eats_1 8 rfl rfl)
theorem dX5_eats_31 : decode cX5_eats 31 = .ok (.invokevirtual 155, 3) := dk_182 0 155 (dk_at dksX5_eats_1 9 rfl rfl)
theorem dX5_eats_34 : decode cX5_eats 34 = .ok (.if_icmp .ge 54, 3) := dk_162 0 54 (dk_at dksX5_eats_1 12 rfl rfl)
theorem dX5_eats_37 : decode cX5_eats 37 = .ok (.iload_n 2, 1) := dk_28 (dk_at dksX5_eats_1 15 rfl rfl)
theorem dX5_eats_38 : decode cX5_eats 38 = .ok (.ifCond .eq 50, 3) := dk_153 0 50 (dk_at dksX5_eats_1 16 rfl rfl)
theorem dX5_eats_41 : decode cX5_eats 41 = .ok (.aload_n 0, 1) := dk_42 (dk_at dksX5_eats_1 19 rfl rfl)
theorem dX5_eats_42 : decode cX5_eats 42 = .ok (.getfield 111, 3) := dk_180 0 111 (dk_at dksX5_eats_1 20 rfl rfl)
theorem dX5_eats_45 : decode cX5_eats 45 = .ok (.iload_n 3, 1) := dk_29 (dk_at dksX5_eats_1 23 rfl rfl)
theorem dX5_eats_46 : decode cX5_eats 46 = .ok (.iadd, 1) := dk_96 (dk_at dksX5_eats_2 0 rfl rfl)
theorem dX5_eats_47 : decode cX5_eats 47 = .ok (.aload_n 0, 1) := dk_42 (dk_at dksX5_eats_2 1 rfl rfl)
theorem dX5_eats_48 : decode cX5_eats 48 = .ok (.getfield 54, 3) := dk_180 0 54 (dk_at dksX5_eats_2 2 rfl rfl)
theorem dX5_eats_51 : decode cX5_eats 51 = .ok (.if_icmp .ge 29, 3) := dk_162 0 29 (dk_at dksX5_eats_2 5 rfl rfl)
theorem dX5_eats_54 : decode cX5_eats 54 = .ok (.aload_n 0, 1) := dk_42 (dk_at dksX5_eats_2 8 rfl rfl)
theorem dX5_eats_55 : decode cX5_eats 55 = .ok (.getfield 3, 3) := dk_180 0 3 (dk_at dksX5_eats_2 9 rfl rfl)
theorem dX5_eats_58 : decode cX5_eats 58 = .ok (.getfield 148, 3) := dk_180 0 148 (dk_at dksX5_eats_2 12 rfl rfl)
theorem dX5_eats_61 : decode cX5_eats 61 = .ok (.aload_n 0, 1) := dk_42 (dk_at dksX5_eats_2 15 rfl rfl)
theorem dX5_eats_62 : decode cX5_eats 62 = .ok (.getfield 111, 3) := dk_180 0 111 (dk_at dksX5_eats_2 16 rfl rfl)
theorem dX5_eats_65 : decode cX5_eats 65 = .ok (.iload_n 3, 1) := dk_29 (dk_at dksX5_eats_2 19 rfl rfl)
theorem dX5_eats_66 : decode cX5_eats 66 = .ok (.iadd, 1) := dk_96 (dk_at dksX5_eats_2 20 rfl rfl)
theorem dX5_eats_67 : decode cX5_eats 67 = .ok (.baload, 1) := dk_51 (dk_at dksX5_eats_2 21 rfl rfl)
theorem dX5_eats_68 : decode cX5_eats 68 = .ok (.aload_n 1, 1) := dk_43 (dk_at dksX5_eats_2 22 rfl rfl)
theorem dX5_eats_69 : decode cX5_eats 69 = .ok (.iload_n 3, 1) := dk_29 (dk_at dksX5_eats_2 23 rfl rfl)
theorem dX5_eats_70 : decode cX5_eats 70 = .ok (.invokevirtual 163, 3) := dk_182 0 163 (dk_at dksX5_eats_3 0 rfl rfl)
theorem dX5_eats_73 : decode cX5_eats 73 = .ok (.if_icmp .ne 7, 3) := dk_160 0 7 (dk_at dksX5_eats_3 3 rfl rfl)
theorem dX5_eats_76 : decode cX5_eats 76 = .ok (.iconst 1, 1) := dk_4 (dk_at dksX5_eats_3 6 rfl rfl)
theorem dX5_eats_77 : decode cX5_eats 77 = .ok (.goto 4, 3) := dk_167 0 4 (dk_at dksX5_eats_3 7 rfl rfl)
theorem dX5_eats_80 : decode cX5_eats 80 = .ok (.iconst 0, 1) := dk_3 (dk_at dksX5_eats_3 10 rfl rfl)
theorem dX5_eats_81 : decode cX5_eats 81 = .ok (.istore_n 2, 1) := dk_61 (dk_at dksX5_eats_3 11 rfl rfl)
theorem dX5_eats_82 : decode cX5_eats 82 = .ok (.iinc 3 1, 3) := dk_132 3 1 (dk_at dksX5_eats_3 12 rfl rfl)
theorem dX5_eats_85 : decode cX5_eats 85 = .ok (.goto (-56), 3) := dk_167 255 200 (dk_at dksX5_eats_3 15 rfl rfl)
theorem dX5_eats_88 : decode cX5_eats 88 = .ok (.aload_n 0, 1) := dk_42 (dk_at dksX5_eats_3 18 rfl rfl)
theorem dX5_eats_89 : decode cX5_eats 89 = .ok (.dup, 1) := dk_89 (dk_at dksX5_eats_3 19 rfl rfl)
theorem dX5_eats_90 : decode cX5_eats 90 = .ok (.getfield 111, 3) := dk_180 0 111 (dk_at dksX5_eats_3 20 rfl rfl)
theorem dX5_eats_93 : decode cX5_eats 93 = .ok (.iload_n 2, 1) := dk_28 (dk_at dksX5_eats_3 23 rfl rfl)
theorem dX5_eats_94 : decode cX5_eats 94 = .ok (.ifCond .eq 10, 3) := dk_153 0 10 (dk_at dksX5_eats_4 0 rfl rfl)
theorem dX5_eats_97 : decode cX5_eats 97 = .ok (.aload_n 1, 1) := dk_43 (dk_at dksX5_eats_4 3 rfl rfl)
theorem dX5_eats_98 : decode cX5_eats 98 = .ok (.invokevirtual 155, 3) := dk_182 0 155 (dk_at dksX5_eats_4 4 rfl rfl)
theorem dX5_eats_101 : decode cX5_eats 101 = .ok (.goto 4, 3) := dk_167 0 4 (dk_at dksX5_eats_4 7 rfl rfl)
theorem dX5_eats_104 : decode cX5_eats 104 = .ok (.iconst 0, 1) := dk_3 (dk_at dksX5_eats_4 10 rfl rfl)
theorem dX5_eats_105 : decode cX5_eats 105 = .ok (.iadd, 1) := dk_96 (dk_at dksX5_eats_4 11 rfl rfl)
theorem dX5_eats_106 : decode cX5_eats 106 = .ok (.putfield 111, 3) := dk_181 0 111 (dk_at dksX5_eats_4 12 rfl rfl)
theorem dX5_eats_109 : decode cX5_eats 109 = .ok (.iload_n 2, 1) := dk_28 (dk_at dksX5_eats_4 15 rfl rfl)
theorem dX5_eats_110 : decode cX5_eats 110 = .ok (.ireturn, 1) := dk_172 (dk_at dksX5_eats_4 16 rfl rfl)
def dkwX5_isSmall_1 : List UInt8 := [180, 0, 3, 180, 0, 148, 27, 51, 16, 122, 163, 0, 7, 4, 167, 0, 4, 3, 172]
abbrev dktX5_isSmall_1 : List UInt8 := dkwX5_isSmall_1 ++ []
def dkwX5_isSmall_0 : List UInt8 := [27, 42, 180, 0, 54, 162, 0, 35, 42, 180, 0, 3, 180, 0, 148, 27, 51, 16, 97, 161, 0, 21, 42]
abbrev dktX5_isSmall_0 : List UInt8 := dkwX5_isSmall_0 ++ dktX5_isSmall_1
theorem dksX5_isSmall_0 : cX5_isSmall.data.toList.drop 0 = dktX5_isSmall_0 := by decide +kernel
theorem dksX5_isSmall_1 : cX5_isSmall.data.toList.drop 23 = dktX5_isSmall_1 := dk_seg dksX5_isSmall_0 23 rfl rfl
theorem dX5_isSmall_0 : decode cX5_isSmall 0 = .ok (.iload_n 1, 1) := dk_27 (dk_at dksX5_isSmall_0 0 rfl rfl)
theorem dX5_isSmall_1 : decode cX5_isSmall 1 = .ok (.aload_n 0, 1) := dk_42 (dk_at dksX5_isSmall_0 1 rfl rfl)
theorem dX5_isSmall_2 : decode cX5_isSmall 2 = .ok (.getfield 54, 3) := dk_180 0 54 (dk_at dksX5_isSmall_0 2 rfl rfl)
theorem dX5_isSmall_5 : decode cX5_isSmall 5 = .ok (.if_icmp .ge 35, 3) := dk_162 0 35 (dk_at dksX5_isSmall_0 5 rfl rfl)
theorem dX5_isSmall_8 : decode cX5_isSmall 8 = .ok (.aload_n 0, 1) := dk_42 (dk_at dksX5_isSmall_0 8 rfl rfl)
theorem dX5_isSmall_9 : decode cX5_isSmall 9 = .ok (.getfield 3, 3) := dk_180 0 3 (dk_at dksX5_isSmall_0 9 rfl rfl)
theorem dX5_isSmall_12 : decode cX5_isSmall 12 = .ok (.getfield 148, 3) := dk_180 0 148 (dk_at dksX5_isSmall_0 12 rfl rfl)
theorem dX5_isSmall_15 : decode cX5_isSmall 15 = .ok (.iload_n 1, 1) := dk_27 (dk_at dksX5_isSmall_0 15 rfl rfl)
theorem dX5_isSmall_16 : decode cX5_isSmall 16 = .ok (.baload, 1) := dk_51 (dk_at dksX5_isSmall_0 16 rfl rfl)
theorem dX5_isSmall_17 : decode cX5_isSmall 17 = .ok (.bipush 97, 2) := dk_16 97 (dk_at dksX5_isSmall_0 17 rfl rfl)
theorem dX5_isSmall_19 : decode cX5_isSmall 19 = .ok (.if_icmp .lt 21, 3) := dk_161 0 21 (dk_at dksX5_isSmall_0 19 rfl rfl)
theorem dX5_isSmall_22 : decode cX5_isSmall 22 = .ok (.aload_n 0, 1) := dk_42 (dk_at dksX5_isSmall_0 22 rfl rfl)
theorem dX5_isSmall_23 : decode cX5_isSmall 23 = .ok (.getfield 3, 3) := dk_180 0 3 (dk_at dksX5_isSmall_1 0 rfl rfl)
theorem dX5_isSmall_26 : decode cX5_isSmall 26 = .ok (.getfield 148, 3) := dk_180 0 148 (dk_at dksX5_isSmall_1 3 rfl rfl)
theorem dX5_isSmall_29 : decode cX5_isSmall 29 = .ok (.iload_n 1, 1) := dk_27 (dk_at dksX5_isSmall_1 6 rfl rfl)
theorem dX5_isSmall_30 : decode cX5_isSmall 30 = .ok (.baload, 1) := dk_51 (dk_at dksX5_isSmall_1 7 rfl rfl)
theorem dX5_isSmall_31 : decode cX5_isSmall 31 = .ok (.bipush 122, 2) := dk_16 122 (dk_at dksX5_isSmall_1 8 rfl rfl)
theorem dX5_isSmall_33 : decode cX5_isSmall 33 = .ok (.if_icmp .gt 7, 3) := dk_163 0 7 (dk_at dksX5_isSmall_1 10 rfl rfl)
theorem dX5_isSmall_36 : decode cX5_isSmall 36 = .ok (.iconst 1, 1) := dk_4 (dk_at dksX5_isSmall_1 13 rfl rfl)
theorem dX5_isSmall_37 : decode cX5_isSmall 37 = .ok (.goto 4, 3) := dk_167 0 4 (dk_at dksX5_isSmall_1 14 rfl rfl)
theorem dX5_isSmall_40 : decode cX5_isSmall 40 = .ok (.iconst 0, 1) := dk_3 (dk_at dksX5_isSmall_1 17 rfl rfl)
theorem dX5_isSmall_41 : decode cX5_isSmall 41 = .ok (.ireturn, 1) := dk_172 (dk_at dksX5_isSmall_1 18 rfl rfl)
def dkwX5_likes_4 : List UInt8 := [42, 182, 0, 63, 184, 0, 104, 154, 255, 199, 177]
abbrev dktX5_likes_4 : List UInt8 := dkwX5_likes_4 ++ []
def dkwX5_likes_3 : List UInt8 := [42, 180, 0, 20, 27, 46, 42, 3, 16, 100, 182, 0, 89, 79, 42, 180, 0, 20, 27, 92, 46, 4, 96, 79]
abbrev dktX5_likes_3 : List UInt8 := dkwX5_likes_3 ++ dktX5_likes_4
def dkwX5_likes_2 : List UInt8 := [180, 0, 20, 27, 46, 16, 12, 162, 0, 7, 4, 167, 0, 4, 3, 182, 0, 70, 42, 180, 0, 17, 27, 50]
abbrev dktX5_likes_2 : List UInt8 := dkwX5_likes_2 ++ dktX5_likes_3
def dkwX5_likes_1 : List UInt8 := [42, 27, 7, 162, 0, 7, 4, 167, 0, 4, 3, 182, 0, 70, 42, 180, 0, 20, 27, 3, 79, 42, 42]
abbrev dktX5_likes_1 : List UInt8 := dkwX5_likes_1 ++ dktX5_likes_2
def dkwX5_likes_0 : List UInt8 := [3, 60, 27, 7, 162, 0, 20, 42, 27, 184, 0, 100, 182, 0, 82, 154, 0, 9, 132, 1, 1, 167, 255, 237]
abbrev dktX5_likes_0 : List UInt8 := dkwX5_likes_0 ++ dktX5_likes_1
theorem dksX5_likes_0 : cX5_likes.data.toList.drop 0 = dktX5_likes_0 := by decide +kernel
theorem dksX5_likes_1 : cX5_likes.data.toList.drop 24 = dktX5_likes_1 := dk_seg dksX5_likes_0 24 rfl rfl
theorem dksX5_likes_2 : cX5_likes.data.toList.drop 47 = dktX5_likes_2 := dk_seg dksX5_likes_1 23 rfl rfl
theorem dksX5_likes_3 : cX5_likes.data.toList.drop 71 = dktX5_likes_3 := dk_seg dksX5_likes_2 24 rfl rfl
theorem dksX5_likes_4 : cX5_likes.data.toList.drop 95 = dktX5_likes_4 := dk_seg dksX5_likes_3 24 rfl rfl
theorem dX5_likes_0 : decode cX5_likes 0 = .ok (.iconst 0, 1) := dk_3 (dk_at dksX5_likes_0 0 rfl rfl)
theorem dX5_likes_1 : decode cX5_likes 1 = .ok (.istore_n 1, 1) := dk_60 (dk_at dksX5_likes_0 1 rfl rfl)
theorem dX5_likes_2 : decode cX5_likes 2 = .ok (.iload_n 1, 1) := dk_27 (dk_at dksX5_likes_0 2 rfl rfl)
theorem dX5_likes_3 : decode cX5_likes 3 = .ok (.iconst 4, 1) := dk_7 (dk_at dksX5_likes_0 3 rfl rfl)
theorem dX5_likes_4 : decode cX5_likes 4 = .ok (.if_icmp .ge 20, 3) := dk_162 0 20 (dk_at dksX5_likes_0 4 rfl rfl)
theorem dX5_likes_7 : decode cX5_likes 7 = .ok (.aload_n 0, 1) := dk_42 (dk_at dksX5_likes_0 7 rfl rfl)
theorem dX5_likes_8 : decode cX5_likes 8 = .ok (.iload_n 1, 1) := dk_27 (dk_at dksX5_likes_0 8 rfl rfl)
theorem dX5_likes_9 : decode cX5_likes 9 = .ok (.invokestatic 100, 3) := dk_184 0 100 (dk_at dksX5_likes_0 9 rfl rfl)
theorem dX5_likes_12 : decode cX5_likes 12 = .ok (.invokevirtual 82, 3) := dk_182 0 82 (dk_at dksX5_likes_0 12 rfl rfl)
theorem dX5_likes_15 : decode cX5_likes 15 = .ok (.ifCond .ne 9, 3) := dk_154 0 9 (dk_at dksX5_likes_0 15 rfl rfl)
theorem dX5_likes_18 : decode cX5_likes 18 = .ok (.iinc 1 1, 3) := dk_132 1 1 (dk_at dksX5_likes_0 18 rfl rfl)
theorem dX5_likes_21 : decode cX5_likes 21 = .ok (.goto (-19), 3) := dk_167 255 237 (dk_at dksX5_likes_0 21 rfl rfl)
theorem dX5_likes_24 : decode cX5_likes 24 = .ok (.aload_n 0, 1) := dk_42 (dk_at dksX5_likes_1 0 rfl rfl)
theorem dX5_likes_25 : decode cX5_likes 25 = .ok (.iload_n 1, 1) := dk_27 (dk_at dksX5_likes_1 1 rfl rfl)
theorem dX5_likes_26 : decode cX5_likes 26 = .ok (.iconst 4, 1) := dk_7 (dk_at dksX5_likes_1 2 rfl rfl)
theorem dX5_likes_27 : decode cX5_likes 27 = .ok (.if_icmp .ge 7, 3) := dk_162 0 7 (dk_at dksX5_likes_1 3 rfl rfl)
theorem dX5_likes_30 : decode cX5_likes 30 = .ok (.iconst 1, 1) := dk_4 (dk_at dksX5_likes_1 6 rfl rfl)
theorem dX5_likes_31 : decode cX5_likes 31 = .ok (.goto 4, 3) := dk_167 0 4 (dk_at dksX5_likes_1 7 rfl rfl)
theorem dX5_likes_34 : decode cX5_likes 34 = .ok (.iconst 0, 1) := dk_3 (dk_at dksX5_likes_1 10 rfl rfl)
theorem dX5_likes_35 : decode cX5_likes 35 = .ok (.invokevirtual 70, 3) := dk_182 0 70 (dk_at dksX5_likes_1 11 rfl rfl)
theorem dX5_likes_38 : decode cX5_likes 38 = .ok (.aload_n 0, 1) := dk_42 (dk_at dksX5_likes_1 14 rfl rfl)
theorem dX5_likes_39 : decode cX5_likes 39 = .ok (.getfield 20, 3) := dk_180 0 20 (dk_at dksX5_likes_1 15 rfl rfl)
theorem dX5_likes_42 : decode cX5_likes 42 = .ok (.iload_n 1, 1) := dk_27 (dk_at dksX5_likes_1 18 rfl rfl)
theorem dX5_likes_43 : decode cX5_likes 43 = .ok (.iconst 0, 1) := dk_3 (dk_at dksX5_likes_1 19 rfl rfl)
theorem dX5_likes_44 : decode cX5_likes 44 = .ok (.iastore, 1) := dk_79 (dk_at dksX5_likes_1 20 rfl rfl)
theorem dX5_likes_45 : decode cX5_likes 45 = .ok (.aload_n 0, 1) := dk_42 (dk_at dksX5_likes_1 21 rfl rfl)
theorem dX5_likes_46 : decode cX5_likes 46 = .ok (.aload_n 0, 1) := dk_42 (dk_at dksX5_likes_1 22 rfl rfl)
theorem dX5_likes_47 : decode cX5_likes 47 = .ok (.getfield 20, 3) := dk_180 0 20 (dk_at dksX5_likes_2 0 rfl rfl)
theorem dX5_likes_50 : decode cX5_likes 50 = .ok (.iload_n 1, 1) := dk_27 (dk_at dksX5_likes_2 3 rfl rfl)
theorem dX5_likes_51 : decode cX5_likes 51 = .ok (.iaload, 1) := dk_46 (dk_at dksX5_likes_2 4 rfl rfl)
theorem dX5_likes_52 : decode cX5_likes 52 = .ok (.bipush 12, 2) := dk_16 12 (dk_at dksX5_likes_2 5 rfl rfl)
theorem dX5_likes_54 : decode cX5_likes 54 = .ok (.if_icmp .ge 7, 3) := dk_162 0 7 (dk_at dksX5_likes_2 7 rfl rfl)
theorem dX5_likes_57 : decode cX5_likes 57 = .ok (.iconst 1, 1) := dk_4 (dk_at dksX5_likes_2 10 rfl rfl)
theorem dX5_likes_58 : decode cX5_likes 58 = .ok (.goto 4, 3) := dk_167 0 4 (dk_at dksX5_likes_2 11 rfl rfl)
theorem dX5_likes_61 : decode cX5_likes 61 = .ok (.iconst 0, 1) := dk_3 (dk_at dksX5_likes_2 14 rfl rfl)
theorem dX5_likes_62 : decode cX5_likes 62 = .ok (.invokevirtual 70, 3) := dk_182 0 70 (dk_at dksX5_likes_2 15 rfl rfl)
theorem dX5_likes_65 : decode cX5_likes 65 = .ok (.aload_n 0, 1) := dk_42 (dk_at dksX5_likes_2 18 rfl rfl)
theorem dX5_likes_66 : decode cX5_likes 66 = .ok (.getfield 17, 3) := dk_180 0 17 (dk_at dksX5_likes_2 19 rfl rfl)
theorem dX5_likes_69 : decode cX5_likes 69 = .ok (.iload_n 1, 1) := dk_27 (dk_at dksX5_likes_2 22 rfl rfl)
theorem dX5_likes_70 : decode cX5_likes 70 = .ok (.aaload, 1) := dk_50 (dk_at dksX5_likes_2 23 rfl rfl)
theorem dX5_likes_71 : decode cX5_likes 71 = .ok (.aload_n 0, 1) := dk_42 (dk_at dksX5_likes_3 0 rfl rfl)
theorem dX5_likes_72 : decode cX5_likes 72 = .ok (.getfield 20, 3) := dk_180 0 20 (dk_at dksX5_likes_3 1 rfl rfl)
theorem dX5_likes_75 : decode cX5_likes 75 = .ok (.iload_n 1, 1) := dk_27 (dk_at dksX5_likes_3 4 rfl rfl)
theorem dX5_likes_76 : decode cX5_likes 76 = .ok (.iaload, 1) := dk_46 (dk_at dksX5_likes_3 5 rfl rfl)
theorem dX5_likes_77 : decode cX5_likes 77 = .ok (.aload_n 0, 1) := dk_42 (dk_at dksX5_likes_3 6 rfl rfl)
theorem dX5_likes_78 : decode cX5_likes 78 = .ok (.iconst 0, 1) := dk_3 (dk_at dksX5_likes_3 7 rfl rfl)
theorem dX5_likes_79 : decode cX5_likes 79 = .ok (.bipush 100, 2) := dk_16 100 (dk_at dksX5_likes_3 8 rfl rfl)
theorem dX5_likes_81 : decode cX5_likes 81 = .ok (.invokevirtual 89, 3) := dk_182 0 89 (dk_at dksX5_likes_3 10 rfl rfl)
theorem dX5_likes_84 : decode cX5_likes 84 = .ok (.iastore, 1) := dk_79 (dk_at dksX5_likes_3 13 rfl rfl)
theorem dX5_likes_85 : decode cX5_likes 85 = .ok (.aload_n 0, 1) := dk_42 (dk_at dksX5_likes_3 14 rfl rfl)
theorem dX5_likes_86 : decode cX5_likes 86 = .ok (.getfield 20, 3) := dk_180 0 20 (dk_at dksX5_likes_3 15 rfl rfl)
theorem dX5_likes_89 : decode cX5_likes 89 = .ok (.iload_n 1, 1) := dk_27 (dk_at dksX5_likes_3 18 rfl rfl)
theorem dX5_likes_90 : decode cX5_likes 90 = .ok (.dup2, 1) := dk_92 (dk_at dksX5_likes_3 19 rfl rfl)
theorem dX5_likes_91 : decode cX5_likes 91 = .ok (.iaload, 1) := dk_46 (dk_at dksX5_likes_3 20 rfl rfl)
theorem dX5_likes_92 : decode cX5_likes 92 = .ok (.iconst 1, 1) := dk_4 (dk_at dksX5_likes_3 21 rfl rfl)
theorem dX5_likes_93 : decode cX5_likes 93 = .ok (.iadd, 1) := dk_96 (dk_at dksX5_likes_3 22 rfl rfl)
theorem dX5_likes_94 : decode cX5_likes 94 = .ok (.iastore, 1) := dk_79 (dk_at dksX5_likes_3 23 rfl rfl)
theorem dX5_likes_95 : decode cX5_likes 95 = .ok (.aload_n 0, 1) := dk_42 (dk_at dksX5_likes_4 0 rfl rfl)
theorem dX5_likes_96 : decode cX5_likes 96 = .ok (.invokevirtual 63, 3) := dk_182 0 63 (dk_at dksX5_likes_4 1 rfl rfl)
theorem dX5_likes_99 : decode cX5_likes 99 = .ok (.invokestatic 104, 3) := dk_184 0 104 (dk_at dksX5_likes_4 4 rfl rfl)
theorem dX5_likes_102 : decode cX5_likes 102 = .ok (.ifCond .ne (-57), 3) := dk_154 255 199 (dk_at dksX5_likes_4 7 rfl rfl)
theorem dX5_likes_105 : decode cX5_likes 105 = .ok (.return_, 1) := dk_177 (dk_at dksX5_likes_4 10 rfl rfl)
def dkwX5_number_6 : List UInt8 := [167, 0, 4, 3, 182, 0, 70, 21, 4, 172]
abbrev dktX5_number_6 : List UInt8 := dkwX5_number_6 ++ []
def dkwX5_number_5 : List UInt8 := [181, 0, 111, 42, 21, 5, 158, 0, 19, 21, 4, 27, 161, 0, 13, 21, 4, 28, 163, 0, 7, 4]
abbrev dktX5_number_5 : List UInt8 := dkwX5_number_5 ++ dktX5_number_6
def dkwX5_number_4 : List UInt8 := [167, 255, 176, 21, 5, 153, 0, 15, 21, 4, 27, 161, 0, 9, 21, 4, 28, 164, 0, 8, 42, 29]
abbrev dktX5_number_4 : List UInt8 := dkwX5_number_4 ++ dktX5_number_5
def dkwX5_number_3 : List UInt8 := [42, 180, 0, 111, 51, 96, 16, 48, 100, 54, 4, 42, 89, 180, 0, 111, 4, 96, 181, 0, 111, 132, 5, 1]
abbrev dktX5_number_3 : List UInt8 := dkwX5_number_3 ++ dktX5_number_4
def dkwX5_number_2 : List UInt8 := [6, 162, 0, 7, 4, 167, 0, 4, 3, 182, 0, 70, 16, 10, 21, 4, 104, 42, 180, 0, 3, 180, 0, 148]
abbrev dktX5_number_2 : List UInt8 := dkwX5_number_2 ++ dktX5_number_3
def dkwX5_number_1 : List UInt8 := [162, 0, 75, 42, 180, 0, 3, 180, 0, 148, 42, 180, 0, 111, 51, 184, 0, 104, 153, 0, 57, 42, 21, 5]
abbrev dktX5_number_1 : List UInt8 := dkwX5_number_1 ++ dktX5_number_2
def dkwX5_number_0 : List UInt8 := [42, 182, 0, 63, 87, 42, 180, 0, 111, 62, 3, 54, 4, 3, 54, 5, 42, 180, 0, 111, 42, 180, 0, 54]
abbrev dktX5_number_0 : List UInt8 := dkwX5_number_0 ++ dktX5_number_1
theorem dksX5_number_0 : cX5_number.data.toList.drop 0 = dktX5_number_0 := by decide +kernel
theorem dksX5_number_1 : cX5_number.data.toList.drop 24 = dktX5_number_1 := dk_seg dksX5_number_0 24 rfl rfl
theorem dksX5_number_2 : cX5_number.data.toList.drop 48 = dktX5_number_2 := dk_seg dksX5_number_1 24 rfl rfl
theorem dksX5_number_3 : cX5_number.data.toList.drop 72 = dktX5_number_3 := dk_seg dksX5_number_2 24 rfl rfl
theorem dksX5_number_4 : cX5_number.data.toList.drop 96 = dktX5_number_4 := dk_seg dksX5_number_3 24 rfl rfl
theorem dksX5_number_5 : cX5_number.data.toList.drop 118 = dktX5_number_5 := dk_seg dksX5_number_4 22 rfl rfl
theorem dksX5_number_6 : cX5_number.data.toList.drop 140 = dktX5_number_6 := dk_seg dksX5_number_5 22 rfl rfl
theorem dX5_number_0 : decode cX5_number 0 = .ok (.aload_n 0, 1) := dk_42 (dk_at dksX5_number_0 0 rfl rfl)
theorem dX5_number_1 : decode cX5_number 1 = .ok (.invokevirtual 63, 3) := dk_182 0 63 (dk_at dksX5_number_0 1 rfl rfl)
theorem dX5_number_4 : decode cX5_number 4 = .ok (.pop, 1) := dk_87 (dk_at dksX5_number_0 4 rfl rfl)
theorem dX5_number_5 : decode cX5_number 5 = .ok (.aload_n 0, 1) := dk_42 (dk_at dksX5_number_0 5 rfl rfl)
theorem dX5_number_6 : decode cX5_number 6 = .ok (.getfield 111, 3) := dk_180 0 111 (dk_at dksX5_number_0 6 rfl rfl)
theorem dX5_number_9 : decode cX5_number 9 = .ok (.istore_n 3, 1) := dk_62 (dk_at dksX5_number_0 9 rfl rfl)
theorem dX5_number_10 : decode cX5_number 10 = .ok (.iconst 0, 1) := dk_3 (dk_at dksX5_number_0 10 rfl rfl)
theorem dX5_number_11 : decode cX5_number 11 = .ok (.istore 4, 2) := dk_54 4 (dk_at dksX5_number_0 11 rfl rfl)
theorem dX5_number_13 : decode cX5_number 13 = .ok (.iconst 0, 1) := dk_3 (dk_at dksX5_number_0 13 rfl rfl)
theorem dX5_number_14 : decode cX5_number 14 = .ok (.istore 5, 2) := dk_54 5 (dk_at dksX5_number_0 14 rfl rfl)
theorem dX5_number_16 : decode cX5_number 16 = .ok (.aload_n 0, 1) := dk_42 (dk_at dksX5_number_0 16 rfl rfl)
theorem dX5_number_17 : decode cX5_number 17 = .ok (.getfield 111, 3) := dk_180 0 111 (dk_at dksX5_number_0 17 rfl rfl)
theorem dX5_number_20 : decode cX5_number 20 = .ok (.aload_n 0, 1) := dk_42 (dk_at dksX5_number_0 20 rfl rfl)
theorem dX5_number_21 : decode cX5_number 21 = .ok (.getfield 54, 3) := dk_180 0 54 (dk_at dksX5_number_0 21 rfl rfl)
theorem dX5_number_24 : decode cX5_number 24 = .ok (.if_icmp .ge 75, 3) := dk_162 0 75 (dk_at dksX5_number_1 0 rfl rfl)
theorem dX5_number_27 : decode cX5_number 27 = .ok (.aload_n 0, 1) := dk_42 (dk_at dksX5_number_1 3 rfl rfl)
theorem dX5_number_28 : decode cX5_number 28 = .ok (.getfield 3, 3) := dk_180 0 3 (dk_at dksX5_number_1 4 rfl rfl)
theorem dX5_number_31 : decode cX5_number 31 = .ok (.getfield 148, 3) := dk_180 0 148 (dk_at dksX5_number_1 7 rfl rfl)
theorem dX5_number_34 : decode cX5_number 34 = .ok (.aload_n 0, 1) := dk_42 (dk_at dksX5_number_1 10 rfl rfl)
theorem dX5_number_35 : decode cX5_number 35 = .ok (.getfield 111, 3) := dk_180 0 111 (dk_at dksX5_number_1 11 rfl rfl)
theorem dX5_number_38 : decode cX5_number 38 = .ok (.baload, 1) := dk_51 (dk_at dksX5_number_1 14 rfl rfl)
theorem dX5_number_39 : decode cX5_number 39 = .ok (.invokestatic 104, 3) := dk_184 0 104 (dk_at dksX5_number_1 15 rfl rfl)
theorem dX5_number_42 : decode cX5_number 42 = .ok (.ifCond .eq 57, 3) := dk_153 0 57 (dk_at dksX5_number_1 18 rfl rfl)
theorem dX5_number_45 : decode cX5_number 45 = .ok (.aload_n 0, 1) := dk_42 (dk_at dksX5_number_1 21 rfl rfl)
theorem dX5_number_46 : decode cX5_number 46 = .ok (.iload 5, 2) := dk_21 5 (dk_at dksX5_number_1 22 rfl rfl)
theorem dX5_number_48 : decode cX5_number 48 = .ok (.iconst 3, 1) := dk_6 (dk_at dksX5_number_2 0 rfl rfl)
theorem dX5_number_49 : decode cX5_number 49 = .ok (.if_icmp .ge 7, 3) := dk_162 0 7 (dk_at dksX5_number_2 1 rfl rfl)
theorem dX5_number_52 : decode cX5_number 52 = .ok (.iconst 1, 1) := dk_4 (dk_at dksX5_number_2 4 rfl rfl)
theorem dX5_number_53 : decode cX5_number 53 = .ok (.goto 4, 3) := dk_167 0 4 (dk_at dksX5_number_2 5 rfl rfl)
theorem dX5_number_56 : decode cX5_number 56 = .ok (.iconst 0, 1) := dk_3 (dk_at dksX5_number_2 8 rfl rfl)
theorem dX5_number_57 : decode cX5_number 57 = .ok (.invokevirtual 70, 3) := dk_182 0 70 (dk_at dksX5_number_2 9 rfl rfl)
theorem dX5_number_60 : decode cX5_number 60 = .ok (.bipush 10, 2) := dk_16 10 (dk_at dksX5_number_2 12 rfl rfl)
theorem dX5_number_62 : decode cX5_number 62 = .ok (.iload 4, 2) := dk_21 4 (dk_at dksX5_number_2 14 rfl rfl)
theorem dX5_number_64 : decode cX5_number 64 = .ok (.imul, 1) := dk_104 (dk_at dksX5_number_2 16 rfl rfl)
theorem dX5_number_65 : decode cX5_number 65 = .ok (.aload_n 0, 1) := dk_42 (dk_at dksX5_number_2 17 rfl rfl)
theorem dX5_number_66 : decode cX5_number 66 = .ok (.getfield 3, 3) := dk_180 0 3 (dk_at dksX5_number_2 18 rfl rfl)
theorem dX5_number_69 : decode cX5_number 69 = .ok (.getfield 148, 3) := dk_180 0 148 (dk_at dksX5_number_2 21 rfl rfl)
theorem dX5_number_72 : decode cX5_number 72 = .ok (.aload_n 0, 1) := dk_42 (dk_at dksX5_number_3 0 rfl rfl)
theorem dX5_number_73 : decode cX5_number 73 = .ok (.getfield 111, 3) := dk_180 0 111 (dk_at dksX5_number_3 1 rfl rfl)
theorem dX5_number_76 : decode cX5_number 76 = .ok (.baload, 1) := dk_51 (dk_at dksX5_number_3 4 rfl rfl)
theorem dX5_number_77 : decode cX5_number 77 = .ok (.iadd, 1) := dk_96 (dk_at dksX5_number_3 5 rfl rfl)
theorem dX5_number_78 : decode cX5_number 78 = .ok (.bipush 48, 2) := dk_16 48 (dk_at dksX5_number_3 6 rfl rfl)
theorem dX5_number_80 : decode cX5_number 80 = .ok (.isub, 1) := dk_100 (dk_at dksX5_number_3 8 rfl rfl)
theorem dX5_number_81 : decode cX5_number 81 = .ok (.istore 4, 2) := dk_54 4 (dk_at dksX5_number_3 9 rfl rfl)
theorem dX5_number_83 : decode cX5_number 83 = .ok (.aload_n 0, 1) := dk_42 (dk_at dksX5_number_3 11 rfl rfl)
theorem dX5_number_84 : decode cX5_number 84 = .ok (.dup, 1) := dk_89 (dk_at dksX5_number_3 12 rfl rfl)
theorem dX5_number_85 : decode cX5_number 85 = .ok (.getfield 111, 3) := dk_180 0 111 (dk_at dksX5_number_3 13 rfl rfl)
theorem dX5_number_88 : decode cX5_number 88 = .ok (.iconst 1, 1) := dk_4 (dk_at dksX5_number_3 16 rfl rfl)
theorem dX5_number_89 : decode cX5_number 89 = .ok (.iadd, 1) := dk_96 (dk_at dksX5_number_3 17 rfl rfl)
theorem dX5_number_90 : decode cX5_number 90 = .ok (.putfield 111, 3) := dk_181 0 111 (dk_at dksX5_number_3 18 rfl rfl)
theorem dX5_number_93 : decode cX5_number 93 = .ok (.iinc 5 1, 3) := dk_132 5 1 (dk_at dksX5_number_3 21 rfl rfl)
theorem dX5_number_96 : decode cX5_number 96 = .ok (.goto (-80), 3) := dk_167 255 176 (dk_at dksX5_number_4 0 rfl rfl)
theorem dX5_number_99 : decode cX5_number 99 = .ok (.iload 5, 2) := dk_21 5 (dk_at dksX5_number_4 3 rfl rfl)
theorem dX5_number_101 : decode cX5_number 101 = .ok (.ifCond .eq 15, 3) := dk_153 0 15 (dk_at dksX5_number_4 5 rfl rfl)
theorem dX5_number_104 : decode cX5_number 104 = .ok (.iload 4, 2) := dk_21 4 (dk_at dksX5_number_4 8 rfl rfl)
theorem dX5_number_106 : decode cX5_number 106 = .ok (.iload_n 1, 1) := dk_27 (dk_at dksX5_number_4 10 rfl rfl)
theorem dX5_number_107 : decode cX5_number 107 = .ok (.if_icmp .lt 9, 3) := dk_161 0 9 (dk_at dksX5_number_4 11 rfl rfl)
theorem dX5_number_110 : decode cX5_number 110 = .ok (.iload 4, 2) := dk_21 4 (dk_at dksX5_number_4 14 rfl rfl)
theorem dX5_number_112 : decode cX5_number 112 = .ok (.iload_n 2, 1) := dk_28 (dk_at dksX5_number_4 16 rfl rfl)
theorem dX5_number_113 : decode cX5_number 113 = .ok (.if_icmp .le 8, 3) := dk_164 0 8 (dk_at dksX5_number_4 17 rfl rfl)
theorem dX5_number_116 : decode cX5_number 116 = .ok (.aload_n 0, 1) := dk_42 (dk_at dksX5_number_4 20 rfl rfl)
theorem dX5_number_117 : decode cX5_number 117 = .ok (.iload_n 3, 1) := dk_29 (dk_at dksX5_number_4 21 rfl rfl)
theorem dX5_number_118 : decode cX5_number 118 = .ok (.putfield 111, 3) := dk_181 0 111 (dk_at dksX5_number_5 0 rfl rfl)
theorem dX5_number_121 : decode cX5_number 121 = .ok (.aload_n 0, 1) := dk_42 (dk_at dksX5_number_5 3 rfl rfl)
theorem dX5_number_122 : decode cX5_number 122 = .ok (.iload 5, 2) := dk_21 5 (dk_at dksX5_number_5 4 rfl rfl)
theorem dX5_number_124 : decode cX5_number 124 = .ok (.ifCond .le 19, 3) := dk_158 0 19 (dk_at dksX5_number_5 6 rfl rfl)
theorem dX5_number_127 : decode cX5_number 127 = .ok (.iload 4, 2) := dk_21 4 (dk_at dksX5_number_5 9 rfl rfl)
theorem dX5_number_129 : decode cX5_number 129 = .ok (.iload_n 1, 1) := dk_27 (dk_at dksX5_number_5 11 rfl rfl)
theorem dX5_number_130 : decode cX5_number 130 = .ok (.if_icmp .lt 13, 3) := dk_161 0 13 (dk_at dksX5_number_5 12 rfl rfl)
theorem dX5_number_133 : decode cX5_number 133 = .ok (.iload 4, 2) := dk_21 4 (dk_at dksX5_number_5 15 rfl rfl)
theorem dX5_number_135 : decode cX5_number 135 = .ok (.iload_n 2, 1) := dk_28 (dk_at dksX5_number_5 17 rfl rfl)
theorem dX5_number_136 : decode cX5_number 136 = .ok (.if_icmp .gt 7, 3) := dk_163 0 7 (dk_at dksX5_number_5 18 rfl rfl)
theorem dX5_number_139 : decode cX5_number 139 = .ok (.iconst 1, 1) := dk_4 (dk_at dksX5_number_5 21 rfl rfl)
theorem dX5_number_140 : decode cX5_number 140 = .ok (.goto 4, 3) := dk_167 0 4 (dk_at dksX5_number_6 0 rfl rfl)
theorem dX5_number_143 : decode cX5_number 143 = .ok (.iconst 0, 1) := dk_3 (dk_at dksX5_number_6 3 rfl rfl)
theorem dX5_number_144 : decode cX5_number 144 = .ok (.invokevirtual 70, 3) := dk_182 0 70 (dk_at dksX5_number_6 4 rfl rfl)
theorem dX5_number_147 : decode cX5_number 147 = .ok (.iload 4, 2) := dk_21 4 (dk_at dksX5_number_6 7 rfl rfl)
theorem dX5_number_149 : decode cX5_number 149 = .ok (.ireturn, 1) := dk_172 (dk_at dksX5_number_6 9 rfl rfl)
def dkwX5_sum_2 : List UInt8 := [182, 0, 63, 61, 167, 255, 215, 43, 176]
abbrev dktX5_sum_2 : List UInt8 := dkwX5_sum_2 ++ []
def dkwX5_sum_1 : List UInt8 := [180, 0, 111, 4, 96, 181, 0, 111, 187, 0, 37, 89, 28, 43, 42, 182, 0, 108, 183, 0, 47, 76, 42]
abbrev dktX5_sum_1 : List UInt8 := dkwX5_sum_1 ++ dktX5_sum_2
def dkwX5_sum_0 : List UInt8 := [42, 182, 0, 108, 76, 42, 182, 0, 63, 61, 28, 16, 43, 159, 0, 9, 28, 16, 45, 160, 0, 35, 42, 89]
abbrev dktX5_sum_0 : List UInt8 := dkwX5_sum_0 ++ dktX5_sum_1
theorem dksX5_sum_0 : cX5_sum.data.toList.drop 0 = dktX5_sum_0 := by decide +kernel
theorem dksX5_sum_1 : cX5_sum.data.toList.drop 24 = dktX5_sum_1 := dk_seg dksX5_sum_0 24 rfl rfl
theorem dksX5_sum_2 : cX5_sum.data.toList.drop 47 = dktX5_sum_2 := dk_seg dksX5_sum_1 23 rfl rfl
theorem dX5_sum_0 : decode cX5_sum 0 = .ok (.aload_n 0, 1) := dk_42 (dk_at dksX5_sum_0 0 rfl rfl)
theorem dX5_sum_1 : decode cX5_sum 1 = .ok (.invokevirtual 108, 3) := dk_182 0 108 (dk_at dksX5_sum_0 1 rfl rfl)
theorem dX5_sum_4 : decode cX5_sum 4 = .ok (.astore_n 1, 1) := dk_76 (dk_at dksX5_sum_0 4 rfl rfl)
theorem dX5_sum_5 : decode cX5_sum 5 = .ok (.aload_n 0, 1) := dk_42 (dk_at dksX5_sum_0 5 rfl rfl)
theorem dX5_sum_6 : decode cX5_sum 6 = .ok (.invokevirtual 63, 3) := dk_182 0 63 (dk_at dksX5_sum_0 6 rfl rfl)
theorem dX5_sum_9 : decode cX5_sum 9 = .ok (.istore_n 2, 1) := dk_61 (dk_at dksX5_sum_0 9 rfl rfl)
theorem dX5_sum_10 : decode cX5_sum 10 = .ok (.iload_n 2, 1) := dk_28 (dk_at dksX5_sum_0 10 rfl rfl)
theorem dX5_sum_11 : decode cX5_sum 11 = .ok (.bipush 43, 2) := dk_16 43 (dk_at dksX5_sum_0 11 rfl rfl)
theorem dX5_sum_13 : decode cX5_sum 13 = .ok (.if_icmp .eq 9, 3) := dk_159 0 9 (dk_at dksX5_sum_0 13 rfl rfl)
theorem dX5_sum_16 : decode cX5_sum 16 = .ok (.iload_n 2, 1) := dk_28 (dk_at dksX5_sum_0 16 rfl rfl)
theorem dX5_sum_17 : decode cX5_sum 17 = .ok (.bipush 45, 2) := dk_16 45 (dk_at dksX5_sum_0 17 rfl rfl)
theorem dX5_sum_19 : decode cX5_sum 19 = .ok (.if_icmp .ne 35, 3) := dk_160 0 35 (dk_at dksX5_sum_0 19 rfl rfl)
theorem dX5_sum_22 : decode cX5_sum 22 = .ok (.aload_n 0, 1) := dk_42 (dk_at dksX5_sum_0 22 rfl rfl)
theorem dX5_sum_23 : decode cX5_sum 23 = .ok (.dup, 1) := dk_89 (dk_at dksX5_sum_0 23 rfl rfl)
theorem dX5_sum_24 : decode cX5_sum 24 = .ok (.getfield 111, 3) := dk_180 0 111 (dk_at dksX5_sum_1 0 rfl rfl)
theorem dX5_sum_27 : decode cX5_sum 27 = .ok (.iconst 1, 1) := dk_4 (dk_at dksX5_sum_1 3 rfl rfl)
theorem dX5_sum_28 : decode cX5_sum 28 = .ok (.iadd, 1) := dk_96 (dk_at dksX5_sum_1 4 rfl rfl)
theorem dX5_sum_29 : decode cX5_sum 29 = .ok (.putfield 111, 3) := dk_181 0 111 (dk_at dksX5_sum_1 5 rfl rfl)
theorem dX5_sum_32 : decode cX5_sum 32 = .ok (.new 37, 3) := dk_187 0 37 (dk_at dksX5_sum_1 8 rfl rfl)
theorem dX5_sum_35 : decode cX5_sum 35 = .ok (.dup, 1) := dk_89 (dk_at dksX5_sum_1 11 rfl rfl)
theorem dX5_sum_36 : decode cX5_sum 36 = .ok (.iload_n 2, 1) := dk_28 (dk_at dksX5_sum_1 12 rfl rfl)
theorem dX5_sum_37 : decode cX5_sum 37 = .ok (.aload_n 1, 1) := dk_43 (dk_at dksX5_sum_1 13 rfl rfl)
theorem dX5_sum_38 : decode cX5_sum 38 = .ok (.aload_n 0, 1) := dk_42 (dk_at dksX5_sum_1 14 rfl rfl)
theorem dX5_sum_39 : decode cX5_sum 39 = .ok (.invokevirtual 108, 3) := dk_182 0 108 (dk_at dksX5_sum_1 15 rfl rfl)
theorem dX5_sum_42 : decode cX5_sum 42 = .ok (.invokespecial 47, 3) := dk_183 0 47 (dk_at dksX5_sum_1 18 rfl rfl)
theorem dX5_sum_45 : decode cX5_sum 45 = .ok (.astore_n 1, 1) := dk_76 (dk_at dksX5_sum_1 21 rfl rfl)
theorem dX5_sum_46 : decode cX5_sum 46 = .ok (.aload_n 0, 1) := dk_42 (dk_at dksX5_sum_1 22 rfl rfl)
theorem dX5_sum_47 : decode cX5_sum 47 = .ok (.invokevirtual 63, 3) := dk_182 0 63 (dk_at dksX5_sum_2 0 rfl rfl)
theorem dX5_sum_50 : decode cX5_sum 50 = .ok (.istore_n 2, 1) := dk_61 (dk_at dksX5_sum_2 3 rfl rfl)
theorem dX5_sum_51 : decode cX5_sum 51 = .ok (.goto (-41), 3) := dk_167 255 215 (dk_at dksX5_sum_2 4 rfl rfl)
theorem dX5_sum_54 : decode cX5_sum 54 = .ok (.aload_n 1, 1) := dk_43 (dk_at dksX5_sum_2 7 rfl rfl)
theorem dX5_sum_55 : decode cX5_sum 55 = .ok (.areturn, 1) := dk_176 (dk_at dksX5_sum_2 8 rfl rfl)
def dkwX5_product_2 : List UInt8 := [182, 0, 63, 61, 167, 255, 215, 43, 176]
abbrev dktX5_product_2 : List UInt8 := dkwX5_product_2 ++ []
def dkwX5_product_1 : List UInt8 := [180, 0, 111, 4, 96, 181, 0, 111, 187, 0, 37, 89, 28, 43, 42, 182, 0, 114, 183, 0, 47, 76, 42]
abbrev dktX5_product_1 : List UInt8 := dkwX5_product_1 ++ dktX5_product_2
def dkwX5_product_0 : List UInt8 := [42, 182, 0, 114, 76, 42, 182, 0, 63, 61, 28, 16, 42, 159, 0, 9, 28, 16, 47, 160, 0, 35, 42, 89]
abbrev dktX5_product_0 : List UInt8 := dkwX5_product_0 ++ dktX5_product_1
theorem dksX5_product_0 : cX5_product.data.toList.drop 0 = dktX5_product_0 := by decide +kernel
theorem dksX5_product_1 : cX5_product.data.toList.drop 24 = dktX5_product_1 := dk_seg dksX5_product_0 24 rfl rfl
theorem dksX5_product_2 : cX5_product.data.toList.drop 47 = dktX5_product_2 := dk_seg dksX5_product_1 23 rfl rfl
theorem dX5_product_0 : decode cX5_product 0 = .ok (.aload_n 0, 1) := dk_42 (dk_at dksX5_product_0 0 rfl rfl)
theorem dX5_product_1 : decode cX5_product 1 = .ok (.invokevirtual 114, 3) := dk_182 0 114 (dk_at dksX5_product_0 1 rfl rfl)
theorem dX5_product_4 : decode cX5_product 4 = .ok (.astore_n 1, 1) := dk_76 (dk_at dksX5_product_0 4 rfl rfl)
theorem dX5_product_5 : decode cX5_product 5 = .ok (.aload_n 0, 1) := dk_42 (dk_at dksX5_product_0 5 rfl rfl)
theorem dX5_product_6 : decode cX5_product 6 = .ok (.invokevirtual 63, 3) := dk_182 0 63 (dk_at dksX5_product_0 6 rfl rfl)
theorem dX5_product_9 : decode cX5_product 9 = .ok (.istore_n 2, 1) := dk_61 (dk_at dksX5_product_0 9 rfl rfl)
theorem dX5_product_10 : decode cX5_product 10 = .ok (.iload_n 2, 1) := dk_28 (dk_at dksX5_product_0 10 rfl rfl)
theorem dX5_product_11 : decode cX5_product 11 = .ok (.bipush 42, 2) := dk_16 42 (dk_at dksX5_product_0 11 rfl rfl)
theorem dX5_product_13 : decode cX5_product 13 = .ok (.if_icmp .eq 9, 3) := dk_159 0 9 (dk_at dksX5_product_0 13 rfl rfl)
theorem dX5_product_16 : decode cX5_product 16 = .ok (.iload_n 2, 1) := dk_28 (dk_at dksX5_product_0 16 rfl rfl)
theorem dX5_product_17 : decode cX5_product 17 = .ok (.bipush 47, 2) := dk_16 47 (dk_at dksX5_product_0 17 rfl rfl)
theorem dX5_product_19 : decode cX5_product 19 = .ok (.if_icmp .ne 35, 3) := dk_160 0 35 (dk_at dksX5_product_0 19 rfl rfl)
theorem dX5_product_22 : decode cX5_product 22 = .ok (.aload_n 0, 1) := dk_42 (dk_at dksX5_product_0 22 rfl rfl)
theorem dX5_product_23 : decode cX5_product 23 = .ok (.dup, 1) := dk_89 (dk_at dksX5_product_0 23 rfl rfl)
theorem dX5_product_24 : decode cX5_product 24 = .ok (.getfield 111, 3) := dk_180 0 111 (dk_at dksX5_product_1 0 rfl rfl)
theorem dX5_product_27 : decode cX5_product 27 = .ok (.iconst 1, 1) := dk_4 (dk_at dksX5_product_1 3 rfl rfl)
theorem dX5_product_28 : decode cX5_product 28 = .ok (.iadd, 1) := dk_96 (dk_at dksX5_product_1 4 rfl rfl)
theorem dX5_product_29 : decode cX5_product 29 = .ok (.putfield 111, 3) := dk_181 0 111 (dk_at dksX5_product_1 5 rfl rfl)
theorem dX5_product_32 : decode cX5_product 32 = .ok (.new 37, 3) := dk_187 0 37 (dk_at dksX5_product_1 8 rfl rfl)
theorem dX5_product_35 : decode cX5_product 35 = .ok (.dup, 1) := dk_89 (dk_at dksX5_product_1 11 rfl rfl)
theorem dX5_product_36 : decode cX5_product 36 = .ok (.iload_n 2, 1) := dk_28 (dk_at dksX5_product_1 12 rfl rfl)
theorem dX5_product_37 : decode cX5_product 37 = .ok (.aload_n 1, 1) := dk_43 (dk_at dksX5_product_1 13 rfl rfl)
theorem dX5_product_38 : decode cX5_product 38 = .ok (.aload_n 0, 1) := dk_42 (dk_at dksX5_product_1 14 rfl rfl)
theorem dX5_product_39 : decode cX5_product 39 = .ok (.invokevirtual 114, 3) := dk_182 0 114 (dk_at dksX5_product_1 15 rfl rfl)
theorem dX5_product_42 : decode cX5_product 42 = .ok (.invokespecial 47, 3) := dk_183 0 47 (dk_at dksX5_product_1 18 rfl rfl)
theorem dX5_product_45 : decode cX5_product 45 = .ok (.astore_n 1, 1) := dk_76 (dk_at dksX5_product_1 21 rfl rfl)
theorem dX5_product_46 : decode cX5_product 46 = .ok (.aload_n 0, 1) := dk_42 (dk_at dksX5_product_1 22 rfl rfl)
theorem dX5_product_47 : decode cX5_product 47 = .ok (.invokevirtual 63, 3) := dk_182 0 63 (dk_at dksX5_product_2 0 rfl rfl)
theorem dX5_product_50 : decode cX5_product 50 = .ok (.istore_n 2, 1) := dk_61 (dk_at dksX5_product_2 3 rfl rfl)
theorem dX5_product_51 : decode cX5_product 51 = .ok (.goto (-41), 3) := dk_167 255 215 (dk_at dksX5_product_2 4 rfl rfl)
theorem dX5_product_54 : decode cX5_product 54 = .ok (.aload_n 1, 1) := dk_43 (dk_at dksX5_product_2 7 rfl rfl)
theorem dX5_product_55 : decode cX5_product 55 = .ok (.areturn, 1) := dk_176 (dk_at dksX5_product_2 8 rfl rfl)
def dkwX5_one_10 : List UInt8 := [180, 0, 126, 4, 100, 181, 0, 126, 25, 4, 176]
abbrev dktX5_one_10 : List UInt8 := dkwX5_one_10 ++ []
def dkwX5_one_9 : List UInt8 := [187, 0, 137, 89, 25, 4, 42, 182, 0, 96, 183, 0, 139, 58, 4, 42, 16, 41, 182, 0, 77, 42, 89]
abbrev dktX5_one_9 : List UInt8 := dkwX5_one_9 ++ dktX5_one_10
def dkwX5_one_8 : List UInt8 := [182, 0, 77, 27, 153, 0, 19, 187, 0, 132, 89, 25, 4, 42, 182, 0, 96, 183, 0, 134, 167, 0, 16]
abbrev dktX5_one_8 : List UInt8 := dkwX5_one_8 ++ dktX5_one_9
def dkwX5_one_7 : List UInt8 := [182, 0, 129, 167, 0, 7, 42, 182, 0, 96, 58, 4, 27, 154, 0, 7, 28, 153, 0, 44, 42, 16, 44]
abbrev dktX5_one_7 : List UInt8 := dkwX5_one_7 ++ dktX5_one_8
def dkwX5_one_6 : List UInt8 := [180, 0, 126, 4, 96, 181, 0, 126, 42, 89, 180, 0, 111, 4, 96, 181, 0, 111, 29, 153, 0, 10, 42]
abbrev dktX5_one_6 : List UInt8 := dkwX5_one_6 ++ dktX5_one_7
def dkwX5_one_5 : List UInt8 := [16, 40, 160, 0, 16, 42, 180, 0, 126, 16, 8, 162, 0, 7, 4, 167, 0, 4, 3, 182, 0, 70, 42, 89]
abbrev dktX5_one_5 : List UInt8 := dkwX5_one_5 ++ dktX5_one_6
def dkwX5_one_4 : List UInt8 := [154, 0, 16, 42, 18, 124, 182, 0, 82, 153, 0, 7, 4, 167, 0, 4, 3, 62, 42, 42, 182, 0, 63]
abbrev dktX5_one_4 : List UInt8 := dkwX5_one_4 ++ dktX5_one_5
def dkwX5_one_3 : List UInt8 := [154, 0, 16, 42, 18, 122, 182, 0, 82, 153, 0, 7, 4, 167, 0, 4, 3, 61, 27, 154, 0, 20, 28]
abbrev dktX5_one_3 : List UInt8 := dkwX5_one_3 ++ dktX5_one_4
def dkwX5_one_2 : List UInt8 := [187, 0, 39, 89, 27, 183, 0, 41, 176, 132, 1, 1, 167, 255, 228, 42, 18, 120, 182, 0, 82, 60, 27]
abbrev dktX5_one_2 : List UInt8 := dkwX5_one_2 ++ dktX5_one_3
def dkwX5_one_1 : List UInt8 := [183, 0, 46, 176, 3, 60, 27, 8, 162, 0, 29, 42, 27, 184, 0, 117, 182, 0, 82, 153, 0, 12]
abbrev dktX5_one_1 : List UInt8 := dkwX5_one_1 ++ dktX5_one_2
def dkwX5_one_0 : List UInt8 := [42, 182, 0, 63, 184, 0, 104, 153, 0, 19, 187, 0, 44, 89, 42, 3, 17, 3, 231, 182, 0, 89]
abbrev dktX5_one_0 : List UInt8 := dkwX5_one_0 ++ dktX5_one_1
theorem dksX5_one_0 : cX5_one.data.toList.drop 0 = dktX5_one_0 := by decide +kernel
theorem dksX5_one_1 : cX5_one.data.toList.drop 22 = dktX5_one_1 := dk_seg dksX5_one_0 22 rfl rfl
theorem dksX5_one_2 : cX5_one.data.toList.drop 44 = dktX5_one_2 := dk_seg dksX5_one_1 22 rfl rfl
theorem dksX5_one_3 : cX5_one.data.toList.drop 67 = dktX5_one_3 := dk_seg dksX5_one_2 23 rfl rfl
theorem dksX5_one_4 : cX5_one.data.toList.drop 90 = dktX5_one_4 := dk_seg dksX5_one_3 23 rfl rfl
theorem dksX5_one_5 : cX5_one.data.toList.drop 113 = dktX5_one_5 := dk_seg dksX5_one_4 23 rfl rfl
theorem dksX5_one_6 : cX5_one.data.toList.drop 137 = dktX5_one_6 := dk_seg dksX5_one_5 24 rfl rfl
theorem dksX5_one_7 : cX5_one.data.toList.drop 160 = dktX5_one_7 := dk_seg dksX5_one_6 23 rfl rfl
theorem dksX5_one_8 : cX5_one.data.toList.drop 183 = dktX5_one_8 := dk_seg dksX5_one_7 23 rfl rfl
theorem dksX5_one_9 : cX5_one.data.toList.drop 206 = dktX5_one_9 := dk_seg dksX5_one_8 23 rfl rfl
theorem dksX5_one_10 : cX5_one.data.toList.drop 229 = dktX5_one_10 := dk_seg dksX5_one_9 23 rfl rfl
theorem dX5_one_0 : decode cX5_one 0 = .ok (.aload_n 0, 1) := dk_42 (dk_at dksX5_one_0 0 rfl rfl)
theorem dX5_one_1 : decode cX5_one 1 = .ok (.invokevirtual 63, 3) := dk_182 0 63 (dk_at dksX5_one_0 1 rfl rfl)
theorem dX5_one_4 : decode cX5_one 4 = .ok (.invokestatic 104, 3) := dk_184 0 104 (dk_at dksX5_one_0 4 rfl rfl)
theorem dX5_one_7 : decode cX5_one 7 = .ok (.ifCond .eq 19, 3) := dk_153 0 19 (dk_at dksX5_one_0 7 rfl rfl)
theorem dX5_one_10 : decode cX5_one 10 = .ok (.new 44, 3) := dk_187 0 44 (dk_at dksX5_one_0 10 rfl rfl)
theorem dX5_one_13 : decode cX5_one 13 = .ok (.dup, 1) := dk_89 (dk_at dksX5_one_0 13 rfl rfl)
theorem dX5_one_14 : decode cX5_one 14 = .ok (.aload_n 0, 1) := dk_42 (dk_at dksX5_one_0 14 rfl rfl)
theorem dX5_one_15 : decode cX5_one 15 = .ok (.iconst 0, 1) := dk_3 (dk_at dksX5_one_0 15 rfl rfl)
theorem dX5_one_16 : decode cX5_one 16 = .ok (.sipush 999, 3) := dk_17 3 231 (dk_at dksX5_one_0 16 rfl rfl)
theorem dX5_one_19 : decode cX5_one 19 = .ok (.invokevirtual 89, 3) := dk_182 0 89 (dk_at dksX5_one_0 19 rfl rfl)
theorem dX5_one_22 : decode cX5_one 22 = .ok (.invokespecial 46, 3) := dk_183 0 46 (dk_at dksX5_one_1 0 rfl rfl)
theorem dX5_one_25 : decode cX5_one 25 = .ok (.areturn, 1) := dk_176 (dk_at dksX5_one_1 3 rfl rfl)
theorem dX5_one_26 : decode cX5_one 26 = .ok (.iconst 0, 1) := dk_3 (dk_at dksX5_one_1 4 rfl rfl)
theorem dX5_one_27 : decode cX5_one 27 = .ok (.istore_n 1, 1) := dk_60 (dk_at dksX5_one_1 5 rfl rfl)
theorem dX5_one_28 : decode cX5_one 28 = .ok (.iload_n 1, 1) := dk_27 (dk_at dksX5_one_1 6 rfl rfl)
theorem dX5_one_29 : decode cX5_one 29 = .ok (.iconst 5, 1) := dk_8 (dk_at dksX5_one_1 7 rfl rfl)
theorem dX5_one_30 : decode cX5_one 30 = .ok (.if_icmp .ge 29, 3) := dk_162 0 29 (dk_at dksX5_one_1 8 rfl rfl)
theorem dX5_one_33 : decode cX5_one 33 = .ok (.aload_n 0, 1) := dk_42 (dk_at dksX5_one_1 11 rfl rfl)
theorem dX5_one_34 : decode cX5_one 34 = .ok (.iload_n 1, 1) := dk_27 (dk_at dksX5_one_1 12 rfl rfl)
theorem dX5_one_35 : decode cX5_one 35 = .ok (.invokestatic 117, 3) := dk_184 0 117 (dk_at dksX5_one_1 13 rfl rfl)
theorem dX5_one_38 : decode cX5_one 38 = .ok (.invokevirtual 82, 3) := dk_182 0 82 (dk_at dksX5_one_1 16 rfl rfl)
theorem dX5_one_41 : decode cX5_one 41 = .ok (.ifCond .eq 12, 3) := dk_153 0 12 (dk_at dksX5_one_1 19 rfl rfl)
theorem dX5_one_44 : decode cX5_one 44 = .ok (.new 39, 3) := dk_187 0 39 (dk_at dksX5_one_2 0 rfl rfl)
theorem dX5_one_47 : decode cX5_one 47 = .ok (.dup, 1) := dk_89 (dk_at dksX5_one_2 3 rfl rfl)
theorem dX5_one_48 : decode cX5_one 48 = .ok (.iload_n 1, 1) := dk_27 (dk_at dksX5_one_2 4 rfl rfl)
theorem dX5_one_49 : decode cX5_one 49 = .ok (.invokespecial 41, 3) := dk_183 0 41 (dk_at dksX5_one_2 5 rfl rfl)
theorem dX5_one_52 : decode cX5_one 52 = .ok (.areturn, 1) := dk_176 (dk_at dksX5_one_2 8 rfl rfl)
theorem dX5_one_53 : decode cX5_one 53 = .ok (.iinc 1 1, 3) := dk_132 1 1 (dk_at dksX5_one_2 9 rfl rfl)
theorem dX5_one_56 : decode cX5_one 56 = .ok (.goto (-28), 3) := dk_167 255 228 (dk_at dksX5_one_2 12 rfl rfl)
theorem dX5_one_59 : decode cX5_one 59 = .ok (.aload_n 0, 1) := dk_42 (dk_at dksX5_one_2 15 rfl rfl)
theorem dX5_one_60 : decode cX5_one 60 = .ok (.ldc 120, 2) := dk_18 120 (dk_at dksX5_one_2 16 rfl rfl)
theorem dX5_one_62 : decode cX5_one 62 = .ok (.invokevirtual 82, 3) := dk_182 0 82 (dk_at dksX5_one_2 18 rfl rfl)
theorem dX5_one_65 : decode cX5_one 65 = .ok (.istore_n 1, 1) := dk_60 (dk_at dksX5_one_2 21 rfl rfl)
theorem dX5_one_66 : decode cX5_one 66 = .ok (.iload_n 1, 1) := dk_27 (dk_at dksX5_one_2 22 rfl rfl)
theorem dX5_one_67 : decode cX5_one 67 = .ok (.ifCond .ne 16, 3) := dk_154 0 16 (dk_at dksX5_one_3 0 rfl rfl)
theorem dX5_one_70 : decode cX5_one 70 = .ok (.aload_n 0, 1) := dk_42 (dk_at dksX5_one_3 3 rfl rfl)
theorem dX5_one_71 : decode cX5_one 71 = .ok (.ldc 122, 2) := dk_18 122 (dk_at dksX5_one_3 4 rfl rfl)
theorem dX5_one_73 : decode cX5_one 73 = .ok (.invokevirtual 82, 3) := dk_182 0 82 (dk_at dksX5_one_3 6 rfl rfl)
theorem dX5_one_76 : decode cX5_one 76 = .ok (.ifCond .eq 7, 3) := dk_153 0 7 (dk_at dksX5_one_3 9 rfl rfl)
theorem dX5_one_79 : decode cX5_one 79 = .ok (.iconst 1, 1) := dk_4 (dk_at dksX5_one_3 12 rfl rfl)
theorem dX5_one_80 : decode cX5_one 80 = .ok (.goto 4, 3) := dk_167 0 4 (dk_at dksX5_one_3 13 rfl rfl)
theorem dX5_one_83 : decode cX5_one 83 = .ok (.iconst 0, 1) := dk_3 (dk_at dksX5_one_3 16 rfl rfl)
theorem dX5_one_84 : decode cX5_one 84 = .ok (.istore_n 2, 1) := dk_61 (dk_at dksX5_one_3 17 rfl rfl)
theorem dX5_one_85 : decode cX5_one 85 = .ok (.iload_n 1, 1) := dk_27 (dk_at dksX5_one_3 18 rfl rfl)
theorem dX5_one_86 : decode cX5_one 86 = .ok (.ifCond .ne 20, 3) := dk_154 0 20 (dk_at dksX5_one_3 19 rfl rfl)
theorem dX5_one_89 : decode cX5_one 89 = .ok (.iload_n 2, 1) := dk_28 (dk_at dksX5_one_3 22 rfl rfl)
theorem dX5_one_90 : decode cX5_one 90 = .ok (.ifCond .ne 16, 3) := dk_154 0 16 (dk_at dksX5_one_4 0 rfl rfl)
theorem dX5_one_93 : decode cX5_one 93 = .ok (.aload_n 0, 1) := dk_42 (dk_at dksX5_one_4 3 rfl rfl)
theorem dX5_one_94 : decode cX5_one 94 = .ok (.ldc 124, 2) := dk_18 124 (dk_at dksX5_one_4 4 rfl rfl)
theorem dX5_one_96 : decode cX5_one 96 = .ok (.invokevirtual 82, 3) := dk_182 0 82 (dk_at dksX5_one_4 6 rfl rfl)
theorem dX5_one_99 : decode cX5_one 99 = .ok (.ifCond .eq 7, 3) := dk_153 0 7 (dk_at dksX5_one_4 9 rfl rfl)
theorem dX5_one_102 : decode cX5_one 102 = .ok (.iconst 1, 1) := dk_4 (dk_at dksX5_one_4 12 rfl rfl)
theorem dX5_one_103 : decode cX5_one 103 = .ok (.goto 4, 3) := dk_167 0 4 (dk_at dksX5_one_4 13 rfl rfl)
theorem dX5_one_106 : decode cX5_one 106 = .ok (.iconst 0, 1) := dk_3 (dk_at dksX5_one_4 16 rfl rfl)
theorem dX5_one_107 : decode cX5_one 107 = .ok (.istore_n 3, 1) := dk_62 (dk_at dksX5_one_4 17 rfl rfl)
theorem dX5_one_108 : decode cX5_one 108 = .ok (.aload_n 0, 1) := dk_42 (dk_at dksX5_one_4 18 rfl rfl)
theorem dX5_one_109 : decode cX5_one 109 = .ok (.aload_n 0, 1) := dk_42 (dk_at dksX5_one_4 19 rfl rfl)
theorem dX5_one_110 : decode cX5_one 110 = .ok (.invokevirtual 63, 3) := dk_182 0 63 (dk_at dksX5_one_4 20 rfl rfl)
theorem dX5_one_113 : decode cX5_one 113 = .ok (.bipush 40, 2) := dk_16 40 (dk_at dksX5_one_5 0 rfl rfl)
theorem dX5_one_115 : decode cX5_one 115 = .ok (.if_icmp .ne 16, 3) := dk_160 0 16 (dk_at dksX5_one_5 2 rfl rfl)
theorem dX5_one_118 : decode cX5_one 118 = .ok (.aload_n 0, 1) := dk_42 (dk_at dksX5_one_5 5 rfl rfl)
theorem dX5_one_119 : decode cX5_one 119 = .ok (.getfield 126, 3) := dk_180 0 126 (dk_at dksX5_one_5 6 rfl rfl)
theorem dX5_one_122 : decode cX5_one 122 = .ok (.bipush 8, 2) := dk_16 8 (dk_at dksX5_one_5 9 rfl rfl)
theorem dX5_one_124 : decode cX5_one 124 = .ok (.if_icmp .ge 7, 3) := dk_162 0 7 (dk_at dksX5_one_5 11 rfl rfl)
theorem dX5_one_127 : decode cX5_one 127 = .ok (.iconst 1, 1) := dk_4 (dk_at dksX5_one_5 14 rfl rfl)
theorem dX5_one_128 : decode cX5_one 128 = .ok (.goto 4, 3) := dk_167 0 4 (dk_at dksX5_one_5 15 rfl rfl)
theorem dX5_one_131 : decode cX5_one 131 = .ok (.iconst 0, 1) := dk_3 (dk_at dksX5_one_5 18 rfl rfl)
theorem dX5_one_132 : decode cX5_one 132 = .ok (.invokevirtual 70, 3) := dk_182 0 70 (dk_at dksX5_one_5 19 rfl rfl)
theorem dX5_one_135 : decode cX5_one 135 = .ok (.aload_n 0, 1) := dk_42 (dk_at dksX5_one_5 22 rfl rfl)
theorem dX5_one_136 : decode cX5_one 136 = .ok (.dup, 1) := dk_89 (dk_at dksX5_one_5 23 rfl rfl)
theorem dX5_one_137 : decode cX5_one 137 = .ok (.getfield 126, 3) := dk_180 0 126 (dk_at dksX5_one_6 0 rfl rfl)
theorem dX5_one_140 : decode cX5_one 140 = .ok (.iconst 1, 1) := dk_4 (dk_at dksX5_one_6 3 rfl rfl)
theorem dX5_one_141 : decode cX5_one 141 = .ok (.iadd, 1) := dk_96 (dk_at dksX5_one_6 4 rfl rfl)
theorem dX5_one_142 : decode cX5_one 142 = .ok (.putfield 126, 3) := dk_181 0 126 (dk_at dksX5_one_6 5 rfl rfl)
theorem dX5_one_145 : decode cX5_one 145 = .ok (.aload_n 0, 1) := dk_42 (dk_at dksX5_one_6 8 rfl rfl)
theorem dX5_one_146 : decode cX5_one 146 = .ok (.dup, 1) := dk_89 (dk_at dksX5_one_6 9 rfl rfl)
theorem dX5_one_147 : decode cX5_one 147 = .ok (.getfield 111, 3) := dk_180 0 111 (dk_at dksX5_one_6 10 rfl rfl)
theorem dX5_one_150 : decode cX5_one 150 = .ok (.iconst 1, 1) := dk_4 (dk_at dksX5_one_6 13 rfl rfl)
theorem dX5_one_151 : decode cX5_one 151 = .ok (.iadd, 1) := dk_96 (dk_at dksX5_one_6 14 rfl rfl)
theorem dX5_one_152 : decode cX5_one 152 = .ok (.putfield 111, 3) := dk_181 0 111 (dk_at dksX5_one_6 15 rfl rfl)
theorem dX5_one_155 : decode cX5_one 155 = .ok (.iload_n 3, 1) := dk_29 (dk_at dksX5_one_6 18 rfl rfl)
theorem dX5_one_156 : decode cX5_one 156 = .ok (.ifCond .eq 10, 3) := dk_153 0 10 (dk_at dksX5_one_6 19 rfl rfl)
theorem dX5_one_159 : decode cX5_one 159 = .ok (.aload_n 0, 1) := dk_42 (dk_at dksX5_one_6 22 rfl rfl)
theorem dX5_one_160 : decode cX5_one 160 = .ok (.invokevirtual 129, 3) := dk_182 0 129 (dk_at dksX5_one_7 0 rfl rfl)
theorem dX5_one_163 : decode cX5_one 163 = .ok (.goto 7, 3) := dk_167 0 7 (dk_at dksX5_one_7 3 rfl rfl)
theorem dX5_one_166 : decode cX5_one 166 = .ok (.aload_n 0, 1) := dk_42 (dk_at dksX5_one_7 6 rfl rfl)
theorem dX5_one_167 : decode cX5_one 167 = .ok (.invokevirtual 96, 3) := dk_182 0 96 (dk_at dksX5_one_7 7 rfl rfl)
theorem dX5_one_170 : decode cX5_one 170 = .ok (.astore 4, 2) := dk_58 4 (dk_at dksX5_one_7 10 rfl rfl)
theorem dX5_one_172 : decode cX5_one 172 = .ok (.iload_n 1, 1) := dk_27 (dk_at dksX5_one_7 12 rfl rfl)
theorem dX5_one_173 : decode cX5_one 173 = .ok (.ifCond .ne 7, 3) := dk_154 0 7 (dk_at dksX5_one_7 13 rfl rfl)
theorem dX5_one_176 : decode cX5_one 176 = .ok (.iload_n 2, 1) := dk_28 (dk_at dksX5_one_7 16 rfl rfl)
theorem dX5_one_177 : decode cX5_one 177 = .ok (.ifCond .eq 44, 3) := dk_153 0 44 (dk_at dksX5_one_7 17 rfl rfl)
theorem dX5_one_180 : decode cX5_one 180 = .ok (.aload_n 0, 1) := dk_42 (dk_at dksX5_one_7 20 rfl rfl)
theorem dX5_one_181 : decode cX5_one 181 = .ok (.bipush 44, 2) := dk_16 44 (dk_at dksX5_one_7 21 rfl rfl)
theorem dX5_one_183 : decode cX5_one 183 = .ok (.invokevirtual 77, 3) := dk_182 0 77 (dk_at dksX5_one_8 0 rfl rfl)
theorem dX5_one_186 : decode cX5_one 186 = .ok (.iload_n 1, 1) := dk_27 (dk_at dksX5_one_8 3 rfl rfl)
theorem dX5_one_187 : decode cX5_one 187 = .ok (.ifCond .eq 19, 3) := dk_153 0 19 (dk_at dksX5_one_8 4 rfl rfl)
theorem dX5_one_190 : decode cX5_one 190 = .ok (.new 132, 3) := dk_187 0 132 (dk_at dksX5_one_8 7 rfl rfl)
theorem dX5_one_193 : decode cX5_one 193 = .ok (.dup, 1) := dk_89 (dk_at dksX5_one_8 10 rfl rfl)
theorem dX5_one_194 : decode cX5_one 194 = .ok (.aload 4, 2) := dk_25 4 (dk_at dksX5_one_8 11 rfl rfl)
theorem dX5_one_196 : decode cX5_one 196 = .ok (.aload_n 0, 1) := dk_42 (dk_at dksX5_one_8 13 rfl rfl)
theorem dX5_one_197 : decode cX5_one 197 = .ok (.invokevirtual 96, 3) := dk_182 0 96 (dk_at dksX5_one_8 14 rfl rfl)
theorem dX5_one_200 : decode cX5_one 200 = .ok (.invokespecial 134, 3) := dk_183 0 134 (dk_at dksX5_one_8 17 rfl rfl)
theorem dX5_one_203 : decode cX5_one 203 = .ok (.goto 16, 3) := dk_167 0 16 (dk_at dksX5_one_8 20 rfl rfl)
theorem dX5_one_206 : decode cX5_one 206 = .ok (.new 137, 3) := dk_187 0 137 (dk_at dksX5_one_9 0 rfl rfl)
theorem dX5_one_209 : decode cX5_one 209 = .ok (.dup, 1) := dk_89 (dk_at dksX5_one_9 3 rfl rfl)
theorem dX5_one_210 : decode cX5_one 210 = .ok (.aload 4, 2) := dk_25 4 (dk_at dksX5_one_9 4 rfl rfl)
theorem dX5_one_212 : decode cX5_one 212 = .ok (.aload_n 0, 1) := dk_42 (dk_at dksX5_one_9 6 rfl rfl)
theorem dX5_one_213 : decode cX5_one 213 = .ok (.invokevirtual 96, 3) := dk_182 0 96 (dk_at dksX5_one_9 7 rfl rfl)
theorem dX5_one_216 : decode cX5_one 216 = .ok (.invokespecial 139, 3) := dk_183 0 139 (dk_at dksX5_one_9 10 rfl rfl)
theorem dX5_one_219 : decode cX5_one 219 = .ok (.astore 4, 2) := dk_58 4 (dk_at dksX5_one_9 13 rfl rfl)
theorem dX5_one_221 : decode cX5_one 221 = .ok (.aload_n 0, 1) := dk_42 (dk_at dksX5_one_9 15 rfl rfl)
theorem dX5_one_222 : decode cX5_one 222 = .ok (.bipush 41, 2) := dk_16 41 (dk_at dksX5_one_9 16 rfl rfl)
theorem dX5_one_224 : decode cX5_one 224 = .ok (.invokevirtual 77, 3) := dk_182 0 77 (dk_at dksX5_one_9 18 rfl rfl)
theorem dX5_one_227 : decode cX5_one 227 = .ok (.aload_n 0, 1) := dk_42 (dk_at dksX5_one_9 21 rfl rfl)
theorem dX5_one_228 : decode cX5_one 228 = .ok (.dup, 1) := dk_89 (dk_at dksX5_one_9 22 rfl rfl)
theorem dX5_one_229 : decode cX5_one 229 = .ok (.getfield 126, 3) := dk_180 0 126 (dk_at dksX5_one_10 0 rfl rfl)
theorem dX5_one_232 : decode cX5_one 232 = .ok (.iconst 1, 1) := dk_4 (dk_at dksX5_one_10 3 rfl rfl)
theorem dX5_one_233 : decode cX5_one 233 = .ok (.isub, 1) := dk_100 (dk_at dksX5_one_10 4 rfl rfl)
theorem dX5_one_234 : decode cX5_one 234 = .ok (.putfield 126, 3) := dk_181 0 126 (dk_at dksX5_one_10 5 rfl rfl)
theorem dX5_one_237 : decode cX5_one 237 = .ok (.aload 4, 2) := dk_25 4 (dk_at dksX5_one_10 8 rfl rfl)
theorem dX5_one_239 : decode cX5_one 239 = .ok (.areturn, 1) := dk_176 (dk_at dksX5_one_10 10 rfl rfl)
def dkwX5_choice_3 : List UInt8 := [58, 4, 42, 16, 44, 182, 0, 77, 187, 0, 143, 89, 45, 25, 4, 42, 182, 0, 96, 183, 0, 145, 176]
abbrev dktX5_choice_3 : List UInt8 := dkwX5_choice_3 ++ []
def dkwX5_choice_2 : List UInt8 := [187, 0, 140, 89, 28, 43, 42, 182, 0, 96, 183, 0, 142, 78, 42, 16, 44, 182, 0, 77, 42, 182, 0, 96]
abbrev dktX5_choice_2 : List UInt8 := dkwX5_choice_2 ++ dktX5_choice_3
def dkwX5_choice_1 : List UInt8 := [16, 61, 160, 0, 7, 4, 167, 0, 4, 3, 182, 0, 70, 42, 89, 180, 0, 111, 4, 96, 181, 0, 111]
abbrev dktX5_choice_1 : List UInt8 := dkwX5_choice_1 ++ dktX5_choice_2
def dkwX5_choice_0 : List UInt8 := [42, 182, 0, 96, 76, 42, 182, 0, 63, 61, 42, 28, 16, 60, 159, 0, 15, 28, 16, 62, 159, 0, 9, 28]
abbrev dktX5_choice_0 : List UInt8 := dkwX5_choice_0 ++ dktX5_choice_1
theorem dksX5_choice_0 : cX5_choice.data.toList.drop 0 = dktX5_choice_0 := by decide +kernel
theorem dksX5_choice_1 : cX5_choice.data.toList.drop 24 = dktX5_choice_1 := dk_seg dksX5_choice_0 24 rfl rfl
theorem dksX5_choice_2 : cX5_choice.data.toList.drop 47 = dktX5_choice_2 := dk_seg dksX5_choice_1 23 rfl rfl
theorem dksX5_choice_3 : cX5_choice.data.toList.drop 71 = dktX5_choice_3 := dk_seg dksX5_choice_2 24 rfl rfl
theorem dX5_choice_0 : decode cX5_choice 0 = .ok (.aload_n 0, 1) := dk_42 (dk_at dksX5_choice_0 0 rfl rfl)
theorem dX5_choice_1 : decode cX5_choice 1 = .ok (.invokevirtual 96, 3) := dk_182 0 96 (dk_at dksX5_choice_0 1 rfl rfl)
theorem dX5_choice_4 : decode cX5_choice 4 = .ok (.astore_n 1, 1) := dk_76 (dk_at dksX5_choice_0 4 rfl rfl)
theorem dX5_choice_5 : decode cX5_choice 5 = .ok (.aload_n 0, 1) := dk_42 (dk_at dksX5_choice_0 5 rfl rfl)
theorem dX5_choice_6 : decode cX5_choice 6 = .ok (.invokevirtual 63, 3) := dk_182 0 63 (dk_at dksX5_choice_0 6 rfl rfl)
theorem dX5_choice_9 : decode cX5_choice 9 = .ok (.istore_n 2, 1) := dk_61 (dk_at dksX5_choice_0 9 rfl rfl)
theorem dX5_choice_10 : decode cX5_choice 10 = .ok (.aload_n 0, 1) := dk_42 (dk_at dksX5_choice_0 10 rfl rfl)
theorem dX5_choice_11 : decode cX5_choice 11 = .ok (.iload_n 2, 1) := dk_28 (dk_at dksX5_choice_0 11 rfl rfl)
theorem dX5_choice_12 : decode cX5_choice 12 = .ok (.bipush 60, 2) := dk_16 60 (dk_at dksX5_choice_0 12 rfl rfl)
theorem dX5_choice_14 : decode cX5_choice 14 = .ok (.if_icmp .eq 15, 3) := dk_159 0 15 (dk_at dksX5_choice_0 14 rfl rfl)
theorem dX5_choice_17 : decode cX5_choice 17 = .ok (.iload_n 2, 1) := dk_28 (dk_at dksX5_choice_0 17 rfl rfl)
theorem dX5_choice_18 : decode cX5_choice 18 = .ok (.bipush 62, 2) := dk_16 62 (dk_at dksX5_choice_0 18 rfl rfl)
theorem dX5_choice_20 : decode cX5_choice 20 = .ok (.if_icmp .eq 9, 3) := dk_159 0 9 (dk_at dksX5_choice_0 20 rfl rfl)
theorem dX5_choice_23 : decode cX5_choice 23 = .ok (.iload_n 2, 1) := dk_28 (dk_at dksX5_choice_0 23 rfl rfl)
theorem dX5_choice_24 : decode cX5_choice 24 = .ok (.bipush 61, 2) := dk_16 61 (dk_at dksX5_choice_1 0 rfl rfl)
theorem dX5_choice_26 : decode cX5_choice 26 = .ok (.if_icmp .ne 7, 3) := dk_160 0 7 (dk_at dksX5_choice_1 2 rfl rfl)
theorem dX5_choice_29 : decode cX5_choice 29 = .ok (.iconst 1, 1) := dk_4 (dk_at dksX5_choice_1 5 rfl rfl)
theorem dX5_choice_30 : decode cX5_choice 30 = .ok (.goto 4, 3) := dk_167 0 4 (dk_at dksX5_choice_1 6 rfl rfl)
theorem dX5_choice_33 : decode cX5_choice 33 = .ok (.iconst 0, 1) := dk_3 (dk_at dksX5_choice_1 9 rfl rfl)
theorem dX5_choice_34 : decode cX5_choice 34 = .ok (.invokevirtual 70, 3) := dk_182 0 70 (dk_at dksX5_choice_1 10 rfl rfl)
theorem dX5_choice_37 : decode cX5_choice 37 = .ok (.aload_n 0, 1) := dk_42 (dk_at dksX5_choice_1 13 rfl rfl)
theorem dX5_choice_38 : decode cX5_choice 38 = .ok (.dup, 1) := dk_89 (dk_at dksX5_choice_1 14 rfl rfl)
theorem dX5_choice_39 : decode cX5_choice 39 = .ok (.getfield 111, 3) := dk_180 0 111 (dk_at dksX5_choice_1 15 rfl rfl)
theorem dX5_choice_42 : decode cX5_choice 42 = .ok (.iconst 1, 1) := dk_4 (dk_at dksX5_choice_1 18 rfl rfl)
theorem dX5_choice_43 : decode cX5_choice 43 = .ok (.iadd, 1) := dk_96 (dk_at dksX5_choice_1 19 rfl rfl)
theorem dX5_choice_44 : decode cX5_choice 44 = .ok (.putfield 111, 3) := dk_181 0 111 (dk_at dksX5_choice_1 20 rfl rfl)
theorem dX5_choice_47 : decode cX5_choice 47 = .ok (.new 140, 3) := dk_187 0 140 (dk_at dksX5_choice_2 0 rfl rfl)
theorem dX5_choice_50 : decode cX5_choice 50 = .ok (.dup, 1) := dk_89 (dk_at dksX5_choice_2 3 rfl rfl)
theorem dX5_choice_51 : decode cX5_choice 51 = .ok (.iload_n 2, 1) := dk_28 (dk_at dksX5_choice_2 4 rfl rfl)
theorem dX5_choice_52 : decode cX5_choice 52 = .ok (.aload_n 1, 1) := dk_43 (dk_at dksX5_choice_2 5 rfl rfl)
theorem dX5_choice_53 : decode cX5_choice 53 = .ok (.aload_n 0, 1) := dk_42 (dk_at dksX5_choice_2 6 rfl rfl)
theorem dX5_choice_54 : decode cX5_choice 54 = .ok (.invokevirtual 96, 3) := dk_182 0 96 (dk_at dksX5_choice_2 7 rfl rfl)
theorem dX5_choice_57 : decode cX5_choice 57 = .ok (.invokespecial 142, 3) := dk_183 0 142 (dk_at dksX5_choice_2 10 rfl rfl)
theorem dX5_choice_60 : decode cX5_choice 60 = .ok (.astore_n 3, 1) := dk_78 (dk_at dksX5_choice_2 13 rfl rfl)
theorem dX5_choice_61 : decode cX5_choice 61 = .ok (.aload_n 0, 1) := dk_42 (dk_at dksX5_choice_2 14 rfl rfl)
theorem dX5_choice_62 : decode cX5_choice 62 = .ok (.bipush 44, 2) := dk_16 44 (dk_at dksX5_choice_2 15 rfl rfl)
theorem dX5_choice_64 : decode cX5_choice 64 = .ok (.invokevirtual 77, 3) := dk_182 0 77 (dk_at dksX5_choice_2 17 rfl rfl)
theorem dX5_choice_67 : decode cX5_choice 67 = .ok (.aload_n 0, 1) := dk_42 (dk_at dksX5_choice_2 20 rfl rfl)
theorem dX5_choice_68 : decode cX5_choice 68 = .ok (.invokevirtual 96, 3) := dk_182 0 96 (dk_at dksX5_choice_2 21 rfl rfl)
theorem dX5_choice_71 : decode cX5_choice 71 = .ok (.astore 4, 2) := dk_58 4 (dk_at dksX5_choice_3 0 rfl rfl)
theorem dX5_choice_73 : decode cX5_choice 73 = .ok (.aload_n 0, 1) := dk_42 (dk_at dksX5_choice_3 2 rfl rfl)
theorem dX5_choice_74 : decode cX5_choice 74 = .ok (.bipush 44, 2) := dk_16 44 (dk_at dksX5_choice_3 3 rfl rfl)
theorem dX5_choice_76 : decode cX5_choice 76 = .ok (.invokevirtual 77, 3) := dk_182 0 77 (dk_at dksX5_choice_3 5 rfl rfl)
theorem dX5_choice_79 : decode cX5_choice 79 = .ok (.new 143, 3) := dk_187 0 143 (dk_at dksX5_choice_3 8 rfl rfl)
theorem dX5_choice_82 : decode cX5_choice 82 = .ok (.dup, 1) := dk_89 (dk_at dksX5_choice_3 11 rfl rfl)
theorem dX5_choice_83 : decode cX5_choice 83 = .ok (.aload_n 3, 1) := dk_45 (dk_at dksX5_choice_3 12 rfl rfl)
theorem dX5_choice_84 : decode cX5_choice 84 = .ok (.aload 4, 2) := dk_25 4 (dk_at dksX5_choice_3 13 rfl rfl)
theorem dX5_choice_86 : decode cX5_choice 86 = .ok (.aload_n 0, 1) := dk_42 (dk_at dksX5_choice_3 15 rfl rfl)
theorem dX5_choice_87 : decode cX5_choice 87 = .ok (.invokevirtual 96, 3) := dk_182 0 96 (dk_at dksX5_choice_3 16 rfl rfl)
theorem dX5_choice_90 : decode cX5_choice 90 = .ok (.invokespecial 145, 3) := dk_183 0 145 (dk_at dksX5_choice_3 19 rfl rfl)
theorem dX5_choice_93 : decode cX5_choice 93 = .ok (.areturn, 1) := dk_176 (dk_at dksX5_choice_3 22 rfl rfl)
def dkwX5_sign_1 : List UInt8 := [181, 0, 111, 177]
abbrev dktX5_sign_1 : List UInt8 := dkwX5_sign_1 ++ []
def dkwX5_sign_0 : List UInt8 := [42, 42, 182, 0, 63, 27, 160, 0, 7, 4, 167, 0, 4, 3, 182, 0, 70, 42, 89, 180, 0, 111, 4, 96]
abbrev dktX5_sign_0 : List UInt8 := dkwX5_sign_0 ++ dktX5_sign_1
theorem dksX5_sign_0 : cX5_sign.data.toList.drop 0 = dktX5_sign_0 := by decide +kernel
theorem dksX5_sign_1 : cX5_sign.data.toList.drop 24 = dktX5_sign_1 := dk_seg dksX5_sign_0 24 rfl rfl
theorem dX5_sign_0 : decode cX5_sign 0 = .ok (.aload_n 0, 1) := dk_42 (dk_at dksX5_sign_0 0 rfl rfl)
theorem dX5_sign_1 : decode cX5_sign 1 = .ok (.aload_n 0, 1) := dk_42 (dk_at dksX5_sign_0 1 rfl rfl)
theorem dX5_sign_2 : decode cX5_sign 2 = .ok (.invokevirtual 63, 3) := dk_182 0 63 (dk_at dksX5_sign_0 2 rfl rfl)
theorem dX5_sign_5 : decode cX5_sign 5 = .ok (.iload_n 1, 1) := dk_27 (dk_at dksX5_sign_0 5 rfl rfl)
theorem dX5_sign_6 : decode cX5_sign 6 = .ok (.if_icmp .ne 7, 3) := dk_160 0 7 (dk_at dksX5_sign_0 6 rfl rfl)
theorem dX5_sign_9 : decode cX5_sign 9 = .ok (.iconst 1, 1) := dk_4 (dk_at dksX5_sign_0 9 rfl rfl)
theorem dX5_sign_10 : decode cX5_sign 10 = .ok (.goto 4, 3) := dk_167 0 4 (dk_at dksX5_sign_0 10 rfl rfl)
theorem dX5_sign_13 : decode cX5_sign 13 = .ok (.iconst 0, 1) := dk_3 (dk_at dksX5_sign_0 13 rfl rfl)
theorem dX5_sign_14 : decode cX5_sign 14 = .ok (.invokevirtual 70, 3) := dk_182 0 70 (dk_at dksX5_sign_0 14 rfl rfl)
theorem dX5_sign_17 : decode cX5_sign 17 = .ok (.aload_n 0, 1) := dk_42 (dk_at dksX5_sign_0 17 rfl rfl)
theorem dX5_sign_18 : decode cX5_sign 18 = .ok (.dup, 1) := dk_89 (dk_at dksX5_sign_0 18 rfl rfl)
theorem dX5_sign_19 : decode cX5_sign 19 = .ok (.getfield 111, 3) := dk_180 0 111 (dk_at dksX5_sign_0 19 rfl rfl)
theorem dX5_sign_22 : decode cX5_sign 22 = .ok (.iconst 1, 1) := dk_4 (dk_at dksX5_sign_0 22 rfl rfl)
theorem dX5_sign_23 : decode cX5_sign 23 = .ok (.iadd, 1) := dk_96 (dk_at dksX5_sign_0 23 rfl rfl)
theorem dX5_sign_24 : decode cX5_sign 24 = .ok (.putfield 111, 3) := dk_181 0 111 (dk_at dksX5_sign_1 0 rfl rfl)
theorem dX5_sign_27 : decode cX5_sign 27 = .ok (.return_, 1) := dk_177 (dk_at dksX5_sign_1 3 rfl rfl)
def dkwX6_init_0 : List UInt8 := [42, 183, 0, 1, 42, 43, 181, 0, 7, 42, 44, 181, 0, 13, 177]
abbrev dktX6_init_0 : List UInt8 := dkwX6_init_0 ++ []
theorem dksX6_init_0 : cX6_init.data.toList.drop 0 = dktX6_init_0 := by decide +kernel
theorem dX6_init_0 : decode cX6_init 0 = .ok (.aload_n 0, 1) := dk_42 (dk_at dksX6_init_0 0 rfl rfl)
theorem dX6_init_1 : decode cX6_init 1 = .ok (.invokespecial 1, 3) := dk_183 0 1 (dk_at dksX6_init_0 1 rfl rfl)
theorem dX6_init_4 : decode cX6_init 4 = .ok (.aload_n 0, 1) := dk_42 (dk_at dksX6_init_0 4 rfl rfl)
theorem dX6_init_5 : decode cX6_init 5 = .ok (.aload_n 1, 1) := dk_43 (dk_at dksX6_init_0 5 rfl rfl)
theorem dX6_init_6 : decode cX6_init 6 = .ok (.putfield 7, 3) := dk_181 0 7 (dk_at dksX6_init_0 6 rfl rfl)
theorem dX6_init_9 : decode cX6_init 9 = .ok (.aload_n 0, 1) := dk_42 (dk_at dksX6_init_0 9 rfl rfl)
theorem dX6_init_10 : decode cX6_init 10 = .ok (.aload_n 2, 1) := dk_44 (dk_at dksX6_init_0 10 rfl rfl)
theorem dX6_init_11 : decode cX6_init 11 = .ok (.putfield 13, 3) := dk_181 0 13 (dk_at dksX6_init_0 11 rfl rfl)
theorem dX6_init_14 : decode cX6_init 14 = .ok (.return_, 1) := dk_177 (dk_at dksX6_init_0 14 rfl rfl)
def dkwX6_value_1 : List UInt8 := [182, 0, 22, 172]
abbrev dktX6_value_1 : List UInt8 := dkwX6_value_1 ++ []
def dkwX6_value_0 : List UInt8 := [42, 180, 0, 7, 43, 185, 0, 16, 2, 0, 61, 42, 28, 42, 180, 0, 13, 43, 185, 0, 16, 2, 0]
abbrev dktX6_value_0 : List UInt8 := dkwX6_value_0 ++ dktX6_value_1
theorem dksX6_value_0 : cX6_value.data.toList.drop 0 = dktX6_value_0 := by decide +kernel
theorem dksX6_value_1 : cX6_value.data.toList.drop 23 = dktX6_value_1 := dk_seg dksX6_value_0 23 rfl rfl
theorem dX6_value_0 : decode cX6_value 0 = .ok (.aload_n 0, 1) := dk_42 (dk_at dksX6_value_0 0 rfl rfl)
theorem dX6_value_1 : decode cX6_value 1 = .ok (.getfield 7, 3) := dk_180 0 7 (dk_at dksX6_value_0 1 rfl rfl)
theorem dX6_value_4 : decode cX6_value 4 = .ok (.aload_n 1, 1) := dk_43 (dk_at dksX6_value_0 4 rfl rfl)
theorem dX6_value_5 : decode cX6_value 5 = .ok (.invokeinterface 16 2, 5) := by decide +kernel
theorem dX6_value_10 : decode cX6_value 10 = .ok (.istore_n 2, 1) := dk_61 (dk_at dksX6_value_0 10 rfl rfl)
theorem dX6_value_11 : decode cX6_value 11 = .ok (.aload_n 0, 1) := dk_42 (dk_at dksX6_value_0 11 rfl rfl)
theorem dX6_value_12 : decode cX6_value 12 = .ok (.iload_n 2, 1) := dk_28 (dk_at dksX6_value_0 12 rfl rfl)
theorem dX6_value_13 : decode cX6_value 13 = .ok (.aload_n 0, 1) := dk_42 (dk_at dksX6_value_0 13 rfl rfl)
theorem dX6_value_14 : decode cX6_value 14 = .ok (.getfield 13, 3) := dk_180 0 13 (dk_at dksX6_value_0 14 rfl rfl)
theorem dX6_value_17 : decode cX6_value 17 = .ok (.aload_n 1, 1) := dk_43 (dk_at dksX6_value_0 17 rfl rfl)
theorem dX6_value_18 : decode cX6_value 18 = .ok (.invokeinterface 16 2, 5) := by decide +kernel
theorem dX6_value_23 : decode cX6_value 23 = .ok (.invokevirtual 22, 3) := dk_182 0 22 (dk_at dksX6_value_1 0 rfl rfl)
theorem dX6_value_26 : decode cX6_value 26 = .ok (.ireturn, 1) := dk_172 (dk_at dksX6_value_1 3 rfl rfl)
def dkwX7_init_0 : List UInt8 := [42, 44, 45, 183, 0, 1, 42, 27, 181, 0, 7, 177]
abbrev dktX7_init_0 : List UInt8 := dkwX7_init_0 ++ []
theorem dksX7_init_0 : cX7_init.data.toList.drop 0 = dktX7_init_0 := by decide +kernel
theorem dX7_init_0 : decode cX7_init 0 = .ok (.aload_n 0, 1) := dk_42 (dk_at dksX7_init_0 0 rfl rfl)
theorem dX7_init_1 : decode cX7_init 1 = .ok (.aload_n 2, 1) := dk_44 (dk_at dksX7_init_0 1 rfl rfl)
theorem dX7_init_2 : decode cX7_init 2 = .ok (.aload_n 3, 1) := dk_45 (dk_at dksX7_init_0 2 rfl rfl)
theorem dX7_init_3 : decode cX7_init 3 = .ok (.invokespecial 1, 3) := dk_183 0 1 (dk_at dksX7_init_0 3 rfl rfl)
theorem dX7_init_6 : decode cX7_init 6 = .ok (.aload_n 0, 1) := dk_42 (dk_at dksX7_init_0 6 rfl rfl)
theorem dX7_init_7 : decode cX7_init 7 = .ok (.iload_n 1, 1) := dk_27 (dk_at dksX7_init_0 7 rfl rfl)
theorem dX7_init_8 : decode cX7_init 8 = .ok (.putfield 7, 3) := dk_181 0 7 (dk_at dksX7_init_0 8 rfl rfl)
theorem dX7_init_11 : decode cX7_init 11 = .ok (.return_, 1) := dk_177 (dk_at dksX7_init_0 11 rfl rfl)
def dkwX7_of_2 : List UInt8 := [27, 28, 96, 172, 27, 28, 100, 172, 27, 28, 104, 172, 28, 154, 0, 7, 3, 167, 0, 6, 27, 28, 108, 172]
abbrev dktX7_of_2 : List UInt8 := dkwX7_of_2 ++ []
def dkwX7_of_1 : List UInt8 := [170, 0, 0, 0, 0, 0, 0, 44, 0, 0, 0, 42, 0, 0, 0, 45, 0, 0, 0, 40, 0, 0, 0, 32, 0, 0, 0, 44, 0, 0, 0, 36]
abbrev dktX7_of_1 : List UInt8 := dkwX7_of_1 ++ dktX7_of_2
def dkwX7_of_0 : List UInt8 := [42, 180, 0, 7]
abbrev dktX7_of_0 : List UInt8 := dkwX7_of_0 ++ dktX7_of_1
theorem dksX7_of_0 : cX7_of.data.toList.drop 0 = dktX7_of_0 := by decide +kernel
theorem dksX7_of_1 : cX7_of.data.toList.drop 4 = dktX7_of_1 := dk_seg dksX7_of_0 4 rfl rfl
theorem dksX7_of_2 : cX7_of.data.toList.drop 36 = dktX7_of_2 := dk_seg dksX7_of_1 32 rfl rfl
theorem dX7_of_0 : decode cX7_of 0 = .ok (.aload_n 0, 1) := dk_42 (dk_at dksX7_of_0 0 rfl rfl)
theorem dX7_of_1 : decode cX7_of 1 = .ok (.getfield 7, 3) := dk_180 0 7 (dk_at dksX7_of_0 1 rfl rfl)
theorem dX7_of_4 : decode cX7_of 4 = .ok (.tableswitch 44 42 45 #[40, 32, 44, 36], 32) := by decide +kernel
theorem dX7_of_36 : decode cX7_of 36 = .ok (.iload_n 1, 1) := dk_27 (dk_at dksX7_of_2 0 rfl rfl)
theorem dX7_of_37 : decode cX7_of 37 = .ok (.iload_n 2, 1) := dk_28 (dk_at dksX7_of_2 1 rfl rfl)
theorem dX7_of_38 : decode cX7_of 38 = .ok (.iadd, 1) := dk_96 (dk_at dksX7_of_2 2 rfl rfl)
theorem dX7_of_39 : decode cX7_of 39 = .ok (.ireturn, 1) := dk_172 (dk_at dksX7_of_2 3 rfl rfl)
theorem dX7_of_40 : decode cX7_of 40 = .ok (.iload_n 1, 1) := dk_27 (dk_at dksX7_of_2 4 rfl rfl)
theorem dX7_of_41 : decode cX7_of 41 = .ok (.iload_n 2, 1) := dk_28 (dk_at dksX7_of_2 5 rfl rfl)
theorem dX7_of_42 : decode cX7_of 42 = .ok (.isub, 1) := dk_100 (dk_at dksX7_of_2 6 rfl rfl)
theorem dX7_of_43 : decode cX7_of 43 = .ok (.ireturn, 1) := dk_172 (dk_at dksX7_of_2 7 rfl rfl)
theorem dX7_of_44 : decode cX7_of 44 = .ok (.iload_n 1, 1) := dk_27 (dk_at dksX7_of_2 8 rfl rfl)
theorem dX7_of_45 : decode cX7_of 45 = .ok (.iload_n 2, 1) := dk_28 (dk_at dksX7_of_2 9 rfl rfl)
theorem dX7_of_46 : decode cX7_of 46 = .ok (.imul, 1) := dk_104 (dk_at dksX7_of_2 10 rfl rfl)
theorem dX7_of_47 : decode cX7_of 47 = .ok (.ireturn, 1) := dk_172 (dk_at dksX7_of_2 11 rfl rfl)
theorem dX7_of_48 : decode cX7_of 48 = .ok (.iload_n 2, 1) := dk_28 (dk_at dksX7_of_2 12 rfl rfl)
theorem dX7_of_49 : decode cX7_of 49 = .ok (.ifCond .ne 7, 3) := dk_154 0 7 (dk_at dksX7_of_2 13 rfl rfl)
theorem dX7_of_52 : decode cX7_of 52 = .ok (.iconst 0, 1) := dk_3 (dk_at dksX7_of_2 16 rfl rfl)
theorem dX7_of_53 : decode cX7_of 53 = .ok (.goto 6, 3) := dk_167 0 6 (dk_at dksX7_of_2 17 rfl rfl)
theorem dX7_of_56 : decode cX7_of 56 = .ok (.iload_n 1, 1) := dk_27 (dk_at dksX7_of_2 20 rfl rfl)
theorem dX7_of_57 : decode cX7_of 57 = .ok (.iload_n 2, 1) := dk_28 (dk_at dksX7_of_2 21 rfl rfl)
theorem dX7_of_58 : decode cX7_of 58 = .ok (.idiv, 1) := dk_108 (dk_at dksX7_of_2 22 rfl rfl)
theorem dX7_of_59 : decode cX7_of 59 = .ok (.ireturn, 1) := dk_172 (dk_at dksX7_of_2 23 rfl rfl)
def dkwX8_init_0 : List UInt8 := [42, 183, 0, 1, 42, 27, 181, 0, 7, 177]
abbrev dktX8_init_0 : List UInt8 := dkwX8_init_0 ++ []
theorem dksX8_init_0 : cX8_init.data.toList.drop 0 = dktX8_init_0 := by decide +kernel
theorem dX8_init_0 : decode cX8_init 0 = .ok (.aload_n 0, 1) := dk_42 (dk_at dksX8_init_0 0 rfl rfl)
theorem dX8_init_1 : decode cX8_init 1 = .ok (.invokespecial 1, 3) := dk_183 0 1 (dk_at dksX8_init_0 1 rfl rfl)
theorem dX8_init_4 : decode cX8_init 4 = .ok (.aload_n 0, 1) := dk_42 (dk_at dksX8_init_0 4 rfl rfl)
theorem dX8_init_5 : decode cX8_init 5 = .ok (.iload_n 1, 1) := dk_27 (dk_at dksX8_init_0 5 rfl rfl)
theorem dX8_init_6 : decode cX8_init 6 = .ok (.putfield 7, 3) := dk_181 0 7 (dk_at dksX8_init_0 6 rfl rfl)
theorem dX8_init_9 : decode cX8_init 9 = .ok (.return_, 1) := dk_177 (dk_at dksX8_init_0 9 rfl rfl)
def dkwX8_value_0 : List UInt8 := [43, 42, 180, 0, 7, 46, 172]
abbrev dktX8_value_0 : List UInt8 := dkwX8_value_0 ++ []
theorem dksX8_value_0 : cX8_value.data.toList.drop 0 = dktX8_value_0 := by decide +kernel
theorem dX8_value_0 : decode cX8_value 0 = .ok (.aload_n 1, 1) := dk_43 (dk_at dksX8_value_0 0 rfl rfl)
theorem dX8_value_1 : decode cX8_value 1 = .ok (.aload_n 0, 1) := dk_42 (dk_at dksX8_value_0 1 rfl rfl)
theorem dX8_value_2 : decode cX8_value 2 = .ok (.getfield 7, 3) := dk_180 0 7 (dk_at dksX8_value_0 2 rfl rfl)
theorem dX8_value_5 : decode cX8_value 5 = .ok (.iaload, 1) := dk_46 (dk_at dksX8_value_0 5 rfl rfl)
theorem dX8_value_6 : decode cX8_value 6 = .ok (.ireturn, 1) := dk_172 (dk_at dksX8_value_0 6 rfl rfl)
def dkwX9_init_0 : List UInt8 := [42, 183, 0, 1, 42, 27, 181, 0, 7, 177]
abbrev dktX9_init_0 : List UInt8 := dkwX9_init_0 ++ []
theorem dksX9_init_0 : cX9_init.data.toList.drop 0 = dktX9_init_0 := by decide +kernel
theorem dX9_init_0 : decode cX9_init 0 = .ok (.aload_n 0, 1) := dk_42 (dk_at dksX9_init_0 0 rfl rfl)
theorem dX9_init_1 : decode cX9_init 1 = .ok (.invokespecial 1, 3) := dk_183 0 1 (dk_at dksX9_init_0 1 rfl rfl)
theorem dX9_init_4 : decode cX9_init 4 = .ok (.aload_n 0, 1) := dk_42 (dk_at dksX9_init_0 4 rfl rfl)
theorem dX9_init_5 : decode cX9_init 5 = .ok (.iload_n 1, 1) := dk_27 (dk_at dksX9_init_0 5 rfl rfl)
theorem dX9_init_6 : decode cX9_init 6 = .ok (.putfield 7, 3) := dk_181 0 7 (dk_at dksX9_init_0 6 rfl rfl)
theorem dX9_init_9 : decode cX9_init 9 = .ok (.return_, 1) := dk_177 (dk_at dksX9_init_0 9 rfl rfl)
theorem dX9_value_0 : decode cX9_value 0 = .ok (.aload_n 0, 1) := by decide +kernel
theorem dX9_value_1 : decode cX9_value 1 = .ok (.getfield 7, 3) := by decide +kernel
theorem dX9_value_4 : decode cX9_value 4 = .ok (.ireturn, 1) := by decide +kernel
def dkwJ3_init_1 : List UInt8 := [182, 0, 27, 87, 42, 43, 181, 0, 31, 177]
abbrev dktJ3_init_1 : List UInt8 := dkwJ3_init_1 ++ []
def dkwJ3_init_0 : List UInt8 := [42, 183, 0, 1, 42, 42, 181, 0, 7, 42, 178, 0, 13, 181, 0, 17, 42, 178, 0, 20, 181, 0, 24, 42]
abbrev dktJ3_init_0 : List UInt8 := dkwJ3_init_0 ++ dktJ3_init_1
theorem dksJ3_init_0 : cJ3_init.data.toList.drop 0 = dktJ3_init_0 := by decide +kernel
theorem dksJ3_init_1 : cJ3_init.data.toList.drop 24 = dktJ3_init_1 := dk_seg dksJ3_init_0 24 rfl rfl
theorem dJ3_init_0 : decode cJ3_init 0 = .ok (.aload_n 0, 1) := dk_42 (dk_at dksJ3_init_0 0 rfl rfl)
theorem dJ3_init_1 : decode cJ3_init 1 = .ok (.invokespecial 1, 3) := dk_183 0 1 (dk_at dksJ3_init_0 1 rfl rfl)
theorem dJ3_init_4 : decode cJ3_init 4 = .ok (.aload_n 0, 1) := dk_42 (dk_at dksJ3_init_0 4 rfl rfl)
theorem dJ3_init_5 : decode cJ3_init 5 = .ok (.aload_n 0, 1) := dk_42 (dk_at dksJ3_init_0 5 rfl rfl)
theorem dJ3_init_6 : decode cJ3_init 6 = .ok (.putfield 7, 3) := dk_181 0 7 (dk_at dksJ3_init_0 6 rfl rfl)
theorem dJ3_init_9 : decode cJ3_init 9 = .ok (.aload_n 0, 1) := dk_42 (dk_at dksJ3_init_0 9 rfl rfl)
theorem dJ3_init_10 : decode cJ3_init 10 = .ok (.getstatic 13, 3) := dk_178 0 13 (dk_at dksJ3_init_0 10 rfl rfl)
theorem dJ3_init_13 : decode cJ3_init 13 = .ok (.putfield 17, 3) := dk_181 0 17 (dk_at dksJ3_init_0 13 rfl rfl)
theorem dJ3_init_16 : decode cJ3_init 16 = .ok (.aload_n 0, 1) := dk_42 (dk_at dksJ3_init_0 16 rfl rfl)
theorem dJ3_init_17 : decode cJ3_init 17 = .ok (.getstatic 20, 3) := dk_178 0 20 (dk_at dksJ3_init_0 17 rfl rfl)
theorem dJ3_init_20 : decode cJ3_init 20 = .ok (.putfield 24, 3) := dk_181 0 24 (dk_at dksJ3_init_0 20 rfl rfl)
theorem dJ3_init_23 : decode cJ3_init 23 = .ok (.aload_n 0, 1) := dk_42 (dk_at dksJ3_init_0 23 rfl rfl)
theorem dJ3_init_24 : decode cJ3_init 24 = .ok (.invokevirtual 27, 3) := dk_182 0 27 (dk_at dksJ3_init_1 0 rfl rfl)
theorem dJ3_init_27 : decode cJ3_init 27 = .ok (.pop, 1) := dk_87 (dk_at dksJ3_init_1 3 rfl rfl)
theorem dJ3_init_28 : decode cJ3_init 28 = .ok (.aload_n 0, 1) := dk_42 (dk_at dksJ3_init_1 4 rfl rfl)
theorem dJ3_init_29 : decode cJ3_init 29 = .ok (.aload_n 1, 1) := dk_43 (dk_at dksJ3_init_1 5 rfl rfl)
theorem dJ3_init_30 : decode cJ3_init 30 = .ok (.putfield 31, 3) := dk_181 0 31 (dk_at dksJ3_init_1 6 rfl rfl)
theorem dJ3_init_33 : decode cJ3_init 33 = .ok (.return_, 1) := dk_177 (dk_at dksJ3_init_1 9 rfl rfl)
def dkwJ3_init_2_1 : List UInt8 := [182, 0, 27, 87, 177]
abbrev dktJ3_init_2_1 : List UInt8 := dkwJ3_init_2_1 ++ []
def dkwJ3_init_2_0 : List UInt8 := [42, 183, 0, 1, 42, 42, 181, 0, 7, 42, 178, 0, 13, 181, 0, 17, 42, 178, 0, 20, 181, 0, 24, 42]
abbrev dktJ3_init_2_0 : List UInt8 := dkwJ3_init_2_0 ++ dktJ3_init_2_1
theorem dksJ3_init_2_0 : cJ3_init_2.data.toList.drop 0 = dktJ3_init_2_0 := by decide +kernel
theorem dksJ3_init_2_1 : cJ3_init_2.data.toList.drop 24 = dktJ3_init_2_1 := dk_seg dksJ3_init_2_0 24 rfl rfl
theorem dJ3_init_2_0 : decode cJ3_init_2 0 = .ok (.aload_n 0, 1) := dk_42 (dk_at dksJ3_init_2_0 0 rfl rfl)
theorem dJ3_init_2_1 : decode cJ3_init_2 1 = .ok (.invokespecial 1, 3) := dk_183 0 1 (dk_at dksJ3_init_2_0 1 rfl rfl)
theorem dJ3_init_2_4 : decode cJ3_init_2 4 = .ok (.aload_n 0, 1) := dk_42 (dk_at dksJ3_init_2_0 4 rfl rfl)
theorem dJ3_init_2_5 : decode cJ3_init_2 5 = .ok (.aload_n 0, 1) := dk_42 (dk_at dksJ3_init_2_0 5 rfl rfl)
theorem dJ3_init_2_6 : decode cJ3_init_2 6 = .ok (.putfield 7, 3) := dk_181 0 7 (dk_at dksJ3_init_2_0 6 rfl rfl)
theorem dJ3_init_2_9 : decode cJ3_init_2 9 = .ok (.aload_n 0, 1) := dk_42 (dk_at dksJ3_init_2_0 9 rfl rfl)
theorem dJ3_init_2_10 : decode cJ3_init_2 10 = .ok (.getstatic 13, 3) := dk_178 0 13 (dk_at dksJ3_init_2_0 10 rfl rfl)
theorem dJ3_init_2_13 : decode cJ3_init_2 13 = .ok (.putfield 17, 3) := dk_181 0 17 (dk_at dksJ3_init_2_0 13 rfl rfl)
theorem dJ3_init_2_16 : decode cJ3_init_2 16 = .ok (.aload_n 0, 1) := dk_42 (dk_at dksJ3_init_2_0 16 rfl rfl)
theorem dJ3_init_2_17 : decode cJ3_init_2 17 = .ok (.getstatic 20, 3) := dk_178 0 20 (dk_at dksJ3_init_2_0 17 rfl rfl)
theorem dJ3_init_2_20 : decode cJ3_init_2 20 = .ok (.putfield 24, 3) := dk_181 0 24 (dk_at dksJ3_init_2_0 20 rfl rfl)
theorem dJ3_init_2_23 : decode cJ3_init_2 23 = .ok (.aload_n 0, 1) := dk_42 (dk_at dksJ3_init_2_0 23 rfl rfl)
theorem dJ3_init_2_24 : decode cJ3_init_2 24 = .ok (.invokevirtual 27, 3) := dk_182 0 27 (dk_at dksJ3_init_2_1 0 rfl rfl)
theorem dJ3_init_2_27 : decode cJ3_init_2 27 = .ok (.pop, 1) := dk_87 (dk_at dksJ3_init_2_1 3 rfl rfl)
theorem dJ3_init_2_28 : decode cJ3_init_2 28 = .ok (.return_, 1) := dk_177 (dk_at dksJ3_init_2_1 4 rfl rfl)
def dkwJ4_init_0 : List UInt8 := [42, 43, 183, 0, 7, 177]
abbrev dktJ4_init_0 : List UInt8 := dkwJ4_init_0 ++ []
theorem dksJ4_init_0 : cJ4_init.data.toList.drop 0 = dktJ4_init_0 := by decide +kernel
theorem dJ4_init_0 : decode cJ4_init 0 = .ok (.aload_n 0, 1) := dk_42 (dk_at dksJ4_init_0 0 rfl rfl)
theorem dJ4_init_1 : decode cJ4_init 1 = .ok (.aload_n 1, 1) := dk_43 (dk_at dksJ4_init_0 1 rfl rfl)
theorem dJ4_init_2 : decode cJ4_init 2 = .ok (.invokespecial 7, 3) := dk_183 0 7 (dk_at dksJ4_init_0 2 rfl rfl)
theorem dJ4_init_5 : decode cJ4_init 5 = .ok (.return_, 1) := dk_177 (dk_at dksJ4_init_0 5 rfl rfl)
theorem dJ4_init_2_0 : decode cJ4_init_2 0 = .ok (.aload_n 0, 1) := by decide +kernel
theorem dJ4_init_2_1 : decode cJ4_init_2 1 = .ok (.invokespecial 1, 3) := by decide +kernel
theorem dJ4_init_2_4 : decode cJ4_init_2 4 = .ok (.return_, 1) := by decide +kernel
def dkwJ5_init_0 : List UInt8 := [42, 43, 183, 0, 7, 177]
abbrev dktJ5_init_0 : List UInt8 := dkwJ5_init_0 ++ []
theorem dksJ5_init_0 : cJ5_init.data.toList.drop 0 = dktJ5_init_0 := by decide +kernel
theorem dJ5_init_0 : decode cJ5_init 0 = .ok (.aload_n 0, 1) := dk_42 (dk_at dksJ5_init_0 0 rfl rfl)
theorem dJ5_init_1 : decode cJ5_init 1 = .ok (.aload_n 1, 1) := dk_43 (dk_at dksJ5_init_0 1 rfl rfl)
theorem dJ5_init_2 : decode cJ5_init 2 = .ok (.invokespecial 7, 3) := dk_183 0 7 (dk_at dksJ5_init_0 2 rfl rfl)
theorem dJ5_init_5 : decode cJ5_init 5 = .ok (.return_, 1) := dk_177 (dk_at dksJ5_init_0 5 rfl rfl)
theorem dJ5_init_2_0 : decode cJ5_init_2 0 = .ok (.aload_n 0, 1) := by decide +kernel
theorem dJ5_init_2_1 : decode cJ5_init_2 1 = .ok (.invokespecial 1, 3) := by decide +kernel
theorem dJ5_init_2_4 : decode cJ5_init_2 4 = .ok (.return_, 1) := by decide +kernel
def dkwJ6_init_0 : List UInt8 := [42, 43, 183, 0, 7, 177]
abbrev dktJ6_init_0 : List UInt8 := dkwJ6_init_0 ++ []
theorem dksJ6_init_0 : cJ6_init.data.toList.drop 0 = dktJ6_init_0 := by decide +kernel
theorem dJ6_init_0 : decode cJ6_init 0 = .ok (.aload_n 0, 1) := dk_42 (dk_at dksJ6_init_0 0 rfl rfl)
theorem dJ6_init_1 : decode cJ6_init 1 = .ok (.aload_n 1, 1) := dk_43 (dk_at dksJ6_init_0 1 rfl rfl)
theorem dJ6_init_2 : decode cJ6_init 2 = .ok (.invokespecial 7, 3) := dk_183 0 7 (dk_at dksJ6_init_0 2 rfl rfl)
theorem dJ6_init_5 : decode cJ6_init 5 = .ok (.return_, 1) := dk_177 (dk_at dksJ6_init_0 5 rfl rfl)
theorem dJ6_init_2_0 : decode cJ6_init_2 0 = .ok (.aload_n 0, 1) := by decide +kernel
theorem dJ6_init_2_1 : decode cJ6_init_2 1 = .ok (.invokespecial 1, 3) := by decide +kernel
theorem dJ6_init_2_4 : decode cJ6_init_2 4 = .ok (.return_, 1) := by decide +kernel
def dkwJ7_init_0 : List UInt8 := [42, 43, 183, 0, 7, 177]
abbrev dktJ7_init_0 : List UInt8 := dkwJ7_init_0 ++ []
theorem dksJ7_init_0 : cJ7_init.data.toList.drop 0 = dktJ7_init_0 := by decide +kernel
theorem dJ7_init_0 : decode cJ7_init 0 = .ok (.aload_n 0, 1) := dk_42 (dk_at dksJ7_init_0 0 rfl rfl)
theorem dJ7_init_1 : decode cJ7_init 1 = .ok (.aload_n 1, 1) := dk_43 (dk_at dksJ7_init_0 1 rfl rfl)
theorem dJ7_init_2 : decode cJ7_init 2 = .ok (.invokespecial 7, 3) := dk_183 0 7 (dk_at dksJ7_init_0 2 rfl rfl)
theorem dJ7_init_5 : decode cJ7_init 5 = .ok (.return_, 1) := dk_177 (dk_at dksJ7_init_0 5 rfl rfl)
def dkwJ8_length_0 : List UInt8 := [42, 180, 0, 9, 190, 42, 182, 1, 79, 122, 172]
abbrev dktJ8_length_0 : List UInt8 := dkwJ8_length_0 ++ []
theorem dksJ8_length_0 : cJ8_length.data.toList.drop 0 = dktJ8_length_0 := by decide +kernel
theorem dJ8_length_0 : decode cJ8_length 0 = .ok (.aload_n 0, 1) := dk_42 (dk_at dksJ8_length_0 0 rfl rfl)
theorem dJ8_length_1 : decode cJ8_length 1 = .ok (.getfield 9, 3) := dk_180 0 9 (dk_at dksJ8_length_0 1 rfl rfl)
theorem dJ8_length_4 : decode cJ8_length 4 = .ok (.arraylength, 1) := dk_190 (dk_at dksJ8_length_0 4 rfl rfl)
theorem dJ8_length_5 : decode cJ8_length 5 = .ok (.aload_n 0, 1) := dk_42 (dk_at dksJ8_length_0 5 rfl rfl)
theorem dJ8_length_6 : decode cJ8_length 6 = .ok (.invokevirtual 335, 3) := dk_182 1 79 (dk_at dksJ8_length_0 6 rfl rfl)
theorem dJ8_length_9 : decode cJ8_length 9 = .ok (.ishr, 1) := dk_122 (dk_at dksJ8_length_0 9 rfl rfl)
theorem dJ8_length_10 : decode cJ8_length 10 = .ok (.ireturn, 1) := dk_172 (dk_at dksJ8_length_0 10 rfl rfl)
def dkwJ8_coder_0 : List UInt8 := [178, 0, 38, 153, 0, 10, 42, 180, 0, 15, 167, 0, 4, 4, 172]
abbrev dktJ8_coder_0 : List UInt8 := dkwJ8_coder_0 ++ []
theorem dksJ8_coder_0 : cJ8_coder.data.toList.drop 0 = dktJ8_coder_0 := by decide +kernel
theorem dJ8_coder_0 : decode cJ8_coder 0 = .ok (.getstatic 38, 3) := dk_178 0 38 (dk_at dksJ8_coder_0 0 rfl rfl)
theorem dJ8_coder_3 : decode cJ8_coder 3 = .ok (.ifCond .eq 10, 3) := dk_153 0 10 (dk_at dksJ8_coder_0 3 rfl rfl)
theorem dJ8_coder_6 : decode cJ8_coder 6 = .ok (.aload_n 0, 1) := dk_42 (dk_at dksJ8_coder_0 6 rfl rfl)
theorem dJ8_coder_7 : decode cJ8_coder 7 = .ok (.getfield 15, 3) := dk_180 0 15 (dk_at dksJ8_coder_0 7 rfl rfl)
theorem dJ8_coder_10 : decode cJ8_coder 10 = .ok (.goto 4, 3) := dk_167 0 4 (dk_at dksJ8_coder_0 10 rfl rfl)
theorem dJ8_coder_13 : decode cJ8_coder 13 = .ok (.iconst 1, 1) := dk_4 (dk_at dksJ8_coder_0 13 rfl rfl)
theorem dJ8_coder_14 : decode cJ8_coder 14 = .ok (.ireturn, 1) := dk_172 (dk_at dksJ8_coder_0 14 rfl rfl)
def dkwJ8_charAt_1 : List UInt8 := [172]
abbrev dktJ8_charAt_1 : List UInt8 := dkwJ8_charAt_1 ++ []
def dkwJ8_charAt_0 : List UInt8 := [42, 182, 1, 236, 153, 0, 12, 42, 180, 0, 9, 27, 184, 1, 239, 172, 42, 180, 0, 9, 27, 184, 1, 242]
abbrev dktJ8_charAt_0 : List UInt8 := dkwJ8_charAt_0 ++ dktJ8_charAt_1
theorem dksJ8_charAt_0 : cJ8_charAt.data.toList.drop 0 = dktJ8_charAt_0 := by decide +kernel
theorem dksJ8_charAt_1 : cJ8_charAt.data.toList.drop 24 = dktJ8_charAt_1 := dk_seg dksJ8_charAt_0 24 rfl rfl
theorem dJ8_charAt_0 : decode cJ8_charAt 0 = .ok (.aload_n 0, 1) := dk_42 (dk_at dksJ8_charAt_0 0 rfl rfl)
theorem dJ8_charAt_1 : decode cJ8_charAt 1 = .ok (.invokevirtual 492, 3) := dk_182 1 236 (dk_at dksJ8_charAt_0 1 rfl rfl)
theorem dJ8_charAt_4 : decode cJ8_charAt 4 = .ok (.ifCond .eq 12, 3) := dk_153 0 12 (dk_at dksJ8_charAt_0 4 rfl rfl)
theorem dJ8_charAt_7 : decode cJ8_charAt 7 = .ok (.aload_n 0, 1) := dk_42 (dk_at dksJ8_charAt_0 7 rfl rfl)
theorem dJ8_charAt_8 : decode cJ8_charAt 8 = .ok (.getfield 9, 3) := dk_180 0 9 (dk_at dksJ8_charAt_0 8 rfl rfl)
theorem dJ8_charAt_11 : decode cJ8_charAt 11 = .ok (.iload_n 1, 1) := dk_27 (dk_at dksJ8_charAt_0 11 rfl rfl)
theorem dJ8_charAt_12 : decode cJ8_charAt 12 = .ok (.invokestatic 495, 3) := dk_184 1 239 (dk_at dksJ8_charAt_0 12 rfl rfl)
theorem dJ8_charAt_15 : decode cJ8_charAt 15 = .ok (.ireturn, 1) := dk_172 (dk_at dksJ8_charAt_0 15 rfl rfl)
theorem dJ8_charAt_16 : decode cJ8_charAt 16 = .ok (.aload_n 0, 1) := dk_42 (dk_at dksJ8_charAt_0 16 rfl rfl)
theorem dJ8_charAt_17 : decode cJ8_charAt 17 = .ok (.getfield 9, 3) := dk_180 0 9 (dk_at dksJ8_charAt_0 17 rfl rfl)
theorem dJ8_charAt_20 : decode cJ8_charAt 20 = .ok (.iload_n 1, 1) := dk_27 (dk_at dksJ8_charAt_0 20 rfl rfl)
theorem dJ8_charAt_21 : decode cJ8_charAt 21 = .ok (.invokestatic 498, 3) := dk_184 1 242 (dk_at dksJ8_charAt_0 21 rfl rfl)
theorem dJ8_charAt_24 : decode cJ8_charAt 24 = .ok (.ireturn, 1) := dk_172 (dk_at dksJ8_charAt_1 0 rfl rfl)
def dkwJ8_isLatin1_0 : List UInt8 := [178, 0, 38, 153, 0, 14, 42, 180, 0, 15, 154, 0, 7, 4, 167, 0, 4, 3, 172]
abbrev dktJ8_isLatin1_0 : List UInt8 := dkwJ8_isLatin1_0 ++ []
theorem dksJ8_isLatin1_0 : cJ8_isLatin1.data.toList.drop 0 = dktJ8_isLatin1_0 := by decide +kernel
theorem dJ8_isLatin1_0 : decode cJ8_isLatin1 0 = .ok (.getstatic 38, 3) := dk_178 0 38 (dk_at dksJ8_isLatin1_0 0 rfl rfl)
theorem dJ8_isLatin1_3 : decode cJ8_isLatin1 3 = .ok (.ifCond .eq 14, 3) := dk_153 0 14 (dk_at dksJ8_isLatin1_0 3 rfl rfl)
theorem dJ8_isLatin1_6 : decode cJ8_isLatin1 6 = .ok (.aload_n 0, 1) := dk_42 (dk_at dksJ8_isLatin1_0 6 rfl rfl)
theorem dJ8_isLatin1_7 : decode cJ8_isLatin1 7 = .ok (.getfield 15, 3) := dk_180 0 15 (dk_at dksJ8_isLatin1_0 7 rfl rfl)
theorem dJ8_isLatin1_10 : decode cJ8_isLatin1 10 = .ok (.ifCond .ne 7, 3) := dk_154 0 7 (dk_at dksJ8_isLatin1_0 10 rfl rfl)
theorem dJ8_isLatin1_13 : decode cJ8_isLatin1 13 = .ok (.iconst 1, 1) := dk_4 (dk_at dksJ8_isLatin1_0 13 rfl rfl)
theorem dJ8_isLatin1_14 : decode cJ8_isLatin1 14 = .ok (.goto 4, 3) := dk_167 0 4 (dk_at dksJ8_isLatin1_0 14 rfl rfl)
theorem dJ8_isLatin1_17 : decode cJ8_isLatin1 17 = .ok (.iconst 0, 1) := dk_3 (dk_at dksJ8_isLatin1_0 17 rfl rfl)
theorem dJ8_isLatin1_18 : decode cJ8_isLatin1 18 = .ok (.ireturn, 1) := dk_172 (dk_at dksJ8_isLatin1_0 18 rfl rfl)
def dkwJ8_checkIndex_0 : List UInt8 := [26, 27, 178, 4, 29, 184, 4, 35, 87, 177]
abbrev dktJ8_checkIndex_0 : List UInt8 := dkwJ8_checkIndex_0 ++ []
theorem dksJ8_checkIndex_0 : cJ8_checkIndex.data.toList.drop 0 = dktJ8_checkIndex_0 := by decide +kernel
theorem dJ8_checkIndex_0 : decode cJ8_checkIndex 0 = .ok (.iload_n 0, 1) := dk_26 (dk_at dksJ8_checkIndex_0 0 rfl rfl)
theorem dJ8_checkIndex_1 : decode cJ8_checkIndex 1 = .ok (.iload_n 1, 1) := dk_27 (dk_at dksJ8_checkIndex_0 1 rfl rfl)
theorem dJ8_checkIndex_2 : decode cJ8_checkIndex 2 = .ok (.getstatic 1053, 3) := dk_178 4 29 (dk_at dksJ8_checkIndex_0 2 rfl rfl)
theorem dJ8_checkIndex_5 : decode cJ8_checkIndex 5 = .ok (.invokestatic 1059, 3) := dk_184 4 35 (dk_at dksJ8_checkIndex_0 5 rfl rfl)
theorem dJ8_checkIndex_8 : decode cJ8_checkIndex 8 = .ok (.pop, 1) := dk_87 (dk_at dksJ8_checkIndex_0 8 rfl rfl)
theorem dJ8_checkIndex_9 : decode cJ8_checkIndex 9 = .ok (.return_, 1) := dk_177 (dk_at dksJ8_checkIndex_0 9 rfl rfl)
theorem dJ9_init_0 : decode cJ9_init 0 = .ok (.aload_n 0, 1) := by decide +kernel
theorem dJ9_init_1 : decode cJ9_init 1 = .ok (.invokespecial 1, 3) := by decide +kernel
theorem dJ9_init_4 : decode cJ9_init 4 = .ok (.return_, 1) := by decide +kernel
def dkwJ10_checkIndex_0 : List UInt8 := [26, 27, 1, 184, 0, 105, 172]
abbrev dktJ10_checkIndex_0 : List UInt8 := dkwJ10_checkIndex_0 ++ []
theorem dksJ10_checkIndex_0 : cJ10_checkIndex.data.toList.drop 0 = dktJ10_checkIndex_0 := by decide +kernel
theorem dJ10_checkIndex_0 : decode cJ10_checkIndex 0 = .ok (.iload_n 0, 1) := dk_26 (dk_at dksJ10_checkIndex_0 0 rfl rfl)
theorem dJ10_checkIndex_1 : decode cJ10_checkIndex 1 = .ok (.iload_n 1, 1) := dk_27 (dk_at dksJ10_checkIndex_0 1 rfl rfl)
theorem dJ10_checkIndex_2 : decode cJ10_checkIndex 2 = .ok (.aconst_null, 1) := dk_1 (dk_at dksJ10_checkIndex_0 2 rfl rfl)
theorem dJ10_checkIndex_3 : decode cJ10_checkIndex 3 = .ok (.invokestatic 105, 3) := dk_184 0 105 (dk_at dksJ10_checkIndex_0 3 rfl rfl)
theorem dJ10_checkIndex_6 : decode cJ10_checkIndex 6 = .ok (.ireturn, 1) := dk_172 (dk_at dksJ10_checkIndex_0 6 rfl rfl)
def dkwJ11_checkIndex_0 : List UInt8 := [26, 155, 0, 8, 26, 27, 161, 0, 10, 44, 26, 27, 184, 0, 95, 191, 26, 172]
abbrev dktJ11_checkIndex_0 : List UInt8 := dkwJ11_checkIndex_0 ++ []
theorem dksJ11_checkIndex_0 : cJ11_checkIndex.data.toList.drop 0 = dktJ11_checkIndex_0 := by decide +kernel
theorem dJ11_checkIndex_0 : decode cJ11_checkIndex 0 = .ok (.iload_n 0, 1) := dk_26 (dk_at dksJ11_checkIndex_0 0 rfl rfl)
theorem dJ11_checkIndex_1 : decode cJ11_checkIndex 1 = .ok (.ifCond .lt 8, 3) := dk_155 0 8 (dk_at dksJ11_checkIndex_0 1 rfl rfl)
theorem dJ11_checkIndex_4 : decode cJ11_checkIndex 4 = .ok (.iload_n 0, 1) := dk_26 (dk_at dksJ11_checkIndex_0 4 rfl rfl)
theorem dJ11_checkIndex_5 : decode cJ11_checkIndex 5 = .ok (.iload_n 1, 1) := dk_27 (dk_at dksJ11_checkIndex_0 5 rfl rfl)
theorem dJ11_checkIndex_6 : decode cJ11_checkIndex 6 = .ok (.if_icmp .lt 10, 3) := dk_161 0 10 (dk_at dksJ11_checkIndex_0 6 rfl rfl)
theorem dJ11_checkIndex_9 : decode cJ11_checkIndex 9 = .ok (.aload_n 2, 1) := dk_44 (dk_at dksJ11_checkIndex_0 9 rfl rfl)
theorem dJ11_checkIndex_10 : decode cJ11_checkIndex 10 = .ok (.iload_n 0, 1) := dk_26 (dk_at dksJ11_checkIndex_0 10 rfl rfl)
theorem dJ11_checkIndex_11 : decode cJ11_checkIndex 11 = .ok (.iload_n 1, 1) := dk_27 (dk_at dksJ11_checkIndex_0 11 rfl rfl)
theorem dJ11_checkIndex_12 : decode cJ11_checkIndex 12 = .ok (.invokestatic 95, 3) := dk_184 0 95 (dk_at dksJ11_checkIndex_0 12 rfl rfl)
theorem dJ11_checkIndex_15 : decode cJ11_checkIndex 15 = .ok (.athrow, 1) := dk_191 (dk_at dksJ11_checkIndex_0 15 rfl rfl)
theorem dJ11_checkIndex_16 : decode cJ11_checkIndex 16 = .ok (.iload_n 0, 1) := dk_26 (dk_at dksJ11_checkIndex_0 16 rfl rfl)
theorem dJ11_checkIndex_17 : decode cJ11_checkIndex 17 = .ok (.ireturn, 1) := dk_172 (dk_at dksJ11_checkIndex_0 17 rfl rfl)
theorem dJ12_init_0 : decode cJ12_init 0 = .ok (.aload_n 0, 1) := by decide +kernel
theorem dJ12_init_1 : decode cJ12_init 1 = .ok (.invokespecial 1, 3) := by decide +kernel
theorem dJ12_init_4 : decode cJ12_init 4 = .ok (.return_, 1) := by decide +kernel
def dkwJ13_min_0 : List UInt8 := [26, 27, 163, 0, 7, 26, 167, 0, 4, 27, 172]
abbrev dktJ13_min_0 : List UInt8 := dkwJ13_min_0 ++ []
theorem dksJ13_min_0 : cJ13_min.data.toList.drop 0 = dktJ13_min_0 := by decide +kernel
theorem dJ13_min_0 : decode cJ13_min 0 = .ok (.iload_n 0, 1) := dk_26 (dk_at dksJ13_min_0 0 rfl rfl)
theorem dJ13_min_1 : decode cJ13_min 1 = .ok (.iload_n 1, 1) := dk_27 (dk_at dksJ13_min_0 1 rfl rfl)
theorem dJ13_min_2 : decode cJ13_min 2 = .ok (.if_icmp .gt 7, 3) := dk_163 0 7 (dk_at dksJ13_min_0 2 rfl rfl)
theorem dJ13_min_5 : decode cJ13_min 5 = .ok (.iload_n 0, 1) := dk_26 (dk_at dksJ13_min_0 5 rfl rfl)
theorem dJ13_min_6 : decode cJ13_min 6 = .ok (.goto 4, 3) := dk_167 0 4 (dk_at dksJ13_min_0 6 rfl rfl)
theorem dJ13_min_9 : decode cJ13_min 9 = .ok (.iload_n 1, 1) := dk_27 (dk_at dksJ13_min_0 9 rfl rfl)
theorem dJ13_min_10 : decode cJ13_min 10 = .ok (.ireturn, 1) := dk_172 (dk_at dksJ13_min_0 10 rfl rfl)
def dkwJ13_abs_0 : List UInt8 := [26, 156, 0, 8, 26, 116, 167, 0, 4, 26, 172]
abbrev dktJ13_abs_0 : List UInt8 := dkwJ13_abs_0 ++ []
theorem dksJ13_abs_0 : cJ13_abs.data.toList.drop 0 = dktJ13_abs_0 := by decide +kernel
theorem dJ13_abs_0 : decode cJ13_abs 0 = .ok (.iload_n 0, 1) := dk_26 (dk_at dksJ13_abs_0 0 rfl rfl)
theorem dJ13_abs_1 : decode cJ13_abs 1 = .ok (.ifCond .ge 8, 3) := dk_156 0 8 (dk_at dksJ13_abs_0 1 rfl rfl)
theorem dJ13_abs_4 : decode cJ13_abs 4 = .ok (.iload_n 0, 1) := dk_26 (dk_at dksJ13_abs_0 4 rfl rfl)
theorem dJ13_abs_5 : decode cJ13_abs 5 = .ok (.ineg, 1) := dk_116 (dk_at dksJ13_abs_0 5 rfl rfl)
theorem dJ13_abs_6 : decode cJ13_abs 6 = .ok (.goto 4, 3) := dk_167 0 4 (dk_at dksJ13_abs_0 6 rfl rfl)
theorem dJ13_abs_9 : decode cJ13_abs 9 = .ok (.iload_n 0, 1) := dk_26 (dk_at dksJ13_abs_0 9 rfl rfl)
theorem dJ13_abs_10 : decode cJ13_abs 10 = .ok (.ireturn, 1) := dk_172 (dk_at dksJ13_abs_0 10 rfl rfl)
def dkwJ13_max_0 : List UInt8 := [26, 27, 161, 0, 7, 26, 167, 0, 4, 27, 172]
abbrev dktJ13_max_0 : List UInt8 := dkwJ13_max_0 ++ []
theorem dksJ13_max_0 : cJ13_max.data.toList.drop 0 = dktJ13_max_0 := by decide +kernel
theorem dJ13_max_0 : decode cJ13_max 0 = .ok (.iload_n 0, 1) := dk_26 (dk_at dksJ13_max_0 0 rfl rfl)
theorem dJ13_max_1 : decode cJ13_max 1 = .ok (.iload_n 1, 1) := dk_27 (dk_at dksJ13_max_0 1 rfl rfl)
theorem dJ13_max_2 : decode cJ13_max 2 = .ok (.if_icmp .lt 7, 3) := dk_161 0 7 (dk_at dksJ13_max_0 2 rfl rfl)
theorem dJ13_max_5 : decode cJ13_max 5 = .ok (.iload_n 0, 1) := dk_26 (dk_at dksJ13_max_0 5 rfl rfl)
theorem dJ13_max_6 : decode cJ13_max 6 = .ok (.goto 4, 3) := dk_167 0 4 (dk_at dksJ13_max_0 6 rfl rfl)
theorem dJ13_max_9 : decode cJ13_max 9 = .ok (.iload_n 1, 1) := dk_27 (dk_at dksJ13_max_0 9 rfl rfl)
theorem dJ13_max_10 : decode cJ13_max 10 = .ok (.ireturn, 1) := dk_172 (dk_at dksJ13_max_0 10 rfl rfl)
theorem dX11_init_0 : decode cX11_init 0 = .ok (.aload_n 0, 1) := by decide +kernel
theorem dX11_init_1 : decode cX11_init 1 = .ok (.invokespecial 1, 3) := by decide +kernel
theorem dX11_init_4 : decode cX11_init 4 = .ok (.return_, 1) := by decide +kernel
def dkwJ14_charAt_0 : List UInt8 := [27, 42, 190, 184, 0, 9, 42, 27, 51, 17, 0, 255, 126, 146, 172]
abbrev dktJ14_charAt_0 : List UInt8 := dkwJ14_charAt_0 ++ []
theorem dksJ14_charAt_0 : cJ14_charAt.data.toList.drop 0 = dktJ14_charAt_0 := by decide +kernel
theorem dJ14_charAt_0 : decode cJ14_charAt 0 = .ok (.iload_n 1, 1) := dk_27 (dk_at dksJ14_charAt_0 0 rfl rfl)
theorem dJ14_charAt_1 : decode cJ14_charAt 1 = .ok (.aload_n 0, 1) := dk_42 (dk_at dksJ14_charAt_0 1 rfl rfl)
theorem dJ14_charAt_2 : decode cJ14_charAt 2 = .ok (.arraylength, 1) := dk_190 (dk_at dksJ14_charAt_0 2 rfl rfl)
theorem dJ14_charAt_3 : decode cJ14_charAt 3 = .ok (.invokestatic 9, 3) := dk_184 0 9 (dk_at dksJ14_charAt_0 3 rfl rfl)
theorem dJ14_charAt_6 : decode cJ14_charAt 6 = .ok (.aload_n 0, 1) := dk_42 (dk_at dksJ14_charAt_0 6 rfl rfl)
theorem dJ14_charAt_7 : decode cJ14_charAt 7 = .ok (.iload_n 1, 1) := dk_27 (dk_at dksJ14_charAt_0 7 rfl rfl)
theorem dJ14_charAt_8 : decode cJ14_charAt 8 = .ok (.baload, 1) := dk_51 (dk_at dksJ14_charAt_0 8 rfl rfl)
theorem dJ14_charAt_9 : decode cJ14_charAt 9 = .ok (.sipush 255, 3) := dk_17 0 255 (dk_at dksJ14_charAt_0 9 rfl rfl)
theorem dJ14_charAt_12 : decode cJ14_charAt 12 = .ok (.iand, 1) := dk_126 (dk_at dksJ14_charAt_0 12 rfl rfl)
theorem dJ14_charAt_13 : decode cJ14_charAt 13 = .ok (.i2c, 1) := dk_146 (dk_at dksJ14_charAt_0 13 rfl rfl)
theorem dJ14_charAt_14 : decode cJ14_charAt 14 = .ok (.ireturn, 1) := dk_172 (dk_at dksJ14_charAt_0 14 rfl rfl)
def dkwJ15_charAt_0 : List UInt8 := [27, 42, 184, 0, 67, 42, 27, 184, 0, 71, 172]
abbrev dktJ15_charAt_0 : List UInt8 := dkwJ15_charAt_0 ++ []
theorem dksJ15_charAt_0 : cJ15_charAt.data.toList.drop 0 = dktJ15_charAt_0 := by decide +kernel
theorem dJ15_charAt_0 : decode cJ15_charAt 0 = .ok (.iload_n 1, 1) := dk_27 (dk_at dksJ15_charAt_0 0 rfl rfl)
theorem dJ15_charAt_1 : decode cJ15_charAt 1 = .ok (.aload_n 0, 1) := dk_42 (dk_at dksJ15_charAt_0 1 rfl rfl)
theorem dJ15_charAt_2 : decode cJ15_charAt 2 = .ok (.invokestatic 67, 3) := dk_184 0 67 (dk_at dksJ15_charAt_0 2 rfl rfl)
theorem dJ15_charAt_5 : decode cJ15_charAt 5 = .ok (.aload_n 0, 1) := dk_42 (dk_at dksJ15_charAt_0 5 rfl rfl)
theorem dJ15_charAt_6 : decode cJ15_charAt 6 = .ok (.iload_n 1, 1) := dk_27 (dk_at dksJ15_charAt_0 6 rfl rfl)
theorem dJ15_charAt_7 : decode cJ15_charAt 7 = .ok (.invokestatic 71, 3) := dk_184 0 71 (dk_at dksJ15_charAt_0 7 rfl rfl)
theorem dJ15_charAt_10 : decode cJ15_charAt 10 = .ok (.ireturn, 1) := dk_172 (dk_at dksJ15_charAt_0 10 rfl rfl)
def dkwJ15_checkIndex_0 : List UInt8 := [26, 43, 184, 0, 48, 184, 1, 158, 177]
abbrev dktJ15_checkIndex_0 : List UInt8 := dkwJ15_checkIndex_0 ++ []
theorem dksJ15_checkIndex_0 : cJ15_checkIndex.data.toList.drop 0 = dktJ15_checkIndex_0 := by decide +kernel
theorem dJ15_checkIndex_0 : decode cJ15_checkIndex 0 = .ok (.iload_n 0, 1) := dk_26 (dk_at dksJ15_checkIndex_0 0 rfl rfl)
theorem dJ15_checkIndex_1 : decode cJ15_checkIndex 1 = .ok (.aload_n 1, 1) := dk_43 (dk_at dksJ15_checkIndex_0 1 rfl rfl)
theorem dJ15_checkIndex_2 : decode cJ15_checkIndex 2 = .ok (.invokestatic 48, 3) := dk_184 0 48 (dk_at dksJ15_checkIndex_0 2 rfl rfl)
theorem dJ15_checkIndex_5 : decode cJ15_checkIndex 5 = .ok (.invokestatic 414, 3) := dk_184 1 158 (dk_at dksJ15_checkIndex_0 5 rfl rfl)
theorem dJ15_checkIndex_8 : decode cJ15_checkIndex 8 = .ok (.return_, 1) := dk_177 (dk_at dksJ15_checkIndex_0 8 rfl rfl)
def dkwJ15_length_0 : List UInt8 := [42, 190, 4, 122, 172]
abbrev dktJ15_length_0 : List UInt8 := dkwJ15_length_0 ++ []
theorem dksJ15_length_0 : cJ15_length.data.toList.drop 0 = dktJ15_length_0 := by decide +kernel
theorem dJ15_length_0 : decode cJ15_length 0 = .ok (.aload_n 0, 1) := dk_42 (dk_at dksJ15_length_0 0 rfl rfl)
theorem dJ15_length_1 : decode cJ15_length 1 = .ok (.arraylength, 1) := dk_190 (dk_at dksJ15_length_0 1 rfl rfl)
theorem dJ15_length_2 : decode cJ15_length 2 = .ok (.iconst 1, 1) := dk_4 (dk_at dksJ15_length_0 2 rfl rfl)
theorem dJ15_length_3 : decode cJ15_length 3 = .ok (.ishr, 1) := dk_122 (dk_at dksJ15_length_0 3 rfl rfl)
theorem dJ15_length_4 : decode cJ15_length 4 = .ok (.ireturn, 1) := dk_172 (dk_at dksJ15_length_0 4 rfl rfl)
def dkwJ15_getChar_2 : List UInt8 := [51, 17, 0, 255, 126, 178, 0, 63, 120, 128, 146, 172]
abbrev dktJ15_getChar_2 : List UInt8 := dkwJ15_getChar_2 ++ []
def dkwJ15_getChar_1 : List UInt8 := [183, 0, 56, 191, 27, 4, 120, 60, 42, 27, 132, 1, 1, 51, 17, 0, 255, 126, 178, 0, 59, 120, 42, 27]
abbrev dktJ15_getChar_1 : List UInt8 := dkwJ15_getChar_1 ++ dktJ15_getChar_2
def dkwJ15_getChar_0 : List UInt8 := [178, 0, 44, 154, 0, 25, 27, 155, 0, 11, 27, 42, 184, 0, 48, 161, 0, 13, 187, 0, 52, 89, 18, 54]
abbrev dktJ15_getChar_0 : List UInt8 := dkwJ15_getChar_0 ++ dktJ15_getChar_1
theorem dksJ15_getChar_0 : cJ15_getChar.data.toList.drop 0 = dktJ15_getChar_0 := by decide +kernel
theorem dksJ15_getChar_1 : cJ15_getChar.data.toList.drop 24 = dktJ15_getChar_1 := dk_seg dksJ15_getChar_0 24 rfl rfl
theorem dksJ15_getChar_2 : cJ15_getChar.data.toList.drop 48 = dktJ15_getChar_2 := dk_seg dksJ15_getChar_1 24 rfl rfl
theorem dJ15_getChar_0 : decode cJ15_getChar 0 = .ok (.getstatic 44, 3) := dk_178 0 44 (dk_at dksJ15_getChar_0 0 rfl rfl)
theorem dJ15_getChar_3 : decode cJ15_getChar 3 = .ok (.ifCond .ne 25, 3) := dk_154 0 25 (dk_at dksJ15_getChar_0 3 rfl rfl)
theorem dJ15_getChar_6 : decode cJ15_getChar 6 = .ok (.iload_n 1, 1) := dk_27 (dk_at dksJ15_getChar_0 6 rfl rfl)
theorem dJ15_getChar_7 : decode cJ15_getChar 7 = .ok (.ifCond .lt 11, 3) := dk_155 0 11 (dk_at dksJ15_getChar_0 7 rfl rfl)
theorem dJ15_getChar_10 : decode cJ15_getChar 10 = .ok (.iload_n 1, 1) := dk_27 (dk_at dksJ15_getChar_0 10 rfl rfl)
theorem dJ15_getChar_11 : decode cJ15_getChar 11 = .ok (.aload_n 0, 1) := dk_42 (dk_at dksJ15_getChar_0 11 rfl rfl)
theorem dJ15_getChar_12 : decode cJ15_getChar 12 = .ok (.invokestatic 48, 3) := dk_184 0 48 (dk_at dksJ15_getChar_0 12 rfl rfl)
theorem dJ15_getChar_15 : decode cJ15_getChar 15 = .ok (.if_icmp .lt 13, 3) := dk_161 0 13 (dk_at dksJ15_getChar_0 15 rfl rfl)
theorem dJ15_getChar_18 : decode cJ15_getChar 18 = .ok (.new 52, 3) := dk_187 0 52 (dk_at dksJ15_getChar_0 18 rfl rfl)
theorem dJ15_getChar_21 : decode cJ15_getChar 21 = .ok (.dup, 1) := dk_89 (dk_at dksJ15_getChar_0 21 rfl rfl)
theorem dJ15_getChar_22 : decode cJ15_getChar 22 = .ok (.ldc 54, 2) := dk_18 54 (dk_at dksJ15_getChar_0 22 rfl rfl)
theorem dJ15_getChar_24 : decode cJ15_getChar 24 = .ok (.invokespecial 56, 3) := dk_183 0 56 (dk_at dksJ15_getChar_1 0 rfl rfl)
theorem dJ15_getChar_27 : decode cJ15_getChar 27 = .ok (.athrow, 1) := dk_191 (dk_at dksJ15_getChar_1 3 rfl rfl)
theorem dJ15_getChar_28 : decode cJ15_getChar 28 = .ok (.iload_n 1, 1) := dk_27 (dk_at dksJ15_getChar_1 4 rfl rfl)
theorem dJ15_getChar_29 : decode cJ15_getChar 29 = .ok (.iconst 1, 1) := dk_4 (dk_at dksJ15_getChar_1 5 rfl rfl)
theorem dJ15_getChar_30 : decode cJ15_getChar 30 = .ok (.ishl, 1) := dk_120 (dk_at dksJ15_getChar_1 6 rfl rfl)
theorem dJ15_getChar_31 : decode cJ15_getChar 31 = .ok (.istore_n 1, 1) := dk_60 (dk_at dksJ15_getChar_1 7 rfl rfl)
theorem dJ15_getChar_32 : decode cJ15_getChar 32 = .ok (.aload_n 0, 1) := dk_42 (dk_at dksJ15_getChar_1 8 rfl rfl)
theorem dJ15_getChar_33 : decode cJ15_getChar 33 = .ok (.iload_n 1, 1) := dk_27 (dk_at dksJ15_getChar_1 9 rfl rfl)
theorem dJ15_getChar_34 : decode cJ15_getChar 34 = .ok (.iinc 1 1, 3) := dk_132 1 1 (dk_at dksJ15_getChar_1 10 rfl rfl)
theorem dJ15_getChar_37 : decode cJ15_getChar 37 = .ok (.baload, 1) := dk_51 (dk_at dksJ15_getChar_1 13 rfl rfl)
theorem dJ15_getChar_38 : decode cJ15_getChar 38 = .ok (.sipush 255, 3) := dk_17 0 255 (dk_at dksJ15_getChar_1 14 rfl rfl)
theorem dJ15_getChar_41 : decode cJ15_getChar 41 = .ok (.iand, 1) := dk_126 (dk_at dksJ15_getChar_1 17 rfl rfl)
theorem dJ15_getChar_42 : decode cJ15_getChar 42 = .ok (.getstatic 59, 3) := dk_178 0 59 (dk_at dksJ15_getChar_1 18 rfl rfl)
theorem dJ15_getChar_45 : decode cJ15_getChar 45 = .ok (.ishl, 1) := dk_120 (dk_at dksJ15_getChar_1 21 rfl rfl)
theorem dJ15_getChar_46 : decode cJ15_getChar 46 = .ok (.aload_n 0, 1) := dk_42 (dk_at dksJ15_getChar_1 22 rfl rfl)
theorem dJ15_getChar_47 : decode cJ15_getChar 47 = .ok (.iload_n 1, 1) := dk_27 (dk_at dksJ15_getChar_1 23 rfl rfl)
theorem dJ15_getChar_48 : decode cJ15_getChar 48 = .ok (.baload, 1) := dk_51 (dk_at dksJ15_getChar_2 0 rfl rfl)
theorem dJ15_getChar_49 : decode cJ15_getChar 49 = .ok (.sipush 255, 3) := dk_17 0 255 (dk_at dksJ15_getChar_2 1 rfl rfl)
theorem dJ15_getChar_52 : decode cJ15_getChar 52 = .ok (.iand, 1) := dk_126 (dk_at dksJ15_getChar_2 4 rfl rfl)
theorem dJ15_getChar_53 : decode cJ15_getChar 53 = .ok (.getstatic 63, 3) := dk_178 0 63 (dk_at dksJ15_getChar_2 5 rfl rfl)
theorem dJ15_getChar_56 : decode cJ15_getChar 56 = .ok (.ishl, 1) := dk_120 (dk_at dksJ15_getChar_2 8 rfl rfl)
theorem dJ15_getChar_57 : decode cJ15_getChar 57 = .ok (.ior, 1) := dk_128 (dk_at dksJ15_getChar_2 9 rfl rfl)
theorem dJ15_getChar_58 : decode cJ15_getChar 58 = .ok (.i2c, 1) := dk_146 (dk_at dksJ15_getChar_2 10 rfl rfl)
theorem dJ15_getChar_59 : decode cJ15_getChar 59 = .ok (.ireturn, 1) := dk_172 (dk_at dksJ15_getChar_2 11 rfl rfl)
def dkwX12_init_0 : List UInt8 := [42, 44, 45, 183, 0, 1, 42, 27, 181, 0, 7, 177]
abbrev dktX12_init_0 : List UInt8 := dkwX12_init_0 ++ []
theorem dksX12_init_0 : cX12_init.data.toList.drop 0 = dktX12_init_0 := by decide +kernel
theorem dX12_init_0 : decode cX12_init 0 = .ok (.aload_n 0, 1) := dk_42 (dk_at dksX12_init_0 0 rfl rfl)
theorem dX12_init_1 : decode cX12_init 1 = .ok (.aload_n 2, 1) := dk_44 (dk_at dksX12_init_0 1 rfl rfl)
theorem dX12_init_2 : decode cX12_init 2 = .ok (.aload_n 3, 1) := dk_45 (dk_at dksX12_init_0 2 rfl rfl)
theorem dX12_init_3 : decode cX12_init 3 = .ok (.invokespecial 1, 3) := dk_183 0 1 (dk_at dksX12_init_0 3 rfl rfl)
theorem dX12_init_6 : decode cX12_init 6 = .ok (.aload_n 0, 1) := dk_42 (dk_at dksX12_init_0 6 rfl rfl)
theorem dX12_init_7 : decode cX12_init 7 = .ok (.iload_n 1, 1) := dk_27 (dk_at dksX12_init_0 7 rfl rfl)
theorem dX12_init_8 : decode cX12_init 8 = .ok (.putfield 7, 3) := dk_181 0 7 (dk_at dksX12_init_0 8 rfl rfl)
theorem dX12_init_11 : decode cX12_init 11 = .ok (.return_, 1) := dk_177 (dk_at dksX12_init_0 11 rfl rfl)
def dkwX12_of_1 : List UInt8 := [160, 0, 11, 27, 28, 164, 0, 15, 167, 0, 8, 27, 28, 160, 0, 7, 4, 167, 0, 4, 3, 172]
abbrev dktX12_of_1 : List UInt8 := dkwX12_of_1 ++ []
def dkwX12_of_0 : List UInt8 := [42, 180, 0, 7, 16, 60, 160, 0, 11, 27, 28, 162, 0, 32, 167, 0, 25, 42, 180, 0, 7, 16, 62]
abbrev dktX12_of_0 : List UInt8 := dkwX12_of_0 ++ dktX12_of_1
theorem dksX12_of_0 : cX12_of.data.toList.drop 0 = dktX12_of_0 := by decide +kernel
theorem dksX12_of_1 : cX12_of.data.toList.drop 23 = dktX12_of_1 := dk_seg dksX12_of_0 23 rfl rfl
theorem dX12_of_0 : decode cX12_of 0 = .ok (.aload_n 0, 1) := dk_42 (dk_at dksX12_of_0 0 rfl rfl)
theorem dX12_of_1 : decode cX12_of 1 = .ok (.getfield 7, 3) := dk_180 0 7 (dk_at dksX12_of_0 1 rfl rfl)
theorem dX12_of_4 : decode cX12_of 4 = .ok (.bipush 60, 2) := dk_16 60 (dk_at dksX12_of_0 4 rfl rfl)
theorem dX12_of_6 : decode cX12_of 6 = .ok (.if_icmp .ne 11, 3) := dk_160 0 11 (dk_at dksX12_of_0 6 rfl rfl)
theorem dX12_of_9 : decode cX12_of 9 = .ok (.iload_n 1, 1) := dk_27 (dk_at dksX12_of_0 9 rfl rfl)
theorem dX12_of_10 : decode cX12_of 10 = .ok (.iload_n 2, 1) := dk_28 (dk_at dksX12_of_0 10 rfl rfl)
theorem dX12_of_11 : decode cX12_of 11 = .ok (.if_icmp .ge 32, 3) := dk_162 0 32 (dk_at dksX12_of_0 11 rfl rfl)
theorem dX12_of_14 : decode cX12_of 14 = .ok (.goto 25, 3) := dk_167 0 25 (dk_at dksX12_of_0 14 rfl rfl)
theorem dX12_of_17 : decode cX12_of 17 = .ok (.aload_n 0, 1) := dk_42 (dk_at dksX12_of_0 17 rfl rfl)
theorem dX12_of_18 : decode cX12_of 18 = .ok (.getfield 7, 3) := dk_180 0 7 (dk_at dksX12_of_0 18 rfl rfl)
theorem dX12_of_21 : decode cX12_of 21 = .ok (.bipush 62, 2) := dk_16 62 (dk_at dksX12_of_0 21 rfl rfl)
theorem dX12_of_23 : decode cX12_of 23 = .ok (.if_icmp .ne 11, 3) := dk_160 0 11 (dk_at dksX12_of_1 0 rfl rfl)
theorem dX12_of_26 : decode cX12_of 26 = .ok (.iload_n 1, 1) := dk_27 (dk_at dksX12_of_1 3 rfl rfl)
theorem dX12_of_27 : decode cX12_of 27 = .ok (.iload_n 2, 1) := dk_28 (dk_at dksX12_of_1 4 rfl rfl)
theorem dX12_of_28 : decode cX12_of 28 = .ok (.if_icmp .le 15, 3) := dk_164 0 15 (dk_at dksX12_of_1 5 rfl rfl)
theorem dX12_of_31 : decode cX12_of 31 = .ok (.goto 8, 3) := dk_167 0 8 (dk_at dksX12_of_1 8 rfl rfl)
theorem dX12_of_34 : decode cX12_of 34 = .ok (.iload_n 1, 1) := dk_27 (dk_at dksX12_of_1 11 rfl rfl)
theorem dX12_of_35 : decode cX12_of 35 = .ok (.iload_n 2, 1) := dk_28 (dk_at dksX12_of_1 12 rfl rfl)
theorem dX12_of_36 : decode cX12_of 36 = .ok (.if_icmp .ne 7, 3) := dk_160 0 7 (dk_at dksX12_of_1 13 rfl rfl)
theorem dX12_of_39 : decode cX12_of 39 = .ok (.iconst 1, 1) := dk_4 (dk_at dksX12_of_1 16 rfl rfl)
theorem dX12_of_40 : decode cX12_of 40 = .ok (.goto 4, 3) := dk_167 0 4 (dk_at dksX12_of_1 17 rfl rfl)
theorem dX12_of_43 : decode cX12_of 43 = .ok (.iconst 0, 1) := dk_3 (dk_at dksX12_of_1 20 rfl rfl)
theorem dX12_of_44 : decode cX12_of 44 = .ok (.ireturn, 1) := dk_172 (dk_at dksX12_of_1 21 rfl rfl)
def dkwX13_init_0 : List UInt8 := [42, 183, 0, 1, 42, 43, 181, 0, 7, 42, 44, 181, 0, 13, 42, 45, 181, 0, 16, 177]
abbrev dktX13_init_0 : List UInt8 := dkwX13_init_0 ++ []
theorem dksX13_init_0 : cX13_init.data.toList.drop 0 = dktX13_init_0 := by decide +kernel
theorem dX13_init_0 : decode cX13_init 0 = .ok (.aload_n 0, 1) := dk_42 (dk_at dksX13_init_0 0 rfl rfl)
theorem dX13_init_1 : decode cX13_init 1 = .ok (.invokespecial 1, 3) := dk_183 0 1 (dk_at dksX13_init_0 1 rfl rfl)
theorem dX13_init_4 : decode cX13_init 4 = .ok (.aload_n 0, 1) := dk_42 (dk_at dksX13_init_0 4 rfl rfl)
theorem dX13_init_5 : decode cX13_init 5 = .ok (.aload_n 1, 1) := dk_43 (dk_at dksX13_init_0 5 rfl rfl)
theorem dX13_init_6 : decode cX13_init 6 = .ok (.putfield 7, 3) := dk_181 0 7 (dk_at dksX13_init_0 6 rfl rfl)
theorem dX13_init_9 : decode cX13_init 9 = .ok (.aload_n 0, 1) := dk_42 (dk_at dksX13_init_0 9 rfl rfl)
theorem dX13_init_10 : decode cX13_init 10 = .ok (.aload_n 2, 1) := dk_44 (dk_at dksX13_init_0 10 rfl rfl)
theorem dX13_init_11 : decode cX13_init 11 = .ok (.putfield 13, 3) := dk_181 0 13 (dk_at dksX13_init_0 11 rfl rfl)
theorem dX13_init_14 : decode cX13_init 14 = .ok (.aload_n 0, 1) := dk_42 (dk_at dksX13_init_0 14 rfl rfl)
theorem dX13_init_15 : decode cX13_init 15 = .ok (.aload_n 3, 1) := dk_45 (dk_at dksX13_init_0 15 rfl rfl)
theorem dX13_init_16 : decode cX13_init 16 = .ok (.putfield 16, 3) := dk_181 0 16 (dk_at dksX13_init_0 16 rfl rfl)
theorem dX13_init_19 : decode cX13_init 19 = .ok (.return_, 1) := dk_177 (dk_at dksX13_init_0 19 rfl rfl)
def dkwX13_value_1 : List UInt8 := [167, 0, 13, 42, 180, 0, 16, 43, 185, 0, 19, 2, 0, 172]
abbrev dktX13_value_1 : List UInt8 := dkwX13_value_1 ++ []
def dkwX13_value_0 : List UInt8 := [42, 180, 0, 7, 43, 185, 0, 19, 2, 0, 4, 160, 0, 16, 42, 180, 0, 13, 43, 185, 0, 19, 2, 0]
abbrev dktX13_value_0 : List UInt8 := dkwX13_value_0 ++ dktX13_value_1
theorem dksX13_value_0 : cX13_value.data.toList.drop 0 = dktX13_value_0 := by decide +kernel
theorem dksX13_value_1 : cX13_value.data.toList.drop 24 = dktX13_value_1 := dk_seg dksX13_value_0 24 rfl rfl
theorem dX13_value_0 : decode cX13_value 0 = .ok (.aload_n 0, 1) := dk_42 (dk_at dksX13_value_0 0 rfl rfl)
theorem dX13_value_1 : decode cX13_value 1 = .ok (.getfield 7, 3) := dk_180 0 7 (dk_at dksX13_value_0 1 rfl rfl)
theorem dX13_value_4 : decode cX13_value 4 = .ok (.aload_n 1, 1) := dk_43 (dk_at dksX13_value_0 4 rfl rfl)
theorem dX13_value_5 : decode cX13_value 5 = .ok (.invokeinterface 19 2, 5) := by decide +kernel
theorem dX13_value_10 : decode cX13_value 10 = .ok (.iconst 1, 1) := dk_4 (dk_at dksX13_value_0 10 rfl rfl)
theorem dX13_value_11 : decode cX13_value 11 = .ok (.if_icmp .ne 16, 3) := dk_160 0 16 (dk_at dksX13_value_0 11 rfl rfl)
theorem dX13_value_14 : decode cX13_value 14 = .ok (.aload_n 0, 1) := dk_42 (dk_at dksX13_value_0 14 rfl rfl)
theorem dX13_value_15 : decode cX13_value 15 = .ok (.getfield 13, 3) := dk_180 0 13 (dk_at dksX13_value_0 15 rfl rfl)
theorem dX13_value_18 : decode cX13_value 18 = .ok (.aload_n 1, 1) := dk_43 (dk_at dksX13_value_0 18 rfl rfl)
theorem dX13_value_19 : decode cX13_value 19 = .ok (.invokeinterface 19 2, 5) := by decide +kernel
theorem dX13_value_24 : decode cX13_value 24 = .ok (.goto 13, 3) := dk_167 0 13 (dk_at dksX13_value_1 0 rfl rfl)
theorem dX13_value_27 : decode cX13_value 27 = .ok (.aload_n 0, 1) := dk_42 (dk_at dksX13_value_1 3 rfl rfl)
theorem dX13_value_28 : decode cX13_value 28 = .ok (.getfield 16, 3) := dk_180 0 16 (dk_at dksX13_value_1 4 rfl rfl)
theorem dX13_value_31 : decode cX13_value 31 = .ok (.aload_n 1, 1) := dk_43 (dk_at dksX13_value_1 7 rfl rfl)
theorem dX13_value_32 : decode cX13_value 32 = .ok (.invokeinterface 19 2, 5) := by decide +kernel
theorem dX13_value_37 : decode cX13_value 37 = .ok (.ireturn, 1) := dk_172 (dk_at dksX13_value_1 13 rfl rfl)
def dkwX14_init_0 : List UInt8 := [42, 43, 44, 183, 0, 1, 177]
abbrev dktX14_init_0 : List UInt8 := dkwX14_init_0 ++ []
theorem dksX14_init_0 : cX14_init.data.toList.drop 0 = dktX14_init_0 := by decide +kernel
theorem dX14_init_0 : decode cX14_init 0 = .ok (.aload_n 0, 1) := dk_42 (dk_at dksX14_init_0 0 rfl rfl)
theorem dX14_init_1 : decode cX14_init 1 = .ok (.aload_n 1, 1) := dk_43 (dk_at dksX14_init_0 1 rfl rfl)
theorem dX14_init_2 : decode cX14_init 2 = .ok (.aload_n 2, 1) := dk_44 (dk_at dksX14_init_0 2 rfl rfl)
theorem dX14_init_3 : decode cX14_init 3 = .ok (.invokespecial 1, 3) := dk_183 0 1 (dk_at dksX14_init_0 3 rfl rfl)
theorem dX14_init_6 : decode cX14_init 6 = .ok (.return_, 1) := dk_177 (dk_at dksX14_init_0 6 rfl rfl)
def dkwX14_of_0 : List UInt8 := [27, 28, 184, 0, 7, 172]
abbrev dktX14_of_0 : List UInt8 := dkwX14_of_0 ++ []
theorem dksX14_of_0 : cX14_of.data.toList.drop 0 = dktX14_of_0 := by decide +kernel
theorem dX14_of_0 : decode cX14_of 0 = .ok (.iload_n 1, 1) := dk_27 (dk_at dksX14_of_0 0 rfl rfl)
theorem dX14_of_1 : decode cX14_of 1 = .ok (.iload_n 2, 1) := dk_28 (dk_at dksX14_of_0 1 rfl rfl)
theorem dX14_of_2 : decode cX14_of 2 = .ok (.invokestatic 7, 3) := dk_184 0 7 (dk_at dksX14_of_0 2 rfl rfl)
theorem dX14_of_5 : decode cX14_of 5 = .ok (.ireturn, 1) := dk_172 (dk_at dksX14_of_0 5 rfl rfl)
def dkwX15_init_0 : List UInt8 := [42, 43, 44, 183, 0, 1, 177]
abbrev dktX15_init_0 : List UInt8 := dkwX15_init_0 ++ []
theorem dksX15_init_0 : cX15_init.data.toList.drop 0 = dktX15_init_0 := by decide +kernel
theorem dX15_init_0 : decode cX15_init 0 = .ok (.aload_n 0, 1) := dk_42 (dk_at dksX15_init_0 0 rfl rfl)
theorem dX15_init_1 : decode cX15_init 1 = .ok (.aload_n 1, 1) := dk_43 (dk_at dksX15_init_0 1 rfl rfl)
theorem dX15_init_2 : decode cX15_init 2 = .ok (.aload_n 2, 1) := dk_44 (dk_at dksX15_init_0 2 rfl rfl)
theorem dX15_init_3 : decode cX15_init 3 = .ok (.invokespecial 1, 3) := dk_183 0 1 (dk_at dksX15_init_0 3 rfl rfl)
theorem dX15_init_6 : decode cX15_init 6 = .ok (.return_, 1) := dk_177 (dk_at dksX15_init_0 6 rfl rfl)
def dkwX15_of_0 : List UInt8 := [27, 28, 184, 0, 7, 172]
abbrev dktX15_of_0 : List UInt8 := dkwX15_of_0 ++ []
theorem dksX15_of_0 : cX15_of.data.toList.drop 0 = dktX15_of_0 := by decide +kernel
theorem dX15_of_0 : decode cX15_of 0 = .ok (.iload_n 1, 1) := dk_27 (dk_at dksX15_of_0 0 rfl rfl)
theorem dX15_of_1 : decode cX15_of 1 = .ok (.iload_n 2, 1) := dk_28 (dk_at dksX15_of_0 1 rfl rfl)
theorem dX15_of_2 : decode cX15_of 2 = .ok (.invokestatic 7, 3) := dk_184 0 7 (dk_at dksX15_of_0 2 rfl rfl)
theorem dX15_of_5 : decode cX15_of 5 = .ok (.ireturn, 1) := dk_172 (dk_at dksX15_of_0 5 rfl rfl)
def dkwX16_init_1 : List UInt8 := [181, 0, 18, 42, 28, 181, 0, 22, 42, 29, 181, 0, 25, 177]
abbrev dktX16_init_1 : List UInt8 := dkwX16_init_1 ++ []
def dkwX16_init_0 : List UInt8 := [42, 183, 0, 3, 42, 16, 20, 188, 10, 181, 0, 9, 42, 16, 20, 188, 10, 181, 0, 15, 42, 27]
abbrev dktX16_init_0 : List UInt8 := dkwX16_init_0 ++ dktX16_init_1
theorem dksX16_init_0 : cX16_init.data.toList.drop 0 = dktX16_init_0 := by decide +kernel
theorem dksX16_init_1 : cX16_init.data.toList.drop 22 = dktX16_init_1 := dk_seg dksX16_init_0 22 rfl rfl
theorem dX16_init_0 : decode cX16_init 0 = .ok (.aload_n 0, 1) := dk_42 (dk_at dksX16_init_0 0 rfl rfl)
theorem dX16_init_1 : decode cX16_init 1 = .ok (.invokespecial 3, 3) := dk_183 0 3 (dk_at dksX16_init_0 1 rfl rfl)
theorem dX16_init_4 : decode cX16_init 4 = .ok (.aload_n 0, 1) := dk_42 (dk_at dksX16_init_0 4 rfl rfl)
theorem dX16_init_5 : decode cX16_init 5 = .ok (.bipush 20, 2) := dk_16 20 (dk_at dksX16_init_0 5 rfl rfl)
theorem dX16_init_7 : decode cX16_init 7 = .ok (.newarray .int, 2) := dk_188_10 (dk_at dksX16_init_0 7 rfl rfl)
theorem dX16_init_9 : decode cX16_init 9 = .ok (.putfield 9, 3) := dk_181 0 9 (dk_at dksX16_init_0 9 rfl rfl)
theorem dX16_init_12 : decode cX16_init 12 = .ok (.aload_n 0, 1) := dk_42 (dk_at dksX16_init_0 12 rfl rfl)
theorem dX16_init_13 : decode cX16_init 13 = .ok (.bipush 20, 2) := dk_16 20 (dk_at dksX16_init_0 13 rfl rfl)
theorem dX16_init_15 : decode cX16_init 15 = .ok (.newarray .int, 2) := dk_188_10 (dk_at dksX16_init_0 15 rfl rfl)
theorem dX16_init_17 : decode cX16_init 17 = .ok (.putfield 15, 3) := dk_181 0 15 (dk_at dksX16_init_0 17 rfl rfl)
theorem dX16_init_20 : decode cX16_init 20 = .ok (.aload_n 0, 1) := dk_42 (dk_at dksX16_init_0 20 rfl rfl)
theorem dX16_init_21 : decode cX16_init 21 = .ok (.iload_n 1, 1) := dk_27 (dk_at dksX16_init_0 21 rfl rfl)
theorem dX16_init_22 : decode cX16_init 22 = .ok (.putfield 18, 3) := dk_181 0 18 (dk_at dksX16_init_1 0 rfl rfl)
theorem dX16_init_25 : decode cX16_init 25 = .ok (.aload_n 0, 1) := dk_42 (dk_at dksX16_init_1 3 rfl rfl)
theorem dX16_init_26 : decode cX16_init 26 = .ok (.iload_n 2, 1) := dk_28 (dk_at dksX16_init_1 4 rfl rfl)
theorem dX16_init_27 : decode cX16_init 27 = .ok (.putfield 22, 3) := dk_181 0 22 (dk_at dksX16_init_1 5 rfl rfl)
theorem dX16_init_30 : decode cX16_init 30 = .ok (.aload_n 0, 1) := dk_42 (dk_at dksX16_init_1 8 rfl rfl)
theorem dX16_init_31 : decode cX16_init 31 = .ok (.iload_n 3, 1) := dk_29 (dk_at dksX16_init_1 9 rfl rfl)
theorem dX16_init_32 : decode cX16_init 32 = .ok (.putfield 25, 3) := dk_181 0 25 (dk_at dksX16_init_1 10 rfl rfl)
theorem dX16_init_35 : decode cX16_init 35 = .ok (.return_, 1) := dk_177 (dk_at dksX16_init_1 13 rfl rfl)
def dkwJ16_newLength_1 : List UInt8 := [184, 0, 201, 172]
abbrev dktJ16_newLength_1 : List UInt8 := dkwJ16_newLength_1 ++ []
def dkwJ16_newLength_0 : List UInt8 := [26, 27, 28, 184, 0, 194, 96, 62, 3, 29, 162, 0, 11, 29, 18, 200, 163, 0, 5, 29, 172, 26, 27]
abbrev dktJ16_newLength_0 : List UInt8 := dkwJ16_newLength_0 ++ dktJ16_newLength_1
theorem dksJ16_newLength_0 : cJ16_newLength.data.toList.drop 0 = dktJ16_newLength_0 := by decide +kernel
theorem dksJ16_newLength_1 : cJ16_newLength.data.toList.drop 23 = dktJ16_newLength_1 := dk_seg dksJ16_newLength_0 23 rfl rfl
theorem dJ16_newLength_0 : decode cJ16_newLength 0 = .ok (.iload_n 0, 1) := dk_26 (dk_at dksJ16_newLength_0 0 rfl rfl)
theorem dJ16_newLength_1 : decode cJ16_newLength 1 = .ok (.iload_n 1, 1) := dk_27 (dk_at dksJ16_newLength_0 1 rfl rfl)
theorem dJ16_newLength_2 : decode cJ16_newLength 2 = .ok (.iload_n 2, 1) := dk_28 (dk_at dksJ16_newLength_0 2 rfl rfl)
theorem dJ16_newLength_3 : decode cJ16_newLength 3 = .ok (.invokestatic 194, 3) := dk_184 0 194 (dk_at dksJ16_newLength_0 3 rfl rfl)
theorem dJ16_newLength_6 : decode cJ16_newLength 6 = .ok (.iadd, 1) := dk_96 (dk_at dksJ16_newLength_0 6 rfl rfl)
theorem dJ16_newLength_7 : decode cJ16_newLength 7 = .ok (.istore_n 3, 1) := dk_62 (dk_at dksJ16_newLength_0 7 rfl rfl)
theorem dJ16_newLength_8 : decode cJ16_newLength 8 = .ok (.iconst 0, 1) := dk_3 (dk_at dksJ16_newLength_0 8 rfl rfl)
theorem dJ16_newLength_9 : decode cJ16_newLength 9 = .ok (.iload_n 3, 1) := dk_29 (dk_at dksJ16_newLength_0 9 rfl rfl)
theorem dJ16_newLength_10 : decode cJ16_newLength 10 = .ok (.if_icmp .ge 11, 3) := dk_162 0 11 (dk_at dksJ16_newLength_0 10 rfl rfl)
theorem dJ16_newLength_13 : decode cJ16_newLength 13 = .ok (.iload_n 3, 1) := dk_29 (dk_at dksJ16_newLength_0 13 rfl rfl)
theorem dJ16_newLength_14 : decode cJ16_newLength 14 = .ok (.ldc 200, 2) := dk_18 200 (dk_at dksJ16_newLength_0 14 rfl rfl)
theorem dJ16_newLength_16 : decode cJ16_newLength 16 = .ok (.if_icmp .gt 5, 3) := dk_163 0 5 (dk_at dksJ16_newLength_0 16 rfl rfl)
theorem dJ16_newLength_19 : decode cJ16_newLength 19 = .ok (.iload_n 3, 1) := dk_29 (dk_at dksJ16_newLength_0 19 rfl rfl)
theorem dJ16_newLength_20 : decode cJ16_newLength 20 = .ok (.ireturn, 1) := dk_172 (dk_at dksJ16_newLength_0 20 rfl rfl)
theorem dJ16_newLength_21 : decode cJ16_newLength 21 = .ok (.iload_n 0, 1) := dk_26 (dk_at dksJ16_newLength_0 21 rfl rfl)
theorem dJ16_newLength_22 : decode cJ16_newLength 22 = .ok (.iload_n 1, 1) := dk_27 (dk_at dksJ16_newLength_0 22 rfl rfl)
theorem dJ16_newLength_23 : decode cJ16_newLength 23 = .ok (.invokestatic 201, 3) := dk_184 0 201 (dk_at dksJ16_newLength_1 0 rfl rfl)
theorem dJ16_newLength_26 : decode cJ16_newLength 26 = .ok (.ireturn, 1) := dk_172 (dk_at dksJ16_newLength_1 3 rfl rfl)
def dkwJ16_hugeLength_2 : List UInt8 := [191, 28, 18, 200, 163, 0, 6, 18, 200, 172, 28, 172]
abbrev dktJ16_hugeLength_2 : List UInt8 := dkwJ16_hugeLength_2 ++ []
def dkwJ16_hugeLength_1 : List UInt8 := [26, 182, 0, 98, 18, 208, 182, 0, 94, 27, 182, 0, 98, 18, 210, 182, 0, 94, 182, 0, 101, 183, 0, 212]
abbrev dktJ16_hugeLength_1 : List UInt8 := dkwJ16_hugeLength_1 ++ dktJ16_hugeLength_2
def dkwJ16_hugeLength_0 : List UInt8 := [26, 27, 96, 61, 28, 156, 0, 44, 187, 0, 204, 89, 187, 0, 89, 89, 183, 0, 91, 18, 206, 182, 0, 94]
abbrev dktJ16_hugeLength_0 : List UInt8 := dkwJ16_hugeLength_0 ++ dktJ16_hugeLength_1
theorem dksJ16_hugeLength_0 : cJ16_hugeLength.data.toList.drop 0 = dktJ16_hugeLength_0 := by decide +kernel
theorem dksJ16_hugeLength_1 : cJ16_hugeLength.data.toList.drop 24 = dktJ16_hugeLength_1 := dk_seg dksJ16_hugeLength_0 24 rfl rfl
theorem dksJ16_hugeLength_2 : cJ16_hugeLength.data.toList.drop 48 = dktJ16_hugeLength_2 := dk_seg dksJ16_hugeLength_1 24 rfl rfl
theorem dJ16_hugeLength_0 : decode cJ16_hugeLength 0 = .ok (.iload_n 0, 1) := dk_26 (dk_at dksJ16_hugeLength_0 0 rfl rfl)
theorem dJ16_hugeLength_1 : decode cJ16_hugeLength 1 = .ok (.iload_n 1, 1) := dk_27 (dk_at dksJ16_hugeLength_0 1 rfl rfl)
theorem dJ16_hugeLength_2 : decode cJ16_hugeLength 2 = .ok (.iadd, 1) := dk_96 (dk_at dksJ16_hugeLength_0 2 rfl rfl)
theorem dJ16_hugeLength_3 : decode cJ16_hugeLength 3 = .ok (.istore_n 2, 1) := dk_61 (dk_at dksJ16_hugeLength_0 3 rfl rfl)
theorem dJ16_hugeLength_4 : decode cJ16_hugeLength 4 = .ok (.iload_n 2, 1) := dk_28 (dk_at dksJ16_hugeLength_0 4 rfl rfl)
theorem dJ16_hugeLength_5 : decode cJ16_hugeLength 5 = .ok (.ifCond .ge 44, 3) := dk_156 0 44 (dk_at dksJ16_hugeLength_0 5 rfl rfl)
theorem dJ16_hugeLength_8 : decode cJ16_hugeLength 8 = .ok (.new 204, 3) := dk_187 0 204 (dk_at dksJ16_hugeLength_0 8 rfl rfl)
theorem dJ16_hugeLength_11 : decode cJ16_hugeLength 11 = .ok (.dup, 1) := dk_89 (dk_at dksJ16_hugeLength_0 11 rfl rfl)
theorem dJ16_hugeLength_12 : decode cJ16_hugeLength 12 = .ok (.new 89, 3) := dk_187 0 89 (dk_at dksJ16_hugeLength_0 12 rfl rfl)
theorem dJ16_hugeLength_15 : decode cJ16_hugeLength 15 = .ok (.dup, 1) := dk_89 (dk_at dksJ16_hugeLength_0 15 rfl rfl)
theorem dJ16_hugeLength_16 : decode cJ16_hugeLength 16 = .ok (.invokespecial 91, 3) := dk_183 0 91 (dk_at dksJ16_hugeLength_0 16 rfl rfl)
theorem dJ16_hugeLength_19 : decode cJ16_hugeLength 19 = .ok (.ldc 206, 2) := dk_18 206 (dk_at dksJ16_hugeLength_0 19 rfl rfl)
theorem dJ16_hugeLength_21 : decode cJ16_hugeLength 21 = .ok (.invokevirtual 94, 3) := dk_182 0 94 (dk_at dksJ16_hugeLength_0 21 rfl rfl)
theorem dJ16_hugeLength_24 : decode cJ16_hugeLength 24 = .ok (.iload_n 0, 1) := dk_26 (dk_at dksJ16_hugeLength_1 0 rfl rfl)
theorem dJ16_hugeLength_25 : decode cJ16_hugeLength 25 = .ok (.invokevirtual 98, 3) := dk_182 0 98 (dk_at dksJ16_hugeLength_1 1 rfl rfl)
theorem dJ16_hugeLength_28 : decode cJ16_hugeLength 28 = .ok (.ldc 208, 2) := dk_18 208 (dk_at dksJ16_hugeLength_1 4 rfl rfl)
theorem dJ16_hugeLength_30 : decode cJ16_hugeLength 30 = .ok (.invokevirtual 94, 3) := dk_182 0 94 (dk_at dksJ16_hugeLength_1 6 rfl rfl)
theorem dJ16_hugeLength_33 : decode cJ16_hugeLength 33 = .ok (.iload_n 1, 1) := dk_27 (dk_at dksJ16_hugeLength_1 9 rfl rfl)
theorem dJ16_hugeLength_34 : decode cJ16_hugeLength 34 = .ok (.invokevirtual 98, 3) := dk_182 0 98 (dk_at dksJ16_hugeLength_1 10 rfl rfl)
theorem dJ16_hugeLength_37 : decode cJ16_hugeLength 37 = .ok (.ldc 210, 2) := dk_18 210 (dk_at dksJ16_hugeLength_1 13 rfl rfl)
theorem dJ16_hugeLength_39 : decode cJ16_hugeLength 39 = .ok (.invokevirtual 94, 3) := dk_182 0 94 (dk_at dksJ16_hugeLength_1 15 rfl rfl)
theorem dJ16_hugeLength_42 : decode cJ16_hugeLength 42 = .ok (.invokevirtual 101, 3) := dk_182 0 101 (dk_at dksJ16_hugeLength_1 18 rfl rfl)
theorem dJ16_hugeLength_45 : decode cJ16_hugeLength 45 = .ok (.invokespecial 212, 3) := dk_183 0 212 (dk_at dksJ16_hugeLength_1 21 rfl rfl)
theorem dJ16_hugeLength_48 : decode cJ16_hugeLength 48 = .ok (.athrow, 1) := dk_191 (dk_at dksJ16_hugeLength_2 0 rfl rfl)
theorem dJ16_hugeLength_49 : decode cJ16_hugeLength 49 = .ok (.iload_n 2, 1) := dk_28 (dk_at dksJ16_hugeLength_2 1 rfl rfl)
theorem dJ16_hugeLength_50 : decode cJ16_hugeLength 50 = .ok (.ldc 200, 2) := dk_18 200 (dk_at dksJ16_hugeLength_2 2 rfl rfl)
theorem dJ16_hugeLength_52 : decode cJ16_hugeLength 52 = .ok (.if_icmp .gt 6, 3) := dk_163 0 6 (dk_at dksJ16_hugeLength_2 4 rfl rfl)
theorem dJ16_hugeLength_55 : decode cJ16_hugeLength 55 = .ok (.ldc 200, 2) := dk_18 200 (dk_at dksJ16_hugeLength_2 7 rfl rfl)
theorem dJ16_hugeLength_57 : decode cJ16_hugeLength 57 = .ok (.ireturn, 1) := dk_172 (dk_at dksJ16_hugeLength_2 9 rfl rfl)
theorem dJ16_hugeLength_58 : decode cJ16_hugeLength 58 = .ok (.iload_n 2, 1) := dk_28 (dk_at dksJ16_hugeLength_2 10 rfl rfl)
theorem dJ16_hugeLength_59 : decode cJ16_hugeLength 59 = .ok (.ireturn, 1) := dk_172 (dk_at dksJ16_hugeLength_2 11 rfl rfl)
def dkwJ17_copyOf_0 : List UInt8 := [42, 27, 42, 182, 0, 86, 184, 1, 44, 176]
abbrev dktJ17_copyOf_0 : List UInt8 := dkwJ17_copyOf_0 ++ []
theorem dksJ17_copyOf_0 : cJ17_copyOf.data.toList.drop 0 = dktJ17_copyOf_0 := by decide +kernel
theorem dJ17_copyOf_0 : decode cJ17_copyOf 0 = .ok (.aload_n 0, 1) := dk_42 (dk_at dksJ17_copyOf_0 0 rfl rfl)
theorem dJ17_copyOf_1 : decode cJ17_copyOf 1 = .ok (.iload_n 1, 1) := dk_27 (dk_at dksJ17_copyOf_0 1 rfl rfl)
theorem dJ17_copyOf_2 : decode cJ17_copyOf 2 = .ok (.aload_n 0, 1) := dk_42 (dk_at dksJ17_copyOf_0 2 rfl rfl)
theorem dJ17_copyOf_3 : decode cJ17_copyOf 3 = .ok (.invokevirtual 86, 3) := dk_182 0 86 (dk_at dksJ17_copyOf_0 3 rfl rfl)
theorem dJ17_copyOf_6 : decode cJ17_copyOf 6 = .ok (.invokestatic 300, 3) := dk_184 1 44 (dk_at dksJ17_copyOf_0 6 rfl rfl)
theorem dJ17_copyOf_9 : decode cJ17_copyOf 9 = .ok (.areturn, 1) := dk_176 (dk_at dksJ17_copyOf_0 9 rfl rfl)
def dkwJ17_copyOf_2_1 : List UInt8 := [78, 42, 3, 45, 3, 42, 190, 27, 184, 1, 48, 184, 0, 150, 45, 176]
abbrev dktJ17_copyOf_2_1 : List UInt8 := dkwJ17_copyOf_2_1 ++ []
def dkwJ17_copyOf_2_0 : List UInt8 := [44, 18, 110, 166, 0, 10, 27, 189, 0, 2, 167, 0, 14, 44, 182, 0, 90, 27, 184, 0, 95, 192, 0, 110]
abbrev dktJ17_copyOf_2_0 : List UInt8 := dkwJ17_copyOf_2_0 ++ dktJ17_copyOf_2_1
theorem dksJ17_copyOf_2_0 : cJ17_copyOf_2.data.toList.drop 0 = dktJ17_copyOf_2_0 := by decide +kernel
theorem dksJ17_copyOf_2_1 : cJ17_copyOf_2.data.toList.drop 24 = dktJ17_copyOf_2_1 := dk_seg dksJ17_copyOf_2_0 24 rfl rfl
theorem dJ17_copyOf_2_0 : decode cJ17_copyOf_2 0 = .ok (.aload_n 2, 1) := dk_44 (dk_at dksJ17_copyOf_2_0 0 rfl rfl)
theorem dJ17_copyOf_2_1 : decode cJ17_copyOf_2 1 = .ok (.ldc 110, 2) := dk_18 110 (dk_at dksJ17_copyOf_2_0 1 rfl rfl)
theorem dJ17_copyOf_2_3 : decode cJ17_copyOf_2 3 = .ok (.if_acmp .ne 10, 3) := dk_166 0 10 (dk_at dksJ17_copyOf_2_0 3 rfl rfl)
theorem dJ17_copyOf_2_6 : decode cJ17_copyOf_2 6 = .ok (.iload_n 1, 1) := dk_27 (dk_at dksJ17_copyOf_2_0 6 rfl rfl)
theorem dJ17_copyOf_2_7 : decode cJ17_copyOf_2 7 = .ok (.anewarray 2, 3) := dk_189 0 2 (dk_at dksJ17_copyOf_2_0 7 rfl rfl)
theorem dJ17_copyOf_2_10 : decode cJ17_copyOf_2 10 = .ok (.goto 14, 3) := dk_167 0 14 (dk_at dksJ17_copyOf_2_0 10 rfl rfl)
theorem dJ17_copyOf_2_13 : decode cJ17_copyOf_2 13 = .ok (.aload_n 2, 1) := dk_44 (dk_at dksJ17_copyOf_2_0 13 rfl rfl)
theorem dJ17_copyOf_2_14 : decode cJ17_copyOf_2 14 = .ok (.invokevirtual 90, 3) := dk_182 0 90 (dk_at dksJ17_copyOf_2_0 14 rfl rfl)
theorem dJ17_copyOf_2_17 : decode cJ17_copyOf_2 17 = .ok (.iload_n 1, 1) := dk_27 (dk_at dksJ17_copyOf_2_0 17 rfl rfl)
theorem dJ17_copyOf_2_18 : decode cJ17_copyOf_2 18 = .ok (.invokestatic 95, 3) := dk_184 0 95 (dk_at dksJ17_copyOf_2_0 18 rfl rfl)
theorem dJ17_copyOf_2_21 : decode cJ17_copyOf_2 21 = .ok (.checkcast 110, 3) := dk_192 0 110 (dk_at dksJ17_copyOf_2_0 21 rfl rfl)
theorem dJ17_copyOf_2_24 : decode cJ17_copyOf_2 24 = .ok (.astore_n 3, 1) := dk_78 (dk_at dksJ17_copyOf_2_1 0 rfl rfl)
theorem dJ17_copyOf_2_25 : decode cJ17_copyOf_2 25 = .ok (.aload_n 0, 1) := dk_42 (dk_at dksJ17_copyOf_2_1 1 rfl rfl)
theorem dJ17_copyOf_2_26 : decode cJ17_copyOf_2 26 = .ok (.iconst 0, 1) := dk_3 (dk_at dksJ17_copyOf_2_1 2 rfl rfl)
theorem dJ17_copyOf_2_27 : decode cJ17_copyOf_2 27 = .ok (.aload_n 3, 1) := dk_45 (dk_at dksJ17_copyOf_2_1 3 rfl rfl)
theorem dJ17_copyOf_2_28 : decode cJ17_copyOf_2 28 = .ok (.iconst 0, 1) := dk_3 (dk_at dksJ17_copyOf_2_1 4 rfl rfl)
theorem dJ17_copyOf_2_29 : decode cJ17_copyOf_2 29 = .ok (.aload_n 0, 1) := dk_42 (dk_at dksJ17_copyOf_2_1 5 rfl rfl)
theorem dJ17_copyOf_2_30 : decode cJ17_copyOf_2 30 = .ok (.arraylength, 1) := dk_190 (dk_at dksJ17_copyOf_2_1 6 rfl rfl)
theorem dJ17_copyOf_2_31 : decode cJ17_copyOf_2 31 = .ok (.iload_n 1, 1) := dk_27 (dk_at dksJ17_copyOf_2_1 7 rfl rfl)
theorem dJ17_copyOf_2_32 : decode cJ17_copyOf_2 32 = .ok (.invokestatic 304, 3) := dk_184 1 48 (dk_at dksJ17_copyOf_2_1 8 rfl rfl)
theorem dJ17_copyOf_2_35 : decode cJ17_copyOf_2 35 = .ok (.invokestatic 150, 3) := dk_184 0 150 (dk_at dksJ17_copyOf_2_1 11 rfl rfl)
theorem dJ17_copyOf_2_38 : decode cJ17_copyOf_2 38 = .ok (.aload_n 3, 1) := dk_45 (dk_at dksJ17_copyOf_2_1 14 rfl rfl)
theorem dJ17_copyOf_2_39 : decode cJ17_copyOf_2 39 = .ok (.areturn, 1) := dk_176 (dk_at dksJ17_copyOf_2_1 15 rfl rfl)
theorem dJ18_init_0 : decode cJ18_init 0 = .ok (.aload_n 0, 1) := by decide +kernel
theorem dJ18_init_1 : decode cJ18_init 1 = .ok (.invokespecial 1, 3) := by decide +kernel
theorem dJ18_init_4 : decode cJ18_init 4 = .ok (.return_, 1) := by decide +kernel
def dkwX17_init_2 : List UInt8 := [87, 177]
abbrev dktX17_init_2 : List UInt8 := dkwX17_init_2 ++ []
def dkwX17_init_1 : List UInt8 := [181, 0, 22, 42, 28, 181, 0, 25, 42, 180, 0, 12, 187, 0, 28, 89, 28, 29, 183, 0, 30, 182, 0, 33]
abbrev dktX17_init_1 : List UInt8 := dkwX17_init_1 ++ dktX17_init_2
def dkwX17_init_0 : List UInt8 := [42, 183, 0, 3, 42, 187, 0, 9, 89, 183, 0, 11, 181, 0, 12, 42, 2, 181, 0, 18, 42, 27]
abbrev dktX17_init_0 : List UInt8 := dkwX17_init_0 ++ dktX17_init_1
theorem dksX17_init_0 : cX17_init.data.toList.drop 0 = dktX17_init_0 := by decide +kernel
theorem dksX17_init_1 : cX17_init.data.toList.drop 22 = dktX17_init_1 := dk_seg dksX17_init_0 22 rfl rfl
theorem dksX17_init_2 : cX17_init.data.toList.drop 46 = dktX17_init_2 := dk_seg dksX17_init_1 24 rfl rfl
theorem dX17_init_0 : decode cX17_init 0 = .ok (.aload_n 0, 1) := dk_42 (dk_at dksX17_init_0 0 rfl rfl)
theorem dX17_init_1 : decode cX17_init 1 = .ok (.invokespecial 3, 3) := dk_183 0 3 (dk_at dksX17_init_0 1 rfl rfl)
theorem dX17_init_4 : decode cX17_init 4 = .ok (.aload_n 0, 1) := dk_42 (dk_at dksX17_init_0 4 rfl rfl)
theorem dX17_init_5 : decode cX17_init 5 = .ok (.new 9, 3) := dk_187 0 9 (dk_at dksX17_init_0 5 rfl rfl)
theorem dX17_init_8 : decode cX17_init 8 = .ok (.dup, 1) := dk_89 (dk_at dksX17_init_0 8 rfl rfl)
theorem dX17_init_9 : decode cX17_init 9 = .ok (.invokespecial 11, 3) := dk_183 0 11 (dk_at dksX17_init_0 9 rfl rfl)
theorem dX17_init_12 : decode cX17_init 12 = .ok (.putfield 12, 3) := dk_181 0 12 (dk_at dksX17_init_0 12 rfl rfl)
theorem dX17_init_15 : decode cX17_init 15 = .ok (.aload_n 0, 1) := dk_42 (dk_at dksX17_init_0 15 rfl rfl)
theorem dX17_init_16 : decode cX17_init 16 = .ok (.iconst (-1), 1) := dk_2 (dk_at dksX17_init_0 16 rfl rfl)
theorem dX17_init_17 : decode cX17_init 17 = .ok (.putfield 18, 3) := dk_181 0 18 (dk_at dksX17_init_0 17 rfl rfl)
theorem dX17_init_20 : decode cX17_init 20 = .ok (.aload_n 0, 1) := dk_42 (dk_at dksX17_init_0 20 rfl rfl)
theorem dX17_init_21 : decode cX17_init 21 = .ok (.iload_n 1, 1) := dk_27 (dk_at dksX17_init_0 21 rfl rfl)
theorem dX17_init_22 : decode cX17_init 22 = .ok (.putfield 22, 3) := dk_181 0 22 (dk_at dksX17_init_1 0 rfl rfl)
theorem dX17_init_25 : decode cX17_init 25 = .ok (.aload_n 0, 1) := dk_42 (dk_at dksX17_init_1 3 rfl rfl)
theorem dX17_init_26 : decode cX17_init 26 = .ok (.iload_n 2, 1) := dk_28 (dk_at dksX17_init_1 4 rfl rfl)
theorem dX17_init_27 : decode cX17_init 27 = .ok (.putfield 25, 3) := dk_181 0 25 (dk_at dksX17_init_1 5 rfl rfl)
theorem dX17_init_30 : decode cX17_init 30 = .ok (.aload_n 0, 1) := dk_42 (dk_at dksX17_init_1 8 rfl rfl)
theorem dX17_init_31 : decode cX17_init 31 = .ok (.getfield 12, 3) := dk_180 0 12 (dk_at dksX17_init_1 9 rfl rfl)
theorem dX17_init_34 : decode cX17_init 34 = .ok (.new 28, 3) := dk_187 0 28 (dk_at dksX17_init_1 12 rfl rfl)
theorem dX17_init_37 : decode cX17_init 37 = .ok (.dup, 1) := dk_89 (dk_at dksX17_init_1 15 rfl rfl)
theorem dX17_init_38 : decode cX17_init 38 = .ok (.iload_n 2, 1) := dk_28 (dk_at dksX17_init_1 16 rfl rfl)
theorem dX17_init_39 : decode cX17_init 39 = .ok (.iload_n 3, 1) := dk_29 (dk_at dksX17_init_1 17 rfl rfl)
theorem dX17_init_40 : decode cX17_init 40 = .ok (.invokespecial 30, 3) := dk_183 0 30 (dk_at dksX17_init_1 18 rfl rfl)
theorem dX17_init_43 : decode cX17_init 43 = .ok (.invokevirtual 33, 3) := dk_182 0 33 (dk_at dksX17_init_1 21 rfl rfl)
theorem dX17_init_46 : decode cX17_init 46 = .ok (.pop, 1) := dk_87 (dk_at dksX17_init_2 0 rfl rfl)
theorem dX17_init_47 : decode cX17_init 47 = .ok (.return_, 1) := dk_177 (dk_at dksX17_init_2 1 rfl rfl)
def dkwX17_known_2 : List UInt8 := [167, 0, 4, 28, 61, 132, 3, 1, 167, 255, 205, 28, 172]
abbrev dktX17_known_2 : List UInt8 := dkwX17_known_2 ++ []
def dkwX17_known_1 : List UInt8 := [192, 0, 28, 180, 0, 48, 27, 163, 0, 20, 42, 180, 0, 12, 29, 182, 0, 41, 192, 0, 28, 180, 0, 45]
abbrev dktX17_known_1 : List UInt8 := dkwX17_known_1 ++ dktX17_known_2
def dkwX17_known_0 : List UInt8 := [3, 61, 3, 62, 29, 42, 180, 0, 12, 182, 0, 37, 162, 0, 46, 42, 180, 0, 12, 29, 182, 0, 41]
abbrev dktX17_known_0 : List UInt8 := dkwX17_known_0 ++ dktX17_known_1
theorem dksX17_known_0 : cX17_known.data.toList.drop 0 = dktX17_known_0 := by decide +kernel
theorem dksX17_known_1 : cX17_known.data.toList.drop 23 = dktX17_known_1 := dk_seg dksX17_known_0 23 rfl rfl
theorem dksX17_known_2 : cX17_known.data.toList.drop 47 = dktX17_known_2 := dk_seg dksX17_known_1 24 rfl rfl
theorem dX17_known_0 : decode cX17_known 0 = .ok (.iconst 0, 1) := dk_3 (dk_at dksX17_known_0 0 rfl rfl)
theorem dX17_known_1 : decode cX17_known 1 = .ok (.istore_n 2, 1) := dk_61 (dk_at dksX17_known_0 1 rfl rfl)
theorem dX17_known_2 : decode cX17_known 2 = .ok (.iconst 0, 1) := dk_3 (dk_at dksX17_known_0 2 rfl rfl)
theorem dX17_known_3 : decode cX17_known 3 = .ok (.istore_n 3, 1) := dk_62 (dk_at dksX17_known_0 3 rfl rfl)
theorem dX17_known_4 : decode cX17_known 4 = .ok (.iload_n 3, 1) := dk_29 (dk_at dksX17_known_0 4 rfl rfl)
theorem dX17_known_5 : decode cX17_known 5 = .ok (.aload_n 0, 1) := dk_42 (dk_at dksX17_known_0 5 rfl rfl)
theorem dX17_known_6 : decode cX17_known 6 = .ok (.getfield 12, 3) := dk_180 0 12 (dk_at dksX17_known_0 6 rfl rfl)
theorem dX17_known_9 : decode cX17_known 9 = .ok (.invokevirtual 37, 3) := dk_182 0 37 (dk_at dksX17_known_0 9 rfl rfl)
theorem dX17_known_12 : decode cX17_known 12 = .ok (.if_icmp .ge 46, 3) := dk_162 0 46 (dk_at dksX17_known_0 12 rfl rfl)
theorem dX17_known_15 : decode cX17_known 15 = .ok (.aload_n 0, 1) := dk_42 (dk_at dksX17_known_0 15 rfl rfl)
theorem dX17_known_16 : decode cX17_known 16 = .ok (.getfield 12, 3) := dk_180 0 12 (dk_at dksX17_known_0 16 rfl rfl)
theorem dX17_known_19 : decode cX17_known 19 = .ok (.iload_n 3, 1) := dk_29 (dk_at dksX17_known_0 19 rfl rfl)
theorem dX17_known_20 : decode cX17_known 20 = .ok (.invokevirtual 41, 3) := dk_182 0 41 (dk_at dksX17_known_0 20 rfl rfl)
theorem dX17_known_23 : decode cX17_known 23 = .ok (.checkcast 28, 3) := dk_192 0 28 (dk_at dksX17_known_1 0 rfl rfl)
theorem dX17_known_26 : decode cX17_known 26 = .ok (.getfield 48, 3) := dk_180 0 48 (dk_at dksX17_known_1 3 rfl rfl)
theorem dX17_known_29 : decode cX17_known 29 = .ok (.iload_n 1, 1) := dk_27 (dk_at dksX17_known_1 6 rfl rfl)
theorem dX17_known_30 : decode cX17_known 30 = .ok (.if_icmp .gt 20, 3) := dk_163 0 20 (dk_at dksX17_known_1 7 rfl rfl)
theorem dX17_known_33 : decode cX17_known 33 = .ok (.aload_n 0, 1) := dk_42 (dk_at dksX17_known_1 10 rfl rfl)
theorem dX17_known_34 : decode cX17_known 34 = .ok (.getfield 12, 3) := dk_180 0 12 (dk_at dksX17_known_1 11 rfl rfl)
theorem dX17_known_37 : decode cX17_known 37 = .ok (.iload_n 3, 1) := dk_29 (dk_at dksX17_known_1 14 rfl rfl)
theorem dX17_known_38 : decode cX17_known 38 = .ok (.invokevirtual 41, 3) := dk_182 0 41 (dk_at dksX17_known_1 15 rfl rfl)
theorem dX17_known_41 : decode cX17_known 41 = .ok (.checkcast 28, 3) := dk_192 0 28 (dk_at dksX17_known_1 18 rfl rfl)
theorem dX17_known_44 : decode cX17_known 44 = .ok (.getfield 45, 3) := dk_180 0 45 (dk_at dksX17_known_1 21 rfl rfl)
theorem dX17_known_47 : decode cX17_known 47 = .ok (.goto 4, 3) := dk_167 0 4 (dk_at dksX17_known_2 0 rfl rfl)
theorem dX17_known_50 : decode cX17_known 50 = .ok (.iload_n 2, 1) := dk_28 (dk_at dksX17_known_2 3 rfl rfl)
theorem dX17_known_51 : decode cX17_known 51 = .ok (.istore_n 2, 1) := dk_61 (dk_at dksX17_known_2 4 rfl rfl)
theorem dX17_known_52 : decode cX17_known 52 = .ok (.iinc 3 1, 3) := dk_132 3 1 (dk_at dksX17_known_2 5 rfl rfl)
theorem dX17_known_55 : decode cX17_known 55 = .ok (.goto (-51), 3) := dk_167 255 205 (dk_at dksX17_known_2 8 rfl rfl)
theorem dX17_known_58 : decode cX17_known 58 = .ok (.iload_n 2, 1) := dk_28 (dk_at dksX17_known_2 11 rfl rfl)
theorem dX17_known_59 : decode cX17_known 59 = .ok (.ireturn, 1) := dk_172 (dk_at dksX17_known_2 12 rfl rfl)
def dkwX17_latest_0 : List UInt8 := [42, 180, 0, 12, 42, 180, 0, 12, 182, 0, 37, 4, 100, 182, 0, 41, 192, 0, 28, 180, 0, 45, 172]
abbrev dktX17_latest_0 : List UInt8 := dkwX17_latest_0 ++ []
theorem dksX17_latest_0 : cX17_latest.data.toList.drop 0 = dktX17_latest_0 := by decide +kernel
theorem dX17_latest_0 : decode cX17_latest 0 = .ok (.aload_n 0, 1) := dk_42 (dk_at dksX17_latest_0 0 rfl rfl)
theorem dX17_latest_1 : decode cX17_latest 1 = .ok (.getfield 12, 3) := dk_180 0 12 (dk_at dksX17_latest_0 1 rfl rfl)
theorem dX17_latest_4 : decode cX17_latest 4 = .ok (.aload_n 0, 1) := dk_42 (dk_at dksX17_latest_0 4 rfl rfl)
theorem dX17_latest_5 : decode cX17_latest 5 = .ok (.getfield 12, 3) := dk_180 0 12 (dk_at dksX17_latest_0 5 rfl rfl)
theorem dX17_latest_8 : decode cX17_latest 8 = .ok (.invokevirtual 37, 3) := dk_182 0 37 (dk_at dksX17_latest_0 8 rfl rfl)
theorem dX17_latest_11 : decode cX17_latest 11 = .ok (.iconst 1, 1) := dk_4 (dk_at dksX17_latest_0 11 rfl rfl)
theorem dX17_latest_12 : decode cX17_latest 12 = .ok (.isub, 1) := dk_100 (dk_at dksX17_latest_0 12 rfl rfl)
theorem dX17_latest_13 : decode cX17_latest 13 = .ok (.invokevirtual 41, 3) := dk_182 0 41 (dk_at dksX17_latest_0 13 rfl rfl)
theorem dX17_latest_16 : decode cX17_latest 16 = .ok (.checkcast 28, 3) := dk_192 0 28 (dk_at dksX17_latest_0 16 rfl rfl)
theorem dX17_latest_19 : decode cX17_latest 19 = .ok (.getfield 45, 3) := dk_180 0 45 (dk_at dksX17_latest_0 19 rfl rfl)
theorem dX17_latest_22 : decode cX17_latest 22 = .ok (.ireturn, 1) := dk_172 (dk_at dksX17_latest_0 22 rfl rfl)
def dkwX18_init_0 : List UInt8 := [42, 183, 0, 1, 42, 27, 181, 0, 7, 42, 28, 181, 0, 13, 177]
abbrev dktX18_init_0 : List UInt8 := dkwX18_init_0 ++ []
theorem dksX18_init_0 : cX18_init.data.toList.drop 0 = dktX18_init_0 := by decide +kernel
theorem dX18_init_0 : decode cX18_init 0 = .ok (.aload_n 0, 1) := dk_42 (dk_at dksX18_init_0 0 rfl rfl)
theorem dX18_init_1 : decode cX18_init 1 = .ok (.invokespecial 1, 3) := dk_183 0 1 (dk_at dksX18_init_0 1 rfl rfl)
theorem dX18_init_4 : decode cX18_init 4 = .ok (.aload_n 0, 1) := dk_42 (dk_at dksX18_init_0 4 rfl rfl)
theorem dX18_init_5 : decode cX18_init 5 = .ok (.iload_n 1, 1) := dk_27 (dk_at dksX18_init_0 5 rfl rfl)
theorem dX18_init_6 : decode cX18_init 6 = .ok (.putfield 7, 3) := dk_181 0 7 (dk_at dksX18_init_0 6 rfl rfl)
theorem dX18_init_9 : decode cX18_init 9 = .ok (.aload_n 0, 1) := dk_42 (dk_at dksX18_init_0 9 rfl rfl)
theorem dX18_init_10 : decode cX18_init 10 = .ok (.iload_n 2, 1) := dk_28 (dk_at dksX18_init_0 10 rfl rfl)
theorem dX18_init_11 : decode cX18_init 11 = .ok (.putfield 13, 3) := dk_181 0 13 (dk_at dksX18_init_0 11 rfl rfl)
theorem dX18_init_14 : decode cX18_init 14 = .ok (.return_, 1) := dk_177 (dk_at dksX18_init_0 14 rfl rfl)
def dkwJ19_bitCount_2 : List UInt8 := [26, 16, 63, 126, 172]
abbrev dktJ19_bitCount_2 : List UInt8 := dkwJ19_bitCount_2 ++ []
def dkwJ19_bitCount_1 : List UInt8 := [26, 26, 7, 124, 96, 19, 1, 11, 126, 59, 26, 26, 16, 8, 124, 96, 59, 26, 26, 16, 16, 124, 96, 59]
abbrev dktJ19_bitCount_1 : List UInt8 := dkwJ19_bitCount_1 ++ dktJ19_bitCount_2
def dkwJ19_bitCount_0 : List UInt8 := [26, 26, 4, 124, 19, 1, 9, 126, 100, 59, 26, 19, 1, 10, 126, 26, 5, 124, 19, 1, 10, 126, 96, 59]
abbrev dktJ19_bitCount_0 : List UInt8 := dkwJ19_bitCount_0 ++ dktJ19_bitCount_1
theorem dksJ19_bitCount_0 : cJ19_bitCount.data.toList.drop 0 = dktJ19_bitCount_0 := by decide +kernel
theorem dksJ19_bitCount_1 : cJ19_bitCount.data.toList.drop 24 = dktJ19_bitCount_1 := dk_seg dksJ19_bitCount_0 24 rfl rfl
theorem dksJ19_bitCount_2 : cJ19_bitCount.data.toList.drop 48 = dktJ19_bitCount_2 := dk_seg dksJ19_bitCount_1 24 rfl rfl
theorem dJ19_bitCount_0 : decode cJ19_bitCount 0 = .ok (.iload_n 0, 1) := dk_26 (dk_at dksJ19_bitCount_0 0 rfl rfl)
theorem dJ19_bitCount_1 : decode cJ19_bitCount 1 = .ok (.iload_n 0, 1) := dk_26 (dk_at dksJ19_bitCount_0 1 rfl rfl)
theorem dJ19_bitCount_2 : decode cJ19_bitCount 2 = .ok (.iconst 1, 1) := dk_4 (dk_at dksJ19_bitCount_0 2 rfl rfl)
theorem dJ19_bitCount_3 : decode cJ19_bitCount 3 = .ok (.iushr, 1) := dk_124 (dk_at dksJ19_bitCount_0 3 rfl rfl)
theorem dJ19_bitCount_4 : decode cJ19_bitCount 4 = .ok (.ldc_w 265, 3) := dk_19 1 9 (dk_at dksJ19_bitCount_0 4 rfl rfl)
theorem dJ19_bitCount_7 : decode cJ19_bitCount 7 = .ok (.iand, 1) := dk_126 (dk_at dksJ19_bitCount_0 7 rfl rfl)
theorem dJ19_bitCount_8 : decode cJ19_bitCount 8 = .ok (.isub, 1) := dk_100 (dk_at dksJ19_bitCount_0 8 rfl rfl)
theorem dJ19_bitCount_9 : decode cJ19_bitCount 9 = .ok (.istore_n 0, 1) := dk_59 (dk_at dksJ19_bitCount_0 9 rfl rfl)
theorem dJ19_bitCount_10 : decode cJ19_bitCount 10 = .ok (.iload_n 0, 1) := dk_26 (dk_at dksJ19_bitCount_0 10 rfl rfl)
theorem dJ19_bitCount_11 : decode cJ19_bitCount 11 = .ok (.ldc_w 266, 3) := dk_19 1 10 (dk_at dksJ19_bitCount_0 11 rfl rfl)
theorem dJ19_bitCount_14 : decode cJ19_bitCount 14 = .ok (.iand, 1) := dk_126 (dk_at dksJ19_bitCount_0 14 rfl rfl)
theorem dJ19_bitCount_15 : decode cJ19_bitCount 15 = .ok (.iload_n 0, 1) := dk_26 (dk_at dksJ19_bitCount_0 15 rfl rfl)
theorem dJ19_bitCount_16 : decode cJ19_bitCount 16 = .ok (.iconst 2, 1) := dk_5 (dk_at dksJ19_bitCount_0 16 rfl rfl)
theorem dJ19_bitCount_17 : decode cJ19_bitCount 17 = .ok (.iushr, 1) := dk_124 (dk_at dksJ19_bitCount_0 17 rfl rfl)
theorem dJ19_bitCount_18 : decode cJ19_bitCount 18 = .ok (.ldc_w 266, 3) := dk_19 1 10 (dk_at dksJ19_bitCount_0 18 rfl rfl)
theorem dJ19_bitCount_21 : decode cJ19_bitCount 21 = .ok (.iand, 1) := dk_126 (dk_at dksJ19_bitCount_0 21 rfl rfl)
theorem dJ19_bitCount_22 : decode cJ19_bitCount 22 = .ok (.iadd, 1) := dk_96 (dk_at dksJ19_bitCount_0 22 rfl rfl)
theorem dJ19_bitCount_23 : decode cJ19_bitCount 23 = .ok (.istore_n 0, 1) := dk_59 (dk_at dksJ19_bitCount_0 23 rfl rfl)
theorem dJ19_bitCount_24 : decode cJ19_bitCount 24 = .ok (.iload_n 0, 1) := dk_26 (dk_at dksJ19_bitCount_1 0 rfl rfl)
theorem dJ19_bitCount_25 : decode cJ19_bitCount 25 = .ok (.iload_n 0, 1) := dk_26 (dk_at dksJ19_bitCount_1 1 rfl rfl)
theorem dJ19_bitCount_26 : decode cJ19_bitCount 26 = .ok (.iconst 4, 1) := dk_7 (dk_at dksJ19_bitCount_1 2 rfl rfl)
theorem dJ19_bitCount_27 : decode cJ19_bitCount 27 = .ok (.iushr, 1) := dk_124 (dk_at dksJ19_bitCount_1 3 rfl rfl)
theorem dJ19_bitCount_28 : decode cJ19_bitCount 28 = .ok (.iadd, 1) := dk_96 (dk_at dksJ19_bitCount_1 4 rfl rfl)
theorem dJ19_bitCount_29 : decode cJ19_bitCount 29 = .ok (.ldc_w 267, 3) := dk_19 1 11 (dk_at dksJ19_bitCount_1 5 rfl rfl)
theorem dJ19_bitCount_32 : decode cJ19_bitCount 32 = .ok (.iand, 1) := dk_126 (dk_at dksJ19_bitCount_1 8 rfl rfl)
theorem dJ19_bitCount_33 : decode cJ19_bitCount 33 = .ok (.istore_n 0, 1) := dk_59 (dk_at dksJ19_bitCount_1 9 rfl rfl)
theorem dJ19_bitCount_34 : decode cJ19_bitCount 34 = .ok (.iload_n 0, 1) := dk_26 (dk_at dksJ19_bitCount_1 10 rfl rfl)
theorem dJ19_bitCount_35 : decode cJ19_bitCount 35 = .ok (.iload_n 0, 1) := dk_26 (dk_at dksJ19_bitCount_1 11 rfl rfl)
theorem dJ19_bitCount_36 : decode cJ19_bitCount 36 = .ok (.bipush 8, 2) := dk_16 8 (dk_at dksJ19_bitCount_1 12 rfl rfl)
theorem dJ19_bitCount_38 : decode cJ19_bitCount 38 = .ok (.iushr, 1) := dk_124 (dk_at dksJ19_bitCount_1 14 rfl rfl)
theorem dJ19_bitCount_39 : decode cJ19_bitCount 39 = .ok (.iadd, 1) := dk_96 (dk_at dksJ19_bitCount_1 15 rfl rfl)
theorem dJ19_bitCount_40 : decode cJ19_bitCount 40 = .ok (.istore_n 0, 1) := dk_59 (dk_at dksJ19_bitCount_1 16 rfl rfl)
theorem dJ19_bitCount_41 : decode cJ19_bitCount 41 = .ok (.iload_n 0, 1) := dk_26 (dk_at dksJ19_bitCount_1 17 rfl rfl)
theorem dJ19_bitCount_42 : decode cJ19_bitCount 42 = .ok (.iload_n 0, 1) := dk_26 (dk_at dksJ19_bitCount_1 18 rfl rfl)
theorem dJ19_bitCount_43 : decode cJ19_bitCount 43 = .ok (.bipush 16, 2) := dk_16 16 (dk_at dksJ19_bitCount_1 19 rfl rfl)
theorem dJ19_bitCount_45 : decode cJ19_bitCount 45 = .ok (.iushr, 1) := dk_124 (dk_at dksJ19_bitCount_1 21 rfl rfl)
theorem dJ19_bitCount_46 : decode cJ19_bitCount 46 = .ok (.iadd, 1) := dk_96 (dk_at dksJ19_bitCount_1 22 rfl rfl)
theorem dJ19_bitCount_47 : decode cJ19_bitCount 47 = .ok (.istore_n 0, 1) := dk_59 (dk_at dksJ19_bitCount_1 23 rfl rfl)
theorem dJ19_bitCount_48 : decode cJ19_bitCount 48 = .ok (.iload_n 0, 1) := dk_26 (dk_at dksJ19_bitCount_2 0 rfl rfl)
theorem dJ19_bitCount_49 : decode cJ19_bitCount 49 = .ok (.bipush 63, 2) := dk_16 63 (dk_at dksJ19_bitCount_2 1 rfl rfl)
theorem dJ19_bitCount_51 : decode cJ19_bitCount 51 = .ok (.iand, 1) := dk_126 (dk_at dksJ19_bitCount_2 3 rfl rfl)
theorem dJ19_bitCount_52 : decode cJ19_bitCount 52 = .ok (.ireturn, 1) := dk_172 (dk_at dksJ19_bitCount_2 4 rfl rfl)
def dkwX19_init_5 : List UInt8 := [54, 4, 132, 5, 1, 167, 255, 223, 42, 3, 21, 4, 182, 0, 46, 177]
abbrev dktX19_init_5 : List UInt8 := dkwX19_init_5 ++ []
def dkwX19_init_4 : List UInt8 := [162, 0, 32, 21, 4, 43, 180, 0, 42, 21, 5, 51, 153, 0, 10, 4, 21, 5, 120, 167, 0, 4, 3, 128]
abbrev dktX19_init_4 : List UInt8 := dkwX19_init_4 ++ dktX19_init_5
def dkwX19_init_3 : List UInt8 := [180, 0, 39, 21, 4, 46, 79, 132, 4, 1, 167, 255, 232, 3, 54, 4, 3, 54, 5, 21, 5, 16, 10]
abbrev dktX19_init_3 : List UInt8 := dkwX19_init_3 ++ dktX19_init_4
def dkwX19_init_2 : List UInt8 := [188, 10, 181, 0, 36, 3, 54, 4, 21, 4, 16, 10, 162, 0, 23, 42, 180, 0, 15, 21, 4, 43]
abbrev dktX19_init_2 : List UInt8 := dkwX19_init_2 ++ dktX19_init_3
def dkwX19_init_1 : List UInt8 := [18, 19, 181, 0, 24, 42, 28, 181, 0, 27, 42, 29, 181, 0, 30, 42, 28, 188, 10, 181, 0, 33, 42, 28]
abbrev dktX19_init_1 : List UInt8 := dkwX19_init_1 ++ dktX19_init_2
def dkwX19_init_0 : List UInt8 := [42, 43, 181, 0, 3, 42, 183, 0, 9, 42, 16, 10, 188, 10, 181, 0, 15, 42, 18, 19, 181, 0, 20, 42]
abbrev dktX19_init_0 : List UInt8 := dkwX19_init_0 ++ dktX19_init_1
theorem dksX19_init_0 : cX19_init.data.toList.drop 0 = dktX19_init_0 := by decide +kernel
theorem dksX19_init_1 : cX19_init.data.toList.drop 24 = dktX19_init_1 := dk_seg dksX19_init_0 24 rfl rfl
theorem dksX19_init_2 : cX19_init.data.toList.drop 48 = dktX19_init_2 := dk_seg dksX19_init_1 24 rfl rfl
theorem dksX19_init_3 : cX19_init.data.toList.drop 70 = dktX19_init_3 := dk_seg dksX19_init_2 22 rfl rfl
theorem dksX19_init_4 : cX19_init.data.toList.drop 93 = dktX19_init_4 := dk_seg dksX19_init_3 23 rfl rfl
theorem dksX19_init_5 : cX19_init.data.toList.drop 117 = dktX19_init_5 := dk_seg dksX19_init_4 24 rfl rfl
theorem dX19_init_0 : decode cX19_init 0 = .ok (.aload_n 0, 1) := dk_42 (dk_at dksX19_init_0 0 rfl rfl)
theorem dX19_init_1 : decode cX19_init 1 = .ok (.aload_n 1, 1) := dk_43 (dk_at dksX19_init_0 1 rfl rfl)
theorem dX19_init_2 : decode cX19_init 2 = .ok (.putfield 3, 3) := dk_181 0 3 (dk_at dksX19_init_0 2 rfl rfl)
theorem dX19_init_5 : decode cX19_init 5 = .ok (.aload_n 0, 1) := dk_42 (dk_at dksX19_init_0 5 rfl rfl)
theorem dX19_init_6 : decode cX19_init 6 = .ok (.invokespecial 9, 3) := dk_183 0 9 (dk_at dksX19_init_0 6 rfl rfl)
theorem dX19_init_9 : decode cX19_init 9 = .ok (.aload_n 0, 1) := dk_42 (dk_at dksX19_init_0 9 rfl rfl)
theorem dX19_init_10 : decode cX19_init 10 = .ok (.bipush 10, 2) := dk_16 10 (dk_at dksX19_init_0 10 rfl rfl)
theorem dX19_init_12 : decode cX19_init 12 = .ok (.newarray .int, 2) := dk_188_10 (dk_at dksX19_init_0 12 rfl rfl)
theorem dX19_init_14 : decode cX19_init 14 = .ok (.putfield 15, 3) := dk_181 0 15 (dk_at dksX19_init_0 14 rfl rfl)
theorem dX19_init_17 : decode cX19_init 17 = .ok (.aload_n 0, 1) := dk_42 (dk_at dksX19_init_0 17 rfl rfl)
theorem dX19_init_18 : decode cX19_init 18 = .ok (.ldc 19, 2) := dk_18 19 (dk_at dksX19_init_0 18 rfl rfl)
theorem dX19_init_20 : decode cX19_init 20 = .ok (.putfield 20, 3) := dk_181 0 20 (dk_at dksX19_init_0 20 rfl rfl)
theorem dX19_init_23 : decode cX19_init 23 = .ok (.aload_n 0, 1) := dk_42 (dk_at dksX19_init_0 23 rfl rfl)
theorem dX19_init_24 : decode cX19_init 24 = .ok (.ldc 19, 2) := dk_18 19 (dk_at dksX19_init_1 0 rfl rfl)
theorem dX19_init_26 : decode cX19_init 26 = .ok (.putfield 24, 3) := dk_181 0 24 (dk_at dksX19_init_1 2 rfl rfl)
theorem dX19_init_29 : decode cX19_init 29 = .ok (.aload_n 0, 1) := dk_42 (dk_at dksX19_init_1 5 rfl rfl)
theorem dX19_init_30 : decode cX19_init 30 = .ok (.iload_n 2, 1) := dk_28 (dk_at dksX19_init_1 6 rfl rfl)
theorem dX19_init_31 : decode cX19_init 31 = .ok (.putfield 27, 3) := dk_181 0 27 (dk_at dksX19_init_1 7 rfl rfl)
theorem dX19_init_34 : decode cX19_init 34 = .ok (.aload_n 0, 1) := dk_42 (dk_at dksX19_init_1 10 rfl rfl)
theorem dX19_init_35 : decode cX19_init 35 = .ok (.iload_n 3, 1) := dk_29 (dk_at dksX19_init_1 11 rfl rfl)
theorem dX19_init_36 : decode cX19_init 36 = .ok (.putfield 30, 3) := dk_181 0 30 (dk_at dksX19_init_1 12 rfl rfl)
theorem dX19_init_39 : decode cX19_init 39 = .ok (.aload_n 0, 1) := dk_42 (dk_at dksX19_init_1 15 rfl rfl)
theorem dX19_init_40 : decode cX19_init 40 = .ok (.iload_n 2, 1) := dk_28 (dk_at dksX19_init_1 16 rfl rfl)
theorem dX19_init_41 : decode cX19_init 41 = .ok (.newarray .int, 2) := dk_188_10 (dk_at dksX19_init_1 17 rfl rfl)
theorem dX19_init_43 : decode cX19_init 43 = .ok (.putfield 33, 3) := dk_181 0 33 (dk_at dksX19_init_1 19 rfl rfl)
theorem dX19_init_46 : decode cX19_init 46 = .ok (.aload_n 0, 1) := dk_42 (dk_at dksX19_init_1 22 rfl rfl)
theorem dX19_init_47 : decode cX19_init 47 = .ok (.iload_n 2, 1) := dk_28 (dk_at dksX19_init_1 23 rfl rfl)
theorem dX19_init_48 : decode cX19_init 48 = .ok (.newarray .int, 2) := dk_188_10 (dk_at dksX19_init_2 0 rfl rfl)
theorem dX19_init_50 : decode cX19_init 50 = .ok (.putfield 36, 3) := dk_181 0 36 (dk_at dksX19_init_2 2 rfl rfl)
theorem dX19_init_53 : decode cX19_init 53 = .ok (.iconst 0, 1) := dk_3 (dk_at dksX19_init_2 5 rfl rfl)
theorem dX19_init_54 : decode cX19_init 54 = .ok (.istore 4, 2) := dk_54 4 (dk_at dksX19_init_2 6 rfl rfl)
theorem dX19_init_56 : decode cX19_init 56 = .ok (.iload 4, 2) := dk_21 4 (dk_at dksX19_init_2 8 rfl rfl)
theorem dX19_init_58 : decode cX19_init 58 = .ok (.bipush 10, 2) := dk_16 10 (dk_at dksX19_init_2 10 rfl rfl)
theorem dX19_init_60 : decode cX19_init 60 = .ok (.if_icmp .ge 23, 3) := dk_162 0 23 (dk_at dksX19_init_2 12 rfl rfl)
theorem dX19_init_63 : decode cX19_init 63 = .ok (.aload_n 0, 1) := dk_42 (dk_at dksX19_init_2 15 rfl rfl)
theorem dX19_init_64 : decode cX19_init 64 = .ok (.getfield 15, 3) := dk_180 0 15 (dk_at dksX19_init_2 16 rfl rfl)
theorem dX19_init_67 : decode cX19_init 67 = .ok (.iload 4, 2) := dk_21 4 (dk_at dksX19_init_2 19 rfl rfl)
theorem dX19_init_69 : decode cX19_init 69 = .ok (.aload_n 1, 1) := dk_43 (dk_at dksX19_init_2 21 rfl rfl)
theorem dX19_init_70 : decode cX19_init 70 = .ok (.getfield 39, 3) := dk_180 0 39 (dk_at dksX19_init_3 0 rfl rfl)
theorem dX19_init_73 : decode cX19_init 73 = .ok (.iload 4, 2) := dk_21 4 (dk_at dksX19_init_3 3 rfl rfl)
theorem dX19_init_75 : decode cX19_init 75 = .ok (.iaload, 1) := dk_46 (dk_at dksX19_init_3 5 rfl rfl)
theorem dX19_init_76 : decode cX19_init 76 = .ok (.iastore, 1) := dk_79 (dk_at dksX19_init_3 6 rfl rfl)
theorem dX19_init_77 : decode cX19_init 77 = .ok (.iinc 4 1, 3) := dk_132 4 1 (dk_at dksX19_init_3 7 rfl rfl)
theorem dX19_init_80 : decode cX19_init 80 = .ok (.goto (-24), 3) := dk_167 255 232 (dk_at dksX19_init_3 10 rfl rfl)
theorem dX19_init_83 : decode cX19_init 83 = .ok (.iconst 0, 1) := dk_3 (dk_at dksX19_init_3 13 rfl rfl)
theorem dX19_init_84 : decode cX19_init 84 = .ok (.istore 4, 2) := dk_54 4 (dk_at dksX19_init_3 14 rfl rfl)
theorem dX19_init_86 : decode cX19_init 86 = .ok (.iconst 0, 1) := dk_3 (dk_at dksX19_init_3 16 rfl rfl)
theorem dX19_init_87 : decode cX19_init 87 = .ok (.istore 5, 2) := dk_54 5 (dk_at dksX19_init_3 17 rfl rfl)
theorem dX19_init_89 : decode cX19_init 89 = .ok (.iload 5, 2) := dk_21 5 (dk_at dksX19_init_3 19 rfl rfl)
theorem dX19_init_91 : decode cX19_init 91 = .ok (.bipush 10, 2) := dk_16 10 (dk_at dksX19_init_3 21 rfl rfl)
theorem dX19_init_93 : decode cX19_init 93 = .ok (.if_icmp .ge 32, 3) := dk_162 0 32 (dk_at dksX19_init_4 0 rfl rfl)
theorem dX19_init_96 : decode cX19_init 96 = .ok (.iload 4, 2) := dk_21 4 (dk_at dksX19_init_4 3 rfl rfl)
theorem dX19_init_98 : decode cX19_init 98 = .ok (.aload_n 1, 1) := dk_43 (dk_at dksX19_init_4 5 rfl rfl)
theorem dX19_init_99 : decode cX19_init 99 = .ok (.getfield 42, 3) := dk_180 0 42 (dk_at dksX19_init_4 6 rfl rfl)
theorem dX19_init_102 : decode cX19_init 102 = .ok (.iload 5, 2) := dk_21 5 (dk_at dksX19_init_4 9 rfl rfl)
theorem dX19_init_104 : decode cX19_init 104 = .ok (.baload, 1) := dk_51 (dk_at dksX19_init_4 11 rfl rfl)
theorem dX19_init_105 : decode cX19_init 105 = .ok (.ifCond .eq 10, 3) := dk_153 0 10 (dk_at dksX19_init_4 12 rfl rfl)
theorem dX19_init_108 : decode cX19_init 108 = .ok (.iconst 1, 1) := dk_4 (dk_at dksX19_init_4 15 rfl rfl)
theorem dX19_init_109 : decode cX19_init 109 = .ok (.iload 5, 2) := dk_21 5 (dk_at dksX19_init_4 16 rfl rfl)
theorem dX19_init_111 : decode cX19_init 111 = .ok (.ishl, 1) := dk_120 (dk_at dksX19_init_4 18 rfl rfl)
theorem dX19_init_112 : decode cX19_init 112 = .ok (.goto 4, 3) := dk_167 0 4 (dk_at dksX19_init_4 19 rfl rfl)
theorem dX19_init_115 : decode cX19_init 115 = .ok (.iconst 0, 1) := dk_3 (dk_at dksX19_init_4 22 rfl rfl)
theorem dX19_init_116 : decode cX19_init 116 = .ok (.ior, 1) := dk_128 (dk_at dksX19_init_4 23 rfl rfl)
theorem dX19_init_117 : decode cX19_init 117 = .ok (.istore 4, 2) := dk_54 4 (dk_at dksX19_init_5 0 rfl rfl)
theorem dX19_init_119 : decode cX19_init 119 = .ok (.iinc 5 1, 3) := dk_132 5 1 (dk_at dksX19_init_5 2 rfl rfl)
theorem dX19_init_122 : decode cX19_init 122 = .ok (.goto (-33), 3) := dk_167 255 223 (dk_at dksX19_init_5 5 rfl rfl)
theorem dX19_init_125 : decode cX19_init 125 = .ok (.aload_n 0, 1) := dk_42 (dk_at dksX19_init_5 8 rfl rfl)
theorem dX19_init_126 : decode cX19_init 126 = .ok (.iconst 0, 1) := dk_3 (dk_at dksX19_init_5 9 rfl rfl)
theorem dX19_init_127 : decode cX19_init 127 = .ok (.iload 4, 2) := dk_21 4 (dk_at dksX19_init_5 10 rfl rfl)
theorem dX19_init_129 : decode cX19_init 129 = .ok (.invokevirtual 46, 3) := dk_182 0 46 (dk_at dksX19_init_5 12 rfl rfl)
theorem dX19_init_132 : decode cX19_init 132 = .ok (.return_, 1) := dk_177 (dk_at dksX19_init_5 15 rfl rfl)
def dkwX19_goes_6 : List UInt8 := [167, 255, 214, 132, 3, 1, 167, 255, 168, 177]
abbrev dktX19_goes_6 : List UInt8 := dkwX19_goes_6 ++ []
def dkwX19_goes_5 : List UInt8 := [182, 0, 76, 153, 0, 16, 42, 27, 4, 29, 120, 4, 21, 4, 120, 128, 182, 0, 80, 132, 4, 1]
abbrev dktX19_goes_5 : List UInt8 := dkwX19_goes_5 ++ dktX19_goes_6
def dkwX19_goes_4 : List UInt8 := [96, 54, 4, 21, 4, 16, 10, 162, 0, 41, 42, 180, 0, 30, 5, 160, 0, 33, 42, 21, 4, 27, 28]
abbrev dktX19_goes_4 : List UInt8 := dkwX19_goes_4 ++ dktX19_goes_5
def dkwX19_goes_3 : List UInt8 := [154, 0, 6, 167, 0, 69, 42, 180, 0, 30, 4, 160, 0, 11, 42, 27, 4, 29, 120, 182, 0, 80, 29, 4]
abbrev dktX19_goes_3 : List UInt8 := dkwX19_goes_3 ++ dktX19_goes_4
def dkwX19_goes_2 : List UInt8 := [42, 180, 0, 27, 184, 0, 70, 177, 3, 62, 29, 16, 10, 162, 0, 88, 42, 29, 27, 28, 182, 0, 76]
abbrev dktX19_goes_2 : List UInt8 := dkwX19_goes_2 ++ dktX19_goes_3
def dkwX19_goes_1 : List UInt8 := [177, 27, 42, 180, 0, 27, 160, 0, 26, 42, 4, 181, 0, 67, 42, 180, 0, 33, 3, 42, 180, 0, 36, 3]
abbrev dktX19_goes_1 : List UInt8 := dkwX19_goes_1 ++ dktX19_goes_2
def dkwX19_goes_0 : List UInt8 := [42, 27, 42, 180, 0, 27, 160, 0, 7, 4, 167, 0, 4, 3, 181, 0, 59, 42, 182, 0, 63, 154, 0, 4]
abbrev dktX19_goes_0 : List UInt8 := dkwX19_goes_0 ++ dktX19_goes_1
theorem dksX19_goes_0 : cX19_goes.data.toList.drop 0 = dktX19_goes_0 := by decide +kernel
theorem dksX19_goes_1 : cX19_goes.data.toList.drop 24 = dktX19_goes_1 := dk_seg dksX19_goes_0 24 rfl rfl
theorem dksX19_goes_2 : cX19_goes.data.toList.drop 48 = dktX19_goes_2 := dk_seg dksX19_goes_1 24 rfl rfl
theorem dksX19_goes_3 : cX19_goes.data.toList.drop 71 = dktX19_goes_3 := dk_seg dksX19_goes_2 23 rfl rfl
theorem dksX19_goes_4 : cX19_goes.data.toList.drop 95 = dktX19_goes_4 := dk_seg dksX19_goes_3 24 rfl rfl
theorem dksX19_goes_5 : cX19_goes.data.toList.drop 118 = dktX19_goes_5 := dk_seg dksX19_goes_4 23 rfl rfl
theorem dksX19_goes_6 : cX19_goes.data.toList.drop 140 = dktX19_goes_6 := dk_seg dksX19_goes_5 22 rfl rfl
theorem dX19_goes_0 : decode cX19_goes 0 = .ok (.aload_n 0, 1) := dk_42 (dk_at dksX19_goes_0 0 rfl rfl)
theorem dX19_goes_1 : decode cX19_goes 1 = .ok (.iload_n 1, 1) := dk_27 (dk_at dksX19_goes_0 1 rfl rfl)
theorem dX19_goes_2 : decode cX19_goes 2 = .ok (.aload_n 0, 1) := dk_42 (dk_at dksX19_goes_0 2 rfl rfl)
theorem dX19_goes_3 : decode cX19_goes 3 = .ok (.getfield 27, 3) := dk_180 0 27 (dk_at dksX19_goes_0 3 rfl rfl)
theorem dX19_goes_6 : decode cX19_goes 6 = .ok (.if_icmp .ne 7, 3) := dk_160 0 7 (dk_at dksX19_goes_0 6 rfl rfl)
theorem dX19_goes_9 : decode cX19_goes 9 = .ok (.iconst 1, 1) := dk_4 (dk_at dksX19_goes_0 9 rfl rfl)
theorem dX19_goes_10 : decode cX19_goes 10 = .ok (.goto 4, 3) := dk_167 0 4 (dk_at dksX19_goes_0 10 rfl rfl)
theorem dX19_goes_13 : decode cX19_goes 13 = .ok (.iconst 0, 1) := dk_3 (dk_at dksX19_goes_0 13 rfl rfl)
theorem dX19_goes_14 : decode cX19_goes 14 = .ok (.putfield 59, 3) := dk_181 0 59 (dk_at dksX19_goes_0 14 rfl rfl)
theorem dX19_goes_17 : decode cX19_goes 17 = .ok (.aload_n 0, 1) := dk_42 (dk_at dksX19_goes_0 17 rfl rfl)
theorem dX19_goes_18 : decode cX19_goes 18 = .ok (.invokevirtual 63, 3) := dk_182 0 63 (dk_at dksX19_goes_0 18 rfl rfl)
theorem dX19_goes_21 : decode cX19_goes 21 = .ok (.ifCond .ne 4, 3) := dk_154 0 4 (dk_at dksX19_goes_0 21 rfl rfl)
theorem dX19_goes_24 : decode cX19_goes 24 = .ok (.return_, 1) := dk_177 (dk_at dksX19_goes_1 0 rfl rfl)
theorem dX19_goes_25 : decode cX19_goes 25 = .ok (.iload_n 1, 1) := dk_27 (dk_at dksX19_goes_1 1 rfl rfl)
theorem dX19_goes_26 : decode cX19_goes 26 = .ok (.aload_n 0, 1) := dk_42 (dk_at dksX19_goes_1 2 rfl rfl)
theorem dX19_goes_27 : decode cX19_goes 27 = .ok (.getfield 27, 3) := dk_180 0 27 (dk_at dksX19_goes_1 3 rfl rfl)
theorem dX19_goes_30 : decode cX19_goes 30 = .ok (.if_icmp .ne 26, 3) := dk_160 0 26 (dk_at dksX19_goes_1 6 rfl rfl)
theorem dX19_goes_33 : decode cX19_goes 33 = .ok (.aload_n 0, 1) := dk_42 (dk_at dksX19_goes_1 9 rfl rfl)
theorem dX19_goes_34 : decode cX19_goes 34 = .ok (.iconst 1, 1) := dk_4 (dk_at dksX19_goes_1 10 rfl rfl)
theorem dX19_goes_35 : decode cX19_goes 35 = .ok (.putfield 67, 3) := dk_181 0 67 (dk_at dksX19_goes_1 11 rfl rfl)
theorem dX19_goes_38 : decode cX19_goes 38 = .ok (.aload_n 0, 1) := dk_42 (dk_at dksX19_goes_1 14 rfl rfl)
theorem dX19_goes_39 : decode cX19_goes 39 = .ok (.getfield 33, 3) := dk_180 0 33 (dk_at dksX19_goes_1 15 rfl rfl)
theorem dX19_goes_42 : decode cX19_goes 42 = .ok (.iconst 0, 1) := dk_3 (dk_at dksX19_goes_1 18 rfl rfl)
theorem dX19_goes_43 : decode cX19_goes 43 = .ok (.aload_n 0, 1) := dk_42 (dk_at dksX19_goes_1 19 rfl rfl)
theorem dX19_goes_44 : decode cX19_goes 44 = .ok (.getfield 36, 3) := dk_180 0 36 (dk_at dksX19_goes_1 20 rfl rfl)
theorem dX19_goes_47 : decode cX19_goes 47 = .ok (.iconst 0, 1) := dk_3 (dk_at dksX19_goes_1 23 rfl rfl)
theorem dX19_goes_48 : decode cX19_goes 48 = .ok (.aload_n 0, 1) := dk_42 (dk_at dksX19_goes_2 0 rfl rfl)
theorem dX19_goes_49 : decode cX19_goes 49 = .ok (.getfield 27, 3) := dk_180 0 27 (dk_at dksX19_goes_2 1 rfl rfl)
theorem dX19_goes_52 : decode cX19_goes 52 = .ok (.invokestatic 70, 3) := dk_184 0 70 (dk_at dksX19_goes_2 4 rfl rfl)
theorem dX19_goes_55 : decode cX19_goes 55 = .ok (.return_, 1) := dk_177 (dk_at dksX19_goes_2 7 rfl rfl)
theorem dX19_goes_56 : decode cX19_goes 56 = .ok (.iconst 0, 1) := dk_3 (dk_at dksX19_goes_2 8 rfl rfl)
theorem dX19_goes_57 : decode cX19_goes 57 = .ok (.istore_n 3, 1) := dk_62 (dk_at dksX19_goes_2 9 rfl rfl)
theorem dX19_goes_58 : decode cX19_goes 58 = .ok (.iload_n 3, 1) := dk_29 (dk_at dksX19_goes_2 10 rfl rfl)
theorem dX19_goes_59 : decode cX19_goes 59 = .ok (.bipush 10, 2) := dk_16 10 (dk_at dksX19_goes_2 11 rfl rfl)
theorem dX19_goes_61 : decode cX19_goes 61 = .ok (.if_icmp .ge 88, 3) := dk_162 0 88 (dk_at dksX19_goes_2 13 rfl rfl)
theorem dX19_goes_64 : decode cX19_goes 64 = .ok (.aload_n 0, 1) := dk_42 (dk_at dksX19_goes_2 16 rfl rfl)
theorem dX19_goes_65 : decode cX19_goes 65 = .ok (.iload_n 3, 1) := dk_29 (dk_at dksX19_goes_2 17 rfl rfl)
theorem dX19_goes_66 : decode cX19_goes 66 = .ok (.iload_n 1, 1) := dk_27 (dk_at dksX19_goes_2 18 rfl rfl)
theorem dX19_goes_67 : decode cX19_goes 67 = .ok (.iload_n 2, 1) := dk_28 (dk_at dksX19_goes_2 19 rfl rfl)
theorem dX19_goes_68 : decode cX19_goes 68 = .ok (.invokevirtual 76, 3) := dk_182 0 76 (dk_at dksX19_goes_2 20 rfl rfl)
theorem dX19_goes_71 : decode cX19_goes 71 = .ok (.ifCond .ne 6, 3) := dk_154 0 6 (dk_at dksX19_goes_3 0 rfl rfl)
theorem dX19_goes_74 : decode cX19_goes 74 = .ok (.goto 69, 3) := dk_167 0 69 (dk_at dksX19_goes_3 3 rfl rfl)
theorem dX19_goes_77 : decode cX19_goes 77 = .ok (.aload_n 0, 1) := dk_42 (dk_at dksX19_goes_3 6 rfl rfl)
theorem dX19_goes_78 : decode cX19_goes 78 = .ok (.getfield 30, 3) := dk_180 0 30 (dk_at dksX19_goes_3 7 rfl rfl)
theorem dX19_goes_81 : decode cX19_goes 81 = .ok (.iconst 1, 1) := dk_4 (dk_at dksX19_goes_3 10 rfl rfl)
theorem dX19_goes_82 : decode cX19_goes 82 = .ok (.if_icmp .ne 11, 3) := dk_160 0 11 (dk_at dksX19_goes_3 11 rfl rfl)
theorem dX19_goes_85 : decode cX19_goes 85 = .ok (.aload_n 0, 1) := dk_42 (dk_at dksX19_goes_3 14 rfl rfl)
theorem dX19_goes_86 : decode cX19_goes 86 = .ok (.iload_n 1, 1) := dk_27 (dk_at dksX19_goes_3 15 rfl rfl)
theorem dX19_goes_87 : decode cX19_goes 87 = .ok (.iconst 1, 1) := dk_4 (dk_at dksX19_goes_3 16 rfl rfl)
theorem dX19_goes_88 : decode cX19_goes 88 = .ok (.iload_n 3, 1) := dk_29 (dk_at dksX19_goes_3 17 rfl rfl)
theorem dX19_goes_89 : decode cX19_goes 89 = .ok (.ishl, 1) := dk_120 (dk_at dksX19_goes_3 18 rfl rfl)
theorem dX19_goes_90 : decode cX19_goes 90 = .ok (.invokevirtual 80, 3) := dk_182 0 80 (dk_at dksX19_goes_3 19 rfl rfl)
theorem dX19_goes_93 : decode cX19_goes 93 = .ok (.iload_n 3, 1) := dk_29 (dk_at dksX19_goes_3 22 rfl rfl)
theorem dX19_goes_94 : decode cX19_goes 94 = .ok (.iconst 1, 1) := dk_4 (dk_at dksX19_goes_3 23 rfl rfl)
theorem dX19_goes_95 : decode cX19_goes 95 = .ok (.iadd, 1) := dk_96 (dk_at dksX19_goes_4 0 rfl rfl)
theorem dX19_goes_96 : decode cX19_goes 96 = .ok (.istore 4, 2) := dk_54 4 (dk_at dksX19_goes_4 1 rfl rfl)
theorem dX19_goes_98 : decode cX19_goes 98 = .ok (.iload 4, 2) := dk_21 4 (dk_at dksX19_goes_4 3 rfl rfl)
theorem dX19_goes_100 : decode cX19_goes 100 = .ok (.bipush 10, 2) := dk_16 10 (dk_at dksX19_goes_4 5 rfl rfl)
theorem dX19_goes_102 : decode cX19_goes 102 = .ok (.if_icmp .ge 41, 3) := dk_162 0 41 (dk_at dksX19_goes_4 7 rfl rfl)
theorem dX19_goes_105 : decode cX19_goes 105 = .ok (.aload_n 0, 1) := dk_42 (dk_at dksX19_goes_4 10 rfl rfl)
theorem dX19_goes_106 : decode cX19_goes 106 = .ok (.getfield 30, 3) := dk_180 0 30 (dk_at dksX19_goes_4 11 rfl rfl)
theorem dX19_goes_109 : decode cX19_goes 109 = .ok (.iconst 2, 1) := dk_5 (dk_at dksX19_goes_4 14 rfl rfl)
theorem dX19_goes_110 : decode cX19_goes 110 = .ok (.if_icmp .ne 33, 3) := dk_160 0 33 (dk_at dksX19_goes_4 15 rfl rfl)
theorem dX19_goes_113 : decode cX19_goes 113 = .ok (.aload_n 0, 1) := dk_42 (dk_at dksX19_goes_4 18 rfl rfl)
theorem dX19_goes_114 : decode cX19_goes 114 = .ok (.iload 4, 2) := dk_21 4 (dk_at dksX19_goes_4 19 rfl rfl)
theorem dX19_goes_116 : decode cX19_goes 116 = .ok (.iload_n 1, 1) := dk_27 (dk_at dksX19_goes_4 21 rfl rfl)
theorem dX19_goes_117 : decode cX19_goes 117 = .ok (.iload_n 2, 1) := dk_28 (dk_at dksX19_goes_4 22 rfl rfl)
theorem dX19_goes_118 : decode cX19_goes 118 = .ok (.invokevirtual 76, 3) := dk_182 0 76 (dk_at dksX19_goes_5 0 rfl rfl)
theorem dX19_goes_121 : decode cX19_goes 121 = .ok (.ifCond .eq 16, 3) := dk_153 0 16 (dk_at dksX19_goes_5 3 rfl rfl)
theorem dX19_goes_124 : decode cX19_goes 124 = .ok (.aload_n 0, 1) := dk_42 (dk_at dksX19_goes_5 6 rfl rfl)
theorem dX19_goes_125 : decode cX19_goes 125 = .ok (.iload_n 1, 1) := dk_27 (dk_at dksX19_goes_5 7 rfl rfl)
theorem dX19_goes_126 : decode cX19_goes 126 = .ok (.iconst 1, 1) := dk_4 (dk_at dksX19_goes_5 8 rfl rfl)
theorem dX19_goes_127 : decode cX19_goes 127 = .ok (.iload_n 3, 1) := dk_29 (dk_at dksX19_goes_5 9 rfl rfl)
theorem dX19_goes_128 : decode cX19_goes 128 = .ok (.ishl, 1) := dk_120 (dk_at dksX19_goes_5 10 rfl rfl)
theorem dX19_goes_129 : decode cX19_goes 129 = .ok (.iconst 1, 1) := dk_4 (dk_at dksX19_goes_5 11 rfl rfl)
theorem dX19_goes_130 : decode cX19_goes 130 = .ok (.iload 4, 2) := dk_21 4 (dk_at dksX19_goes_5 12 rfl rfl)
theorem dX19_goes_132 : decode cX19_goes 132 = .ok (.ishl, 1) := dk_120 (dk_at dksX19_goes_5 14 rfl rfl)
theorem dX19_goes_133 : decode cX19_goes 133 = .ok (.ior, 1) := dk_128 (dk_at dksX19_goes_5 15 rfl rfl)
theorem dX19_goes_134 : decode cX19_goes 134 = .ok (.invokevirtual 80, 3) := dk_182 0 80 (dk_at dksX19_goes_5 16 rfl rfl)
theorem dX19_goes_137 : decode cX19_goes 137 = .ok (.iinc 4 1, 3) := dk_132 4 1 (dk_at dksX19_goes_5 19 rfl rfl)
theorem dX19_goes_140 : decode cX19_goes 140 = .ok (.goto (-42), 3) := dk_167 255 214 (dk_at dksX19_goes_6 0 rfl rfl)
theorem dX19_goes_143 : decode cX19_goes 143 = .ok (.iinc 3 1, 3) := dk_132 3 1 (dk_at dksX19_goes_6 3 rfl rfl)
theorem dX19_goes_146 : decode cX19_goes 146 = .ok (.goto (-88), 3) := dk_167 255 168 (dk_at dksX19_goes_6 6 rfl rfl)
theorem dX19_goes_149 : decode cX19_goes 149 = .ok (.return_, 1) := dk_177 (dk_at dksX19_goes_6 9 rfl rfl)
def dkwX19_isBetter_4 : List UInt8 := [27, 181, 0, 20, 42, 28, 181, 0, 24, 4, 172]
abbrev dktX19_isBetter_4 : List UInt8 := dkwX19_isBetter_4 ++ []
def dkwX19_isBetter_3 : List UInt8 := [180, 0, 20, 160, 0, 13, 28, 42, 180, 0, 24, 161, 0, 5, 3, 172, 42, 180, 0, 59, 153, 0, 13, 42]
abbrev dktX19_isBetter_3 : List UInt8 := dkwX19_isBetter_3 ++ dktX19_isBetter_4
def dkwX19_isBetter_2 : List UInt8 := [180, 0, 15, 29, 46, 104, 96, 61, 132, 3, 1, 167, 255, 205, 27, 42, 180, 0, 20, 163, 0, 19, 27, 42]
abbrev dktX19_isBetter_2 : List UInt8 := dkwX19_isBetter_2 ++ dktX19_isBetter_3
def dkwX19_isBetter_1 : List UInt8 := [167, 0, 30, 27, 42, 180, 0, 15, 29, 46, 184, 0, 53, 60, 28, 42, 180, 0, 15, 29, 46, 42]
abbrev dktX19_isBetter_1 : List UInt8 := dkwX19_isBetter_1 ++ dktX19_isBetter_2
def dkwX19_isBetter_0 : List UInt8 := [3, 60, 3, 61, 3, 62, 29, 16, 10, 162, 0, 51, 42, 180, 0, 3, 180, 0, 50, 29, 51, 154, 0, 6]
abbrev dktX19_isBetter_0 : List UInt8 := dkwX19_isBetter_0 ++ dktX19_isBetter_1
theorem dksX19_isBetter_0 : cX19_isBetter.data.toList.drop 0 = dktX19_isBetter_0 := by decide +kernel
theorem dksX19_isBetter_1 : cX19_isBetter.data.toList.drop 24 = dktX19_isBetter_1 := dk_seg dksX19_isBetter_0 24 rfl rfl
theorem dksX19_isBetter_2 : cX19_isBetter.data.toList.drop 46 = dktX19_isBetter_2 := dk_seg dksX19_isBetter_1 22 rfl rfl
theorem dksX19_isBetter_3 : cX19_isBetter.data.toList.drop 70 = dktX19_isBetter_3 := dk_seg dksX19_isBetter_2 24 rfl rfl
theorem dksX19_isBetter_4 : cX19_isBetter.data.toList.drop 94 = dktX19_isBetter_4 := dk_seg dksX19_isBetter_3 24 rfl rfl
theorem dX19_isBetter_0 : decode cX19_isBetter 0 = .ok (.iconst 0, 1) := dk_3 (dk_at dksX19_isBetter_0 0 rfl rfl)
theorem dX19_isBetter_1 : decode cX19_isBetter 1 = .ok (.istore_n 1, 1) := dk_60 (dk_at dksX19_isBetter_0 1 rfl rfl)
theorem dX19_isBetter_2 : decode cX19_isBetter 2 = .ok (.iconst 0, 1) := dk_3 (dk_at dksX19_isBetter_0 2 rfl rfl)
theorem dX19_isBetter_3 : decode cX19_isBetter 3 = .ok (.istore_n 2, 1) := dk_61 (dk_at dksX19_isBetter_0 3 rfl rfl)
theorem dX19_isBetter_4 : decode cX19_isBetter 4 = .ok (.iconst 0, 1) := dk_3 (dk_at dksX19_isBetter_0 4 rfl rfl)
theorem dX19_isBetter_5 : decode cX19_isBetter 5 = .ok (.istore_n 3, 1) := dk_62 (dk_at dksX19_isBetter_0 5 rfl rfl)
theorem dX19_isBetter_6 : decode cX19_isBetter 6 = .ok (.iload_n 3, 1) := dk_29 (dk_at dksX19_isBetter_0 6 rfl rfl)
theorem dX19_isBetter_7 : decode cX19_isBetter 7 = .ok (.bipush 10, 2) := dk_16 10 (dk_at dksX19_isBetter_0 7 rfl rfl)
theorem dX19_isBetter_9 : decode cX19_isBetter 9 = .ok (.if_icmp .ge 51, 3) := dk_162 0 51 (dk_at dksX19_isBetter_0 9 rfl rfl)
theorem dX19_isBetter_12 : decode cX19_isBetter 12 = .ok (.aload_n 0, 1) := dk_42 (dk_at dksX19_isBetter_0 12 rfl rfl)
theorem dX19_isBetter_13 : decode cX19_isBetter 13 = .ok (.getfield 3, 3) := dk_180 0 3 (dk_at dksX19_isBetter_0 13 rfl rfl)
theorem dX19_isBetter_16 : decode cX19_isBetter 16 = .ok (.getfield 50, 3) := dk_180 0 50 (dk_at dksX19_isBetter_0 16 rfl rfl)
theorem dX19_isBetter_19 : decode cX19_isBetter 19 = .ok (.iload_n 3, 1) := dk_29 (dk_at dksX19_isBetter_0 19 rfl rfl)
theorem dX19_isBetter_20 : decode cX19_isBetter 20 = .ok (.baload, 1) := dk_51 (dk_at dksX19_isBetter_0 20 rfl rfl)
theorem dX19_isBetter_21 : decode cX19_isBetter 21 = .ok (.ifCond .ne 6, 3) := dk_154 0 6 (dk_at dksX19_isBetter_0 21 rfl rfl)
theorem dX19_isBetter_24 : decode cX19_isBetter 24 = .ok (.goto 30, 3) := dk_167 0 30 (dk_at dksX19_isBetter_1 0 rfl rfl)
theorem dX19_isBetter_27 : decode cX19_isBetter 27 = .ok (.iload_n 1, 1) := dk_27 (dk_at dksX19_isBetter_1 3 rfl rfl)
theorem dX19_isBetter_28 : decode cX19_isBetter 28 = .ok (.aload_n 0, 1) := dk_42 (dk_at dksX19_isBetter_1 4 rfl rfl)
theorem dX19_isBetter_29 : decode cX19_isBetter 29 = .ok (.getfield 15, 3) := dk_180 0 15 (dk_at dksX19_isBetter_1 5 rfl rfl)
theorem dX19_isBetter_32 : decode cX19_isBetter 32 = .ok (.iload_n 3, 1) := dk_29 (dk_at dksX19_isBetter_1 8 rfl rfl)
theorem dX19_isBetter_33 : decode cX19_isBetter 33 = .ok (.iaload, 1) := dk_46 (dk_at dksX19_isBetter_1 9 rfl rfl)
theorem dX19_isBetter_34 : decode cX19_isBetter 34 = .ok (.invokestatic 53, 3) := dk_184 0 53 (dk_at dksX19_isBetter_1 10 rfl rfl)
theorem dX19_isBetter_37 : decode cX19_isBetter 37 = .ok (.istore_n 1, 1) := dk_60 (dk_at dksX19_isBetter_1 13 rfl rfl)
theorem dX19_isBetter_38 : decode cX19_isBetter 38 = .ok (.iload_n 2, 1) := dk_28 (dk_at dksX19_isBetter_1 14 rfl rfl)
theorem dX19_isBetter_39 : decode cX19_isBetter 39 = .ok (.aload_n 0, 1) := dk_42 (dk_at dksX19_isBetter_1 15 rfl rfl)
theorem dX19_isBetter_40 : decode cX19_isBetter 40 = .ok (.getfield 15, 3) := dk_180 0 15 (dk_at dksX19_isBetter_1 16 rfl rfl)
theorem dX19_isBetter_43 : decode cX19_isBetter 43 = .ok (.iload_n 3, 1) := dk_29 (dk_at dksX19_isBetter_1 19 rfl rfl)
theorem dX19_isBetter_44 : decode cX19_isBetter 44 = .ok (.iaload, 1) := dk_46 (dk_at dksX19_isBetter_1 20 rfl rfl)
theorem dX19_isBetter_45 : decode cX19_isBetter 45 = .ok (.aload_n 0, 1) := dk_42 (dk_at dksX19_isBetter_1 21 rfl rfl)
theorem dX19_isBetter_46 : decode cX19_isBetter 46 = .ok (.getfield 15, 3) := dk_180 0 15 (dk_at dksX19_isBetter_2 0 rfl rfl)
theorem dX19_isBetter_49 : decode cX19_isBetter 49 = .ok (.iload_n 3, 1) := dk_29 (dk_at dksX19_isBetter_2 3 rfl rfl)
theorem dX19_isBetter_50 : decode cX19_isBetter 50 = .ok (.iaload, 1) := dk_46 (dk_at dksX19_isBetter_2 4 rfl rfl)
theorem dX19_isBetter_51 : decode cX19_isBetter 51 = .ok (.imul, 1) := dk_104 (dk_at dksX19_isBetter_2 5 rfl rfl)
theorem dX19_isBetter_52 : decode cX19_isBetter 52 = .ok (.iadd, 1) := dk_96 (dk_at dksX19_isBetter_2 6 rfl rfl)
theorem dX19_isBetter_53 : decode cX19_isBetter 53 = .ok (.istore_n 2, 1) := dk_61 (dk_at dksX19_isBetter_2 7 rfl rfl)
theorem dX19_isBetter_54 : decode cX19_isBetter 54 = .ok (.iinc 3 1, 3) := dk_132 3 1 (dk_at dksX19_isBetter_2 8 rfl rfl)
theorem dX19_isBetter_57 : decode cX19_isBetter 57 = .ok (.goto (-51), 3) := dk_167 255 205 (dk_at dksX19_isBetter_2 11 rfl rfl)
theorem dX19_isBetter_60 : decode cX19_isBetter 60 = .ok (.iload_n 1, 1) := dk_27 (dk_at dksX19_isBetter_2 14 rfl rfl)
theorem dX19_isBetter_61 : decode cX19_isBetter 61 = .ok (.aload_n 0, 1) := dk_42 (dk_at dksX19_isBetter_2 15 rfl rfl)
theorem dX19_isBetter_62 : decode cX19_isBetter 62 = .ok (.getfield 20, 3) := dk_180 0 20 (dk_at dksX19_isBetter_2 16 rfl rfl)
theorem dX19_isBetter_65 : decode cX19_isBetter 65 = .ok (.if_icmp .gt 19, 3) := dk_163 0 19 (dk_at dksX19_isBetter_2 19 rfl rfl)
theorem dX19_isBetter_68 : decode cX19_isBetter 68 = .ok (.iload_n 1, 1) := dk_27 (dk_at dksX19_isBetter_2 22 rfl rfl)
theorem dX19_isBetter_69 : decode cX19_isBetter 69 = .ok (.aload_n 0, 1) := dk_42 (dk_at dksX19_isBetter_2 23 rfl rfl)
theorem dX19_isBetter_70 : decode cX19_isBetter 70 = .ok (.getfield 20, 3) := dk_180 0 20 (dk_at dksX19_isBetter_3 0 rfl rfl)
theorem dX19_isBetter_73 : decode cX19_isBetter 73 = .ok (.if_icmp .ne 13, 3) := dk_160 0 13 (dk_at dksX19_isBetter_3 3 rfl rfl)
theorem dX19_isBetter_76 : decode cX19_isBetter 76 = .ok (.iload_n 2, 1) := dk_28 (dk_at dksX19_isBetter_3 6 rfl rfl)
theorem dX19_isBetter_77 : decode cX19_isBetter 77 = .ok (.aload_n 0, 1) := dk_42 (dk_at dksX19_isBetter_3 7 rfl rfl)
theorem dX19_isBetter_78 : decode cX19_isBetter 78 = .ok (.getfield 24, 3) := dk_180 0 24 (dk_at dksX19_isBetter_3 8 rfl rfl)
theorem dX19_isBetter_81 : decode cX19_isBetter 81 = .ok (.if_icmp .lt 5, 3) := dk_161 0 5 (dk_at dksX19_isBetter_3 11 rfl rfl)
theorem dX19_isBetter_84 : decode cX19_isBetter 84 = .ok (.iconst 0, 1) := dk_3 (dk_at dksX19_isBetter_3 14 rfl rfl)
theorem dX19_isBetter_85 : decode cX19_isBetter 85 = .ok (.ireturn, 1) := dk_172 (dk_at dksX19_isBetter_3 15 rfl rfl)
theorem dX19_isBetter_86 : decode cX19_isBetter 86 = .ok (.aload_n 0, 1) := dk_42 (dk_at dksX19_isBetter_3 16 rfl rfl)
theorem dX19_isBetter_87 : decode cX19_isBetter 87 = .ok (.getfield 59, 3) := dk_180 0 59 (dk_at dksX19_isBetter_3 17 rfl rfl)
theorem dX19_isBetter_90 : decode cX19_isBetter 90 = .ok (.ifCond .eq 13, 3) := dk_153 0 13 (dk_at dksX19_isBetter_3 20 rfl rfl)
theorem dX19_isBetter_93 : decode cX19_isBetter 93 = .ok (.aload_n 0, 1) := dk_42 (dk_at dksX19_isBetter_3 23 rfl rfl)
theorem dX19_isBetter_94 : decode cX19_isBetter 94 = .ok (.iload_n 1, 1) := dk_27 (dk_at dksX19_isBetter_4 0 rfl rfl)
theorem dX19_isBetter_95 : decode cX19_isBetter 95 = .ok (.putfield 20, 3) := dk_181 0 20 (dk_at dksX19_isBetter_4 1 rfl rfl)
theorem dX19_isBetter_98 : decode cX19_isBetter 98 = .ok (.aload_n 0, 1) := dk_42 (dk_at dksX19_isBetter_4 4 rfl rfl)
theorem dX19_isBetter_99 : decode cX19_isBetter 99 = .ok (.iload_n 2, 1) := dk_28 (dk_at dksX19_isBetter_4 5 rfl rfl)
theorem dX19_isBetter_100 : decode cX19_isBetter 100 = .ok (.putfield 24, 3) := dk_181 0 24 (dk_at dksX19_isBetter_4 6 rfl rfl)
theorem dX19_isBetter_103 : decode cX19_isBetter 103 = .ok (.iconst 1, 1) := dk_4 (dk_at dksX19_isBetter_4 9 rfl rfl)
theorem dX19_isBetter_104 : decode cX19_isBetter 104 = .ok (.ireturn, 1) := dk_172 (dk_at dksX19_isBetter_4 10 rfl rfl)
def dkwX19_may_1 : List UInt8 := [27, 42, 180, 0, 3, 180, 0, 83, 28, 96, 182, 0, 86, 154, 0, 7, 4, 167, 0, 4, 3, 172]
abbrev dktX19_may_1 : List UInt8 := dkwX19_may_1 ++ []
def dkwX19_may_0 : List UInt8 := [42, 180, 0, 3, 180, 0, 50, 27, 51, 153, 0, 35, 29, 27, 122, 4, 126, 154, 0, 27, 42, 180, 0, 3]
abbrev dktX19_may_0 : List UInt8 := dkwX19_may_0 ++ dktX19_may_1
theorem dksX19_may_0 : cX19_may.data.toList.drop 0 = dktX19_may_0 := by decide +kernel
theorem dksX19_may_1 : cX19_may.data.toList.drop 24 = dktX19_may_1 := dk_seg dksX19_may_0 24 rfl rfl
theorem dX19_may_0 : decode cX19_may 0 = .ok (.aload_n 0, 1) := dk_42 (dk_at dksX19_may_0 0 rfl rfl)
theorem dX19_may_1 : decode cX19_may 1 = .ok (.getfield 3, 3) := dk_180 0 3 (dk_at dksX19_may_0 1 rfl rfl)
theorem dX19_may_4 : decode cX19_may 4 = .ok (.getfield 50, 3) := dk_180 0 50 (dk_at dksX19_may_0 4 rfl rfl)
theorem dX19_may_7 : decode cX19_may 7 = .ok (.iload_n 1, 1) := dk_27 (dk_at dksX19_may_0 7 rfl rfl)
theorem dX19_may_8 : decode cX19_may 8 = .ok (.baload, 1) := dk_51 (dk_at dksX19_may_0 8 rfl rfl)
theorem dX19_may_9 : decode cX19_may 9 = .ok (.ifCond .eq 35, 3) := dk_153 0 35 (dk_at dksX19_may_0 9 rfl rfl)
theorem dX19_may_12 : decode cX19_may 12 = .ok (.iload_n 3, 1) := dk_29 (dk_at dksX19_may_0 12 rfl rfl)
theorem dX19_may_13 : decode cX19_may 13 = .ok (.iload_n 1, 1) := dk_27 (dk_at dksX19_may_0 13 rfl rfl)
theorem dX19_may_14 : decode cX19_may 14 = .ok (.ishr, 1) := dk_122 (dk_at dksX19_may_0 14 rfl rfl)
theorem dX19_may_15 : decode cX19_may 15 = .ok (.iconst 1, 1) := dk_4 (dk_at dksX19_may_0 15 rfl rfl)
theorem dX19_may_16 : decode cX19_may 16 = .ok (.iand, 1) := dk_126 (dk_at dksX19_may_0 16 rfl rfl)
theorem dX19_may_17 : decode cX19_may 17 = .ok (.ifCond .ne 27, 3) := dk_154 0 27 (dk_at dksX19_may_0 17 rfl rfl)
theorem dX19_may_20 : decode cX19_may 20 = .ok (.aload_n 0, 1) := dk_42 (dk_at dksX19_may_0 20 rfl rfl)
theorem dX19_may_21 : decode cX19_may 21 = .ok (.getfield 3, 3) := dk_180 0 3 (dk_at dksX19_may_0 21 rfl rfl)
theorem dX19_may_24 : decode cX19_may 24 = .ok (.iload_n 1, 1) := dk_27 (dk_at dksX19_may_1 0 rfl rfl)
theorem dX19_may_25 : decode cX19_may 25 = .ok (.aload_n 0, 1) := dk_42 (dk_at dksX19_may_1 1 rfl rfl)
theorem dX19_may_26 : decode cX19_may 26 = .ok (.getfield 3, 3) := dk_180 0 3 (dk_at dksX19_may_1 2 rfl rfl)
theorem dX19_may_29 : decode cX19_may 29 = .ok (.getfield 83, 3) := dk_180 0 83 (dk_at dksX19_may_1 5 rfl rfl)
theorem dX19_may_32 : decode cX19_may 32 = .ok (.iload_n 2, 1) := dk_28 (dk_at dksX19_may_1 8 rfl rfl)
theorem dX19_may_33 : decode cX19_may 33 = .ok (.iadd, 1) := dk_96 (dk_at dksX19_may_1 9 rfl rfl)
theorem dX19_may_34 : decode cX19_may 34 = .ok (.invokevirtual 86, 3) := dk_182 0 86 (dk_at dksX19_may_1 10 rfl rfl)
theorem dX19_may_37 : decode cX19_may 37 = .ok (.ifCond .ne 7, 3) := dk_154 0 7 (dk_at dksX19_may_1 13 rfl rfl)
theorem dX19_may_40 : decode cX19_may 40 = .ok (.iconst 1, 1) := dk_4 (dk_at dksX19_may_1 16 rfl rfl)
theorem dX19_may_41 : decode cX19_may 41 = .ok (.goto 4, 3) := dk_167 0 4 (dk_at dksX19_may_1 17 rfl rfl)
theorem dX19_may_44 : decode cX19_may 44 = .ok (.iconst 0, 1) := dk_3 (dk_at dksX19_may_1 20 rfl rfl)
theorem dX19_may_45 : decode cX19_may 45 = .ok (.ireturn, 1) := dk_172 (dk_at dksX19_may_1 21 rfl rfl)
def dkwX19_takes_2 : List UInt8 := [162, 0, 23, 42, 180, 0, 15, 29, 92, 46, 28, 29, 122, 4, 126, 100, 79, 132, 3, 1, 167, 255, 233, 177]
abbrev dktX19_takes_2 : List UInt8 := dkwX19_takes_2 ++ []
def dkwX19_takes_1 : List UInt8 := [122, 4, 126, 96, 79, 132, 3, 1, 167, 255, 233, 42, 27, 4, 96, 28, 182, 0, 46, 3, 62, 29, 16, 10]
abbrev dktX19_takes_1 : List UInt8 := dkwX19_takes_1 ++ dktX19_takes_2
def dkwX19_takes_0 : List UInt8 := [42, 180, 0, 33, 27, 28, 79, 3, 62, 29, 16, 10, 162, 0, 23, 42, 180, 0, 15, 29, 92, 46, 28, 29]
abbrev dktX19_takes_0 : List UInt8 := dkwX19_takes_0 ++ dktX19_takes_1
theorem dksX19_takes_0 : cX19_takes.data.toList.drop 0 = dktX19_takes_0 := by decide +kernel
theorem dksX19_takes_1 : cX19_takes.data.toList.drop 24 = dktX19_takes_1 := dk_seg dksX19_takes_0 24 rfl rfl
theorem dksX19_takes_2 : cX19_takes.data.toList.drop 48 = dktX19_takes_2 := dk_seg dksX19_takes_1 24 rfl rfl
theorem dX19_takes_0 : decode cX19_takes 0 = .ok (.aload_n 0, 1) := dk_42 (dk_at dksX19_takes_0 0 rfl rfl)
theorem dX19_takes_1 : decode cX19_takes 1 = .ok (.getfield 33, 3) := dk_180 0 33 (dk_at dksX19_takes_0 1 rfl rfl)
theorem dX19_takes_4 : decode cX19_takes 4 = .ok (.iload_n 1, 1) := dk_27 (dk_at dksX19_takes_0 4 rfl rfl)
theorem dX19_takes_5 : decode cX19_takes 5 = .ok (.iload_n 2, 1) := dk_28 (dk_at dksX19_takes_0 5 rfl rfl)
theorem dX19_takes_6 : decode cX19_takes 6 = .ok (.iastore, 1) := dk_79 (dk_at dksX19_takes_0 6 rfl rfl)
theorem dX19_takes_7 : decode cX19_takes 7 = .ok (.iconst 0, 1) := dk_3 (dk_at dksX19_takes_0 7 rfl rfl)
theorem dX19_takes_8 : decode cX19_takes 8 = .ok (.istore_n 3, 1) := dk_62 (dk_at dksX19_takes_0 8 rfl rfl)
theorem dX19_takes_9 : decode cX19_takes 9 = .ok (.iload_n 3, 1) := dk_29 (dk_at dksX19_takes_0 9 rfl rfl)
theorem dX19_takes_10 : decode cX19_takes 10 = .ok (.bipush 10, 2) := dk_16 10 (dk_at dksX19_takes_0 10 rfl rfl)
theorem dX19_takes_12 : decode cX19_takes 12 = .ok (.if_icmp .ge 23, 3) := dk_162 0 23 (dk_at dksX19_takes_0 12 rfl rfl)
theorem dX19_takes_15 : decode cX19_takes 15 = .ok (.aload_n 0, 1) := dk_42 (dk_at dksX19_takes_0 15 rfl rfl)
theorem dX19_takes_16 : decode cX19_takes 16 = .ok (.getfield 15, 3) := dk_180 0 15 (dk_at dksX19_takes_0 16 rfl rfl)
theorem dX19_takes_19 : decode cX19_takes 19 = .ok (.iload_n 3, 1) := dk_29 (dk_at dksX19_takes_0 19 rfl rfl)
theorem dX19_takes_20 : decode cX19_takes 20 = .ok (.dup2, 1) := dk_92 (dk_at dksX19_takes_0 20 rfl rfl)
theorem dX19_takes_21 : decode cX19_takes 21 = .ok (.iaload, 1) := dk_46 (dk_at dksX19_takes_0 21 rfl rfl)
theorem dX19_takes_22 : decode cX19_takes 22 = .ok (.iload_n 2, 1) := dk_28 (dk_at dksX19_takes_0 22 rfl rfl)
theorem dX19_takes_23 : decode cX19_takes 23 = .ok (.iload_n 3, 1) := dk_29 (dk_at dksX19_takes_0 23 rfl rfl)
theorem dX19_takes_24 : decode cX19_takes 24 = .ok (.ishr, 1) := dk_122 (dk_at dksX19_takes_1 0 rfl rfl)
theorem dX19_takes_25 : decode cX19_takes 25 = .ok (.iconst 1, 1) := dk_4 (dk_at dksX19_takes_1 1 rfl rfl)
theorem dX19_takes_26 : decode cX19_takes 26 = .ok (.iand, 1) := dk_126 (dk_at dksX19_takes_1 2 rfl rfl)
theorem dX19_takes_27 : decode cX19_takes 27 = .ok (.iadd, 1) := dk_96 (dk_at dksX19_takes_1 3 rfl rfl)
theorem dX19_takes_28 : decode cX19_takes 28 = .ok (.iastore, 1) := dk_79 (dk_at dksX19_takes_1 4 rfl rfl)
theorem dX19_takes_29 : decode cX19_takes 29 = .ok (.iinc 3 1, 3) := dk_132 3 1 (dk_at dksX19_takes_1 5 rfl rfl)
theorem dX19_takes_32 : decode cX19_takes 32 = .ok (.goto (-23), 3) := dk_167 255 233 (dk_at dksX19_takes_1 8 rfl rfl)
theorem dX19_takes_35 : decode cX19_takes 35 = .ok (.aload_n 0, 1) := dk_42 (dk_at dksX19_takes_1 11 rfl rfl)
theorem dX19_takes_36 : decode cX19_takes 36 = .ok (.iload_n 1, 1) := dk_27 (dk_at dksX19_takes_1 12 rfl rfl)
theorem dX19_takes_37 : decode cX19_takes 37 = .ok (.iconst 1, 1) := dk_4 (dk_at dksX19_takes_1 13 rfl rfl)
theorem dX19_takes_38 : decode cX19_takes 38 = .ok (.iadd, 1) := dk_96 (dk_at dksX19_takes_1 14 rfl rfl)
theorem dX19_takes_39 : decode cX19_takes 39 = .ok (.iload_n 2, 1) := dk_28 (dk_at dksX19_takes_1 15 rfl rfl)
theorem dX19_takes_40 : decode cX19_takes 40 = .ok (.invokevirtual 46, 3) := dk_182 0 46 (dk_at dksX19_takes_1 16 rfl rfl)
theorem dX19_takes_43 : decode cX19_takes 43 = .ok (.iconst 0, 1) := dk_3 (dk_at dksX19_takes_1 19 rfl rfl)
theorem dX19_takes_44 : decode cX19_takes 44 = .ok (.istore_n 3, 1) := dk_62 (dk_at dksX19_takes_1 20 rfl rfl)
theorem dX19_takes_45 : decode cX19_takes 45 = .ok (.iload_n 3, 1) := dk_29 (dk_at dksX19_takes_1 21 rfl rfl)
theorem dX19_takes_46 : decode cX19_takes 46 = .ok (.bipush 10, 2) := dk_16 10 (dk_at dksX19_takes_1 22 rfl rfl)
theorem dX19_takes_48 : decode cX19_takes 48 = .ok (.if_icmp .ge 23, 3) := dk_162 0 23 (dk_at dksX19_takes_2 0 rfl rfl)
theorem dX19_takes_51 : decode cX19_takes 51 = .ok (.aload_n 0, 1) := dk_42 (dk_at dksX19_takes_2 3 rfl rfl)
theorem dX19_takes_52 : decode cX19_takes 52 = .ok (.getfield 15, 3) := dk_180 0 15 (dk_at dksX19_takes_2 4 rfl rfl)
theorem dX19_takes_55 : decode cX19_takes 55 = .ok (.iload_n 3, 1) := dk_29 (dk_at dksX19_takes_2 7 rfl rfl)
theorem dX19_takes_56 : decode cX19_takes 56 = .ok (.dup2, 1) := dk_92 (dk_at dksX19_takes_2 8 rfl rfl)
theorem dX19_takes_57 : decode cX19_takes 57 = .ok (.iaload, 1) := dk_46 (dk_at dksX19_takes_2 9 rfl rfl)
theorem dX19_takes_58 : decode cX19_takes 58 = .ok (.iload_n 2, 1) := dk_28 (dk_at dksX19_takes_2 10 rfl rfl)
theorem dX19_takes_59 : decode cX19_takes 59 = .ok (.iload_n 3, 1) := dk_29 (dk_at dksX19_takes_2 11 rfl rfl)
theorem dX19_takes_60 : decode cX19_takes 60 = .ok (.ishr, 1) := dk_122 (dk_at dksX19_takes_2 12 rfl rfl)
theorem dX19_takes_61 : decode cX19_takes 61 = .ok (.iconst 1, 1) := dk_4 (dk_at dksX19_takes_2 13 rfl rfl)
theorem dX19_takes_62 : decode cX19_takes 62 = .ok (.iand, 1) := dk_126 (dk_at dksX19_takes_2 14 rfl rfl)
theorem dX19_takes_63 : decode cX19_takes 63 = .ok (.isub, 1) := dk_100 (dk_at dksX19_takes_2 15 rfl rfl)
theorem dX19_takes_64 : decode cX19_takes 64 = .ok (.iastore, 1) := dk_79 (dk_at dksX19_takes_2 16 rfl rfl)
theorem dX19_takes_65 : decode cX19_takes 65 = .ok (.iinc 3 1, 3) := dk_132 3 1 (dk_at dksX19_takes_2 17 rfl rfl)
theorem dX19_takes_68 : decode cX19_takes 68 = .ok (.goto (-23), 3) := dk_167 255 233 (dk_at dksX19_takes_2 20 rfl rfl)
theorem dX19_takes_71 : decode cX19_takes 71 = .ok (.return_, 1) := dk_177 (dk_at dksX19_takes_2 23 rfl rfl)
def dkwX20_init_0 : List UInt8 := [42, 183, 0, 1, 42, 27, 181, 0, 7, 42, 28, 181, 0, 13, 42, 29, 181, 0, 16, 177]
abbrev dktX20_init_0 : List UInt8 := dkwX20_init_0 ++ []
theorem dksX20_init_0 : cX20_init.data.toList.drop 0 = dktX20_init_0 := by decide +kernel
theorem dX20_init_0 : decode cX20_init 0 = .ok (.aload_n 0, 1) := dk_42 (dk_at dksX20_init_0 0 rfl rfl)
theorem dX20_init_1 : decode cX20_init 1 = .ok (.invokespecial 1, 3) := dk_183 0 1 (dk_at dksX20_init_0 1 rfl rfl)
theorem dX20_init_4 : decode cX20_init 4 = .ok (.aload_n 0, 1) := dk_42 (dk_at dksX20_init_0 4 rfl rfl)
theorem dX20_init_5 : decode cX20_init 5 = .ok (.iload_n 1, 1) := dk_27 (dk_at dksX20_init_0 5 rfl rfl)
theorem dX20_init_6 : decode cX20_init 6 = .ok (.putfield 7, 3) := dk_181 0 7 (dk_at dksX20_init_0 6 rfl rfl)
theorem dX20_init_9 : decode cX20_init 9 = .ok (.aload_n 0, 1) := dk_42 (dk_at dksX20_init_0 9 rfl rfl)
theorem dX20_init_10 : decode cX20_init 10 = .ok (.iload_n 2, 1) := dk_28 (dk_at dksX20_init_0 10 rfl rfl)
theorem dX20_init_11 : decode cX20_init 11 = .ok (.putfield 13, 3) := dk_181 0 13 (dk_at dksX20_init_0 11 rfl rfl)
theorem dX20_init_14 : decode cX20_init 14 = .ok (.aload_n 0, 1) := dk_42 (dk_at dksX20_init_0 14 rfl rfl)
theorem dX20_init_15 : decode cX20_init 15 = .ok (.iload_n 3, 1) := dk_29 (dk_at dksX20_init_0 15 rfl rfl)
theorem dX20_init_16 : decode cX20_init 16 = .ok (.putfield 16, 3) := dk_181 0 16 (dk_at dksX20_init_0 16 rfl rfl)
theorem dX20_init_19 : decode cX20_init 19 = .ok (.return_, 1) := dk_177 (dk_at dksX20_init_0 19 rfl rfl)
def dkwX21_init_0 : List UInt8 := [42, 183, 0, 1, 42, 43, 181, 0, 7, 42, 28, 181, 0, 13, 177]
abbrev dktX21_init_0 : List UInt8 := dkwX21_init_0 ++ []
theorem dksX21_init_0 : cX21_init.data.toList.drop 0 = dktX21_init_0 := by decide +kernel
theorem dX21_init_0 : decode cX21_init 0 = .ok (.aload_n 0, 1) := dk_42 (dk_at dksX21_init_0 0 rfl rfl)
theorem dX21_init_1 : decode cX21_init 1 = .ok (.invokespecial 1, 3) := dk_183 0 1 (dk_at dksX21_init_0 1 rfl rfl)
theorem dX21_init_4 : decode cX21_init 4 = .ok (.aload_n 0, 1) := dk_42 (dk_at dksX21_init_0 4 rfl rfl)
theorem dX21_init_5 : decode cX21_init 5 = .ok (.aload_n 1, 1) := dk_43 (dk_at dksX21_init_0 5 rfl rfl)
theorem dX21_init_6 : decode cX21_init 6 = .ok (.putfield 7, 3) := dk_181 0 7 (dk_at dksX21_init_0 6 rfl rfl)
theorem dX21_init_9 : decode cX21_init 9 = .ok (.aload_n 0, 1) := dk_42 (dk_at dksX21_init_0 9 rfl rfl)
theorem dX21_init_10 : decode cX21_init 10 = .ok (.iload_n 2, 1) := dk_28 (dk_at dksX21_init_0 10 rfl rfl)
theorem dX21_init_11 : decode cX21_init 11 = .ok (.putfield 13, 3) := dk_181 0 13 (dk_at dksX21_init_0 11 rfl rfl)
theorem dX21_init_14 : decode cX21_init 14 = .ok (.return_, 1) := dk_177 (dk_at dksX21_init_0 14 rfl rfl)
theorem dJ20_init_0 : decode cJ20_init 0 = .ok (.return_, 1) := by decide +kernel
