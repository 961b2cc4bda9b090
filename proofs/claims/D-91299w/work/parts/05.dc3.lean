set_option maxRecDepth 100000
theorem dX10_two_49 : decode cX10_two 49 = .ok (.ifCond .ne 7, 3) := dk_154 0 7 (dk_at dksX10_two_2 13 rfl rfl)
theorem dX10_two_52 : decode cX10_two 52 = .ok (.iconst 0, 1) := dk_3 (dk_at dksX10_two_2 16 rfl rfl)
theorem dX10_two_53 : decode cX10_two 53 = .ok (.goto 16, 3) := dk_167 0 16 (dk_at dksX10_two_2 17 rfl rfl)
theorem dX10_two_56 : decode cX10_two 56 = .ok (.iload_n 2, 1) := dk_28 (dk_at dksX10_two_2 20 rfl rfl)
theorem dX10_two_57 : decode cX10_two 57 = .ok (.iconst (-1), 1) := dk_2 (dk_at dksX10_two_2 21 rfl rfl)
theorem dX10_two_58 : decode cX10_two 58 = .ok (.if_icmp .ne 8, 3) := dk_160 0 8 (dk_at dksX10_two_3 0 rfl rfl)
theorem dX10_two_61 : decode cX10_two 61 = .ok (.iload_n 1, 1) := dk_27 (dk_at dksX10_two_3 3 rfl rfl)
theorem dX10_two_62 : decode cX10_two 62 = .ok (.ineg, 1) := dk_116 (dk_at dksX10_two_3 4 rfl rfl)
theorem dX10_two_63 : decode cX10_two 63 = .ok (.goto 6, 3) := dk_167 0 6 (dk_at dksX10_two_3 5 rfl rfl)
theorem dX10_two_66 : decode cX10_two 66 = .ok (.iload_n 1, 1) := dk_27 (dk_at dksX10_two_3 8 rfl rfl)
theorem dX10_two_67 : decode cX10_two 67 = .ok (.iload_n 2, 1) := dk_28 (dk_at dksX10_two_3 9 rfl rfl)
theorem dX10_two_68 : decode cX10_two 68 = .ok (.idiv, 1) := dk_108 (dk_at dksX10_two_3 10 rfl rfl)
theorem dX10_two_69 : decode cX10_two 69 = .ok (.ireturn, 1) := dk_172 (dk_at dksX10_two_3 11 rfl rfl)
theorem dX10_two_70 : decode cX10_two 70 = .ok (.iload_n 1, 1) := dk_27 (dk_at dksX10_two_3 12 rfl rfl)
theorem dX10_two_71 : decode cX10_two 71 = .ok (.iload_n 2, 1) := dk_28 (dk_at dksX10_two_3 13 rfl rfl)
theorem dX10_two_72 : decode cX10_two 72 = .ok (.if_icmp .ge 7, 3) := dk_162 0 7 (dk_at dksX10_two_3 14 rfl rfl)
theorem dX10_two_75 : decode cX10_two 75 = .ok (.iload_n 1, 1) := dk_27 (dk_at dksX10_two_3 17 rfl rfl)
theorem dX10_two_76 : decode cX10_two 76 = .ok (.goto 4, 3) := dk_167 0 4 (dk_at dksX10_two_3 18 rfl rfl)
theorem dX10_two_79 : decode cX10_two 79 = .ok (.iload_n 2, 1) := dk_28 (dk_at dksX10_two_3 21 rfl rfl)
theorem dX10_two_80 : decode cX10_two 80 = .ok (.ireturn, 1) := dk_172 (dk_at dksX10_two_3 22 rfl rfl)
theorem dX10_two_81 : decode cX10_two 81 = .ok (.iload_n 1, 1) := dk_27 (dk_at dksX10_two_3 23 rfl rfl)
theorem dX10_two_82 : decode cX10_two 82 = .ok (.iload_n 2, 1) := dk_28 (dk_at dksX10_two_4 0 rfl rfl)
theorem dX10_two_83 : decode cX10_two 83 = .ok (.if_icmp .le 7, 3) := dk_164 0 7 (dk_at dksX10_two_4 1 rfl rfl)
theorem dX10_two_86 : decode cX10_two 86 = .ok (.iload_n 1, 1) := dk_27 (dk_at dksX10_two_4 4 rfl rfl)
theorem dX10_two_87 : decode cX10_two 87 = .ok (.goto 4, 3) := dk_167 0 4 (dk_at dksX10_two_4 5 rfl rfl)
theorem dX10_two_90 : decode cX10_two 90 = .ok (.iload_n 2, 1) := dk_28 (dk_at dksX10_two_4 8 rfl rfl)
theorem dX10_two_91 : decode cX10_two 91 = .ok (.ireturn, 1) := dk_172 (dk_at dksX10_two_4 9 rfl rfl)
def dkwX10_claim_4 : List UInt8 := [42, 180, 0, 125, 27, 46, 172, 42, 27, 182, 2, 28, 172]
abbrev dktX10_claim_4 : List UInt8 := dkwX10_claim_4 ++ []
def dkwX10_claim_3 : List UInt8 := [42, 180, 0, 119, 27, 46, 172, 42, 180, 0, 122, 27, 46, 172, 42, 27, 42, 180, 1, 168, 182, 2, 31, 172]
abbrev dktX10_claim_3 : List UInt8 := dkwX10_claim_3 ++ dktX10_claim_4
def dkwX10_claim_2 : List UInt8 := [170, 0, 0, 0, 0, 61, 0, 0, 0, 0, 0, 0, 0, 3, 0, 0, 0, 30, 0, 0, 0, 37, 0, 0, 0, 44, 0, 0, 0, 54]
abbrev dktX10_claim_2 : List UInt8 := dkwX10_claim_2 ++ dktX10_claim_3
def dkwX10_claim_1 : List UInt8 := [154, 0, 5, 3, 172, 28]
abbrev dktX10_claim_1 : List UInt8 := dkwX10_claim_1 ++ dktX10_claim_2
def dkwX10_claim_0 : List UInt8 := [42, 3, 181, 0, 1, 42, 27, 182, 2, 21, 153, 0, 17, 42, 28, 3, 7, 184, 0, 210, 5, 182, 0, 214]
abbrev dktX10_claim_0 : List UInt8 := dkwX10_claim_0 ++ dktX10_claim_1
theorem dksX10_claim_0 : cX10_claim.data.toList.drop 0 = dktX10_claim_0 := by decide +kernel
theorem dksX10_claim_1 : cX10_claim.data.toList.drop 24 = dktX10_claim_1 := dk_seg dksX10_claim_0 24 rfl rfl
theorem dksX10_claim_2 : cX10_claim.data.toList.drop 30 = dktX10_claim_2 := dk_seg dksX10_claim_1 6 rfl rfl
theorem dksX10_claim_3 : cX10_claim.data.toList.drop 60 = dktX10_claim_3 := dk_seg dksX10_claim_2 30 rfl rfl
theorem dksX10_claim_4 : cX10_claim.data.toList.drop 84 = dktX10_claim_4 := dk_seg dksX10_claim_3 24 rfl rfl
theorem dX10_claim_0 : decode cX10_claim 0 = .ok (.aload_n 0, 1) := dk_42 (dk_at dksX10_claim_0 0 rfl rfl)
theorem dX10_claim_1 : decode cX10_claim 1 = .ok (.iconst 0, 1) := dk_3 (dk_at dksX10_claim_0 1 rfl rfl)
theorem dX10_claim_2 : decode cX10_claim 2 = .ok (.putfield 1, 3) := dk_181 0 1 (dk_at dksX10_claim_0 2 rfl rfl)
theorem dX10_claim_5 : decode cX10_claim 5 = .ok (.aload_n 0, 1) := dk_42 (dk_at dksX10_claim_0 5 rfl rfl)
theorem dX10_claim_6 : decode cX10_claim 6 = .ok (.iload_n 1, 1) := dk_27 (dk_at dksX10_claim_0 6 rfl rfl)
theorem dX10_claim_7 : decode cX10_claim 7 = .ok (.invokevirtual 533, 3) := dk_182 2 21 (dk_at dksX10_claim_0 7 rfl rfl)
theorem dX10_claim_10 : decode cX10_claim 10 = .ok (.ifCond .eq 17, 3) := dk_153 0 17 (dk_at dksX10_claim_0 10 rfl rfl)
theorem dX10_claim_13 : decode cX10_claim 13 = .ok (.aload_n 0, 1) := dk_42 (dk_at dksX10_claim_0 13 rfl rfl)
theorem dX10_claim_14 : decode cX10_claim 14 = .ok (.iload_n 2, 1) := dk_28 (dk_at dksX10_claim_0 14 rfl rfl)
theorem dX10_claim_15 : decode cX10_claim 15 = .ok (.iconst 0, 1) := dk_3 (dk_at dksX10_claim_0 15 rfl rfl)
theorem dX10_claim_16 : decode cX10_claim 16 = .ok (.iconst 4, 1) := dk_7 (dk_at dksX10_claim_0 16 rfl rfl)
theorem dX10_claim_17 : decode cX10_claim 17 = .ok (.invokestatic 210, 3) := dk_184 0 210 (dk_at dksX10_claim_0 17 rfl rfl)
theorem dX10_claim_20 : decode cX10_claim 20 = .ok (.iconst 2, 1) := dk_5 (dk_at dksX10_claim_0 20 rfl rfl)
theorem dX10_claim_21 : decode cX10_claim 21 = .ok (.invokevirtual 214, 3) := dk_182 0 214 (dk_at dksX10_claim_0 21 rfl rfl)
theorem dX10_claim_24 : decode cX10_claim 24 = .ok (.ifCond .ne 5, 3) := dk_154 0 5 (dk_at dksX10_claim_1 0 rfl rfl)
theorem dX10_claim_27 : decode cX10_claim 27 = .ok (.iconst 0, 1) := dk_3 (dk_at dksX10_claim_1 3 rfl rfl)
theorem dX10_claim_28 : decode cX10_claim 28 = .ok (.ireturn, 1) := dk_172 (dk_at dksX10_claim_1 4 rfl rfl)
theorem dX10_claim_29 : decode cX10_claim 29 = .ok (.iload_n 2, 1) := dk_28 (dk_at dksX10_claim_1 5 rfl rfl)
theorem dX10_claim_30 : decode cX10_claim 30 = .ok (.tableswitch 61 0 3 #[30, 37, 44, 54], 30) := by decide +kernel
theorem dX10_claim_60 : decode cX10_claim 60 = .ok (.aload_n 0, 1) := dk_42 (dk_at dksX10_claim_3 0 rfl rfl)
theorem dX10_claim_61 : decode cX10_claim 61 = .ok (.getfield 119, 3) := dk_180 0 119 (dk_at dksX10_claim_3 1 rfl rfl)
theorem dX10_claim_64 : decode cX10_claim 64 = .ok (.iload_n 1, 1) := dk_27 (dk_at dksX10_claim_3 4 rfl rfl)
theorem dX10_claim_65 : decode cX10_claim 65 = .ok (.iaload, 1) := dk_46 (dk_at dksX10_claim_3 5 rfl rfl)
theorem dX10_claim_66 : decode cX10_claim 66 = .ok (.ireturn, 1) := dk_172 (dk_at dksX10_claim_3 6 rfl rfl)
theorem dX10_claim_67 : decode cX10_claim 67 = .ok (.aload_n 0, 1) := dk_42 (dk_at dksX10_claim_3 7 rfl rfl)
theorem dX10_claim_68 : decode cX10_claim 68 = .ok (.getfield 122, 3) := dk_180 0 122 (dk_at dksX10_claim_3 8 rfl rfl)
theorem dX10_claim_71 : decode cX10_claim 71 = .ok (.iload_n 1, 1) := dk_27 (dk_at dksX10_claim_3 11 rfl rfl)
theorem dX10_claim_72 : decode cX10_claim 72 = .ok (.iaload, 1) := dk_46 (dk_at dksX10_claim_3 12 rfl rfl)
theorem dX10_claim_73 : decode cX10_claim 73 = .ok (.ireturn, 1) := dk_172 (dk_at dksX10_claim_3 13 rfl rfl)
theorem dX10_claim_74 : decode cX10_claim 74 = .ok (.aload_n 0, 1) := dk_42 (dk_at dksX10_claim_3 14 rfl rfl)
theorem dX10_claim_75 : decode cX10_claim 75 = .ok (.iload_n 1, 1) := dk_27 (dk_at dksX10_claim_3 15 rfl rfl)
theorem dX10_claim_76 : decode cX10_claim 76 = .ok (.aload_n 0, 1) := dk_42 (dk_at dksX10_claim_3 16 rfl rfl)
theorem dX10_claim_77 : decode cX10_claim 77 = .ok (.getfield 424, 3) := dk_180 1 168 (dk_at dksX10_claim_3 17 rfl rfl)
theorem dX10_claim_80 : decode cX10_claim 80 = .ok (.invokevirtual 543, 3) := dk_182 2 31 (dk_at dksX10_claim_3 20 rfl rfl)
theorem dX10_claim_83 : decode cX10_claim 83 = .ok (.ireturn, 1) := dk_172 (dk_at dksX10_claim_3 23 rfl rfl)
theorem dX10_claim_84 : decode cX10_claim 84 = .ok (.aload_n 0, 1) := dk_42 (dk_at dksX10_claim_4 0 rfl rfl)
theorem dX10_claim_85 : decode cX10_claim 85 = .ok (.getfield 125, 3) := dk_180 0 125 (dk_at dksX10_claim_4 1 rfl rfl)
theorem dX10_claim_88 : decode cX10_claim 88 = .ok (.iload_n 1, 1) := dk_27 (dk_at dksX10_claim_4 4 rfl rfl)
theorem dX10_claim_89 : decode cX10_claim 89 = .ok (.iaload, 1) := dk_46 (dk_at dksX10_claim_4 5 rfl rfl)
theorem dX10_claim_90 : decode cX10_claim 90 = .ok (.ireturn, 1) := dk_172 (dk_at dksX10_claim_4 6 rfl rfl)
theorem dX10_claim_91 : decode cX10_claim 91 = .ok (.aload_n 0, 1) := dk_42 (dk_at dksX10_claim_4 7 rfl rfl)
theorem dX10_claim_92 : decode cX10_claim 92 = .ok (.iload_n 1, 1) := dk_27 (dk_at dksX10_claim_4 8 rfl rfl)
theorem dX10_claim_93 : decode cX10_claim 93 = .ok (.invokevirtual 540, 3) := dk_182 2 28 (dk_at dksX10_claim_4 9 rfl rfl)
theorem dX10_claim_96 : decode cX10_claim 96 = .ok (.ireturn, 1) := dk_172 (dk_at dksX10_claim_4 12 rfl rfl)
def dkwX10_fix_8 : List UInt8 := [16, 20, 27, 104, 21, 4, 96, 29, 79, 42, 180, 0, 156, 27, 92, 46, 4, 96, 79, 21, 4, 4, 96, 172]
abbrev dktX10_fix_8 : List UInt8 := dkwX10_fix_8 ++ []
def dkwX10_fix_7 : List UInt8 := [164, 0, 6, 16, 253, 172, 42, 180, 0, 159, 16, 20, 27, 104, 21, 4, 96, 28, 79, 42, 180, 0, 162]
abbrev dktX10_fix_7 : List UInt8 := dkwX10_fix_7 ++ dktX10_fix_8
def dkwX10_fix_6 : List UInt8 := [180, 0, 77, 27, 46, 28, 42, 180, 0, 159, 16, 20, 27, 104, 21, 4, 96, 4, 100, 46, 100, 104]
abbrev dktX10_fix_6 : List UInt8 := dkwX10_fix_6 ++ dktX10_fix_7
def dkwX10_fix_5 : List UInt8 := [16, 20, 27, 104, 21, 4, 96, 4, 100, 46, 42, 180, 0, 165, 182, 2, 52, 42, 180, 0, 165, 29, 46, 42]
abbrev dktX10_fix_5 : List UInt8 := dkwX10_fix_5 ++ dktX10_fix_6
def dkwX10_fix_4 : List UInt8 := [104, 21, 4, 96, 4, 100, 46, 163, 0, 6, 16, 254, 172, 21, 4, 158, 0, 60, 42, 42, 180, 0, 162]
abbrev dktX10_fix_4 : List UInt8 := dkwX10_fix_4 ++ dktX10_fix_5
def dkwX10_fix_3 : List UInt8 := [54, 4, 21, 4, 16, 20, 160, 0, 5, 2, 172, 21, 4, 158, 0, 24, 28, 42, 180, 0, 159, 16, 20, 27]
abbrev dktX10_fix_3 : List UInt8 := dkwX10_fix_3 ++ dktX10_fix_4
def dkwX10_fix_2 : List UInt8 := [159, 0, 7, 4, 167, 0, 4, 3, 6, 182, 0, 214, 154, 0, 5, 3, 172, 42, 180, 0, 156, 27, 46]
abbrev dktX10_fix_2 : List UInt8 := dkwX10_fix_2 ++ dktX10_fix_3
def dkwX10_fix_1 : List UInt8 := [182, 0, 214, 153, 0, 34, 42, 42, 28, 182, 2, 49, 153, 0, 17, 42, 180, 0, 13, 29, 46, 4]
abbrev dktX10_fix_1 : List UInt8 := dkwX10_fix_1 ++ dktX10_fix_2
def dkwX10_fix_0 : List UInt8 := [42, 3, 181, 0, 1, 42, 27, 182, 1, 135, 153, 0, 49, 42, 29, 3, 16, 63, 184, 0, 210, 5]
abbrev dktX10_fix_0 : List UInt8 := dkwX10_fix_0 ++ dktX10_fix_1
theorem dksX10_fix_0 : cX10_fix.data.toList.drop 0 = dktX10_fix_0 := by decide +kernel
theorem dksX10_fix_1 : cX10_fix.data.toList.drop 22 = dktX10_fix_1 := dk_seg dksX10_fix_0 22 rfl rfl
theorem dksX10_fix_2 : cX10_fix.data.toList.drop 44 = dktX10_fix_2 := dk_seg dksX10_fix_1 22 rfl rfl
theorem dksX10_fix_3 : cX10_fix.data.toList.drop 67 = dktX10_fix_3 := dk_seg dksX10_fix_2 23 rfl rfl
theorem dksX10_fix_4 : cX10_fix.data.toList.drop 91 = dktX10_fix_4 := dk_seg dksX10_fix_3 24 rfl rfl
theorem dksX10_fix_5 : cX10_fix.data.toList.drop 114 = dktX10_fix_5 := dk_seg dksX10_fix_4 23 rfl rfl
theorem dksX10_fix_6 : cX10_fix.data.toList.drop 138 = dktX10_fix_6 := dk_seg dksX10_fix_5 24 rfl rfl
theorem dksX10_fix_7 : cX10_fix.data.toList.drop 160 = dktX10_fix_7 := dk_seg dksX10_fix_6 22 rfl rfl
theorem dksX10_fix_8 : cX10_fix.data.toList.drop 183 = dktX10_fix_8 := dk_seg dksX10_fix_7 23 rfl rfl
theorem dX10_fix_0 : decode cX10_fix 0 = .ok (.aload_n 0, 1) := dk_42 (dk_at dksX10_fix_0 0 rfl rfl)
theorem dX10_fix_1 : decode cX10_fix 1 = .ok (.iconst 0, 1) := dk_3 (dk_at dksX10_fix_0 1 rfl rfl)
theorem dX10_fix_2 : decode cX10_fix 2 = .ok (.putfield 1, 3) := dk_181 0 1 (dk_at dksX10_fix_0 2 rfl rfl)
theorem dX10_fix_5 : decode cX10_fix 5 = .ok (.aload_n 0, 1) := dk_42 (dk_at dksX10_fix_0 5 rfl rfl)
theorem dX10_fix_6 : decode cX10_fix 6 = .ok (.iload_n 1, 1) := dk_27 (dk_at dksX10_fix_0 6 rfl rfl)
theorem dX10_fix_7 : decode cX10_fix 7 = .ok (.invokevirtual 391, 3) := dk_182 1 135 (dk_at dksX10_fix_0 7 rfl rfl)
theorem dX10_fix_10 : decode cX10_fix 10 = .ok (.ifCond .eq 49, 3) := dk_153 0 49 (dk_at dksX10_fix_0 10 rfl rfl)
theorem dX10_fix_13 : decode cX10_fix 13 = .ok (.aload_n 0, 1) := dk_42 (dk_at dksX10_fix_0 13 rfl rfl)
theorem dX10_fix_14 : decode cX10_fix 14 = .ok (.iload_n 3, 1) := dk_29 (dk_at dksX10_fix_0 14 rfl rfl)
theorem dX10_fix_15 : decode cX10_fix 15 = .ok (.iconst 0, 1) := dk_3 (dk_at dksX10_fix_0 15 rfl rfl)
theorem dX10_fix_16 : decode cX10_fix 16 = .ok (.bipush 63, 2) := dk_16 63 (dk_at dksX10_fix_0 16 rfl rfl)
theorem dX10_fix_18 : decode cX10_fix 18 = .ok (.invokestatic 210, 3) := dk_184 0 210 (dk_at dksX10_fix_0 18 rfl rfl)
theorem dX10_fix_21 : decode cX10_fix 21 = .ok (.iconst 2, 1) := dk_5 (dk_at dksX10_fix_0 21 rfl rfl)
theorem dX10_fix_22 : decode cX10_fix 22 = .ok (.invokevirtual 214, 3) := dk_182 0 214 (dk_at dksX10_fix_1 0 rfl rfl)
theorem dX10_fix_25 : decode cX10_fix 25 = .ok (.ifCond .eq 34, 3) := dk_153 0 34 (dk_at dksX10_fix_1 3 rfl rfl)
theorem dX10_fix_28 : decode cX10_fix 28 = .ok (.aload_n 0, 1) := dk_42 (dk_at dksX10_fix_1 6 rfl rfl)
theorem dX10_fix_29 : decode cX10_fix 29 = .ok (.aload_n 0, 1) := dk_42 (dk_at dksX10_fix_1 7 rfl rfl)
theorem dX10_fix_30 : decode cX10_fix 30 = .ok (.iload_n 2, 1) := dk_28 (dk_at dksX10_fix_1 8 rfl rfl)
theorem dX10_fix_31 : decode cX10_fix 31 = .ok (.invokevirtual 561, 3) := dk_182 2 49 (dk_at dksX10_fix_1 9 rfl rfl)
theorem dX10_fix_34 : decode cX10_fix 34 = .ok (.ifCond .eq 17, 3) := dk_153 0 17 (dk_at dksX10_fix_1 12 rfl rfl)
theorem dX10_fix_37 : decode cX10_fix 37 = .ok (.aload_n 0, 1) := dk_42 (dk_at dksX10_fix_1 15 rfl rfl)
theorem dX10_fix_38 : decode cX10_fix 38 = .ok (.getfield 13, 3) := dk_180 0 13 (dk_at dksX10_fix_1 16 rfl rfl)
theorem dX10_fix_41 : decode cX10_fix 41 = .ok (.iload_n 3, 1) := dk_29 (dk_at dksX10_fix_1 19 rfl rfl)
theorem dX10_fix_42 : decode cX10_fix 42 = .ok (.iaload, 1) := dk_46 (dk_at dksX10_fix_1 20 rfl rfl)
theorem dX10_fix_43 : decode cX10_fix 43 = .ok (.iconst 1, 1) := dk_4 (dk_at dksX10_fix_1 21 rfl rfl)
theorem dX10_fix_44 : decode cX10_fix 44 = .ok (.if_icmp .eq 7, 3) := dk_159 0 7 (dk_at dksX10_fix_2 0 rfl rfl)
theorem dX10_fix_47 : decode cX10_fix 47 = .ok (.iconst 1, 1) := dk_4 (dk_at dksX10_fix_2 3 rfl rfl)
theorem dX10_fix_48 : decode cX10_fix 48 = .ok (.goto 4, 3) := dk_167 0 4 (dk_at dksX10_fix_2 4 rfl rfl)
theorem dX10_fix_51 : decode cX10_fix 51 = .ok (.iconst 0, 1) := dk_3 (dk_at dksX10_fix_2 7 rfl rfl)
theorem dX10_fix_52 : decode cX10_fix 52 = .ok (.iconst 3, 1) := dk_6 (dk_at dksX10_fix_2 8 rfl rfl)
theorem dX10_fix_53 : decode cX10_fix 53 = .ok (.invokevirtual 214, 3) := dk_182 0 214 (dk_at dksX10_fix_2 9 rfl rfl)
theorem dX10_fix_56 : decode cX10_fix 56 = .ok (.ifCond .ne 5, 3) := dk_154 0 5 (dk_at dksX10_fix_2 12 rfl rfl)
theorem dX10_fix_59 : decode cX10_fix 59 = .ok (.iconst 0, 1) := dk_3 (dk_at dksX10_fix_2 15 rfl rfl)
theorem dX10_fix_60 : decode cX10_fix 60 = .ok (.ireturn, 1) := dk_172 (dk_at dksX10_fix_2 16 rfl rfl)
theorem dX10_fix_61 : decode cX10_fix 61 = .ok (.aload_n 0, 1) := dk_42 (dk_at dksX10_fix_2 17 rfl rfl)
theorem dX10_fix_62 : decode cX10_fix 62 = .ok (.getfield 156, 3) := dk_180 0 156 (dk_at dksX10_fix_2 18 rfl rfl)
theorem dX10_fix_65 : decode cX10_fix 65 = .ok (.iload_n 1, 1) := dk_27 (dk_at dksX10_fix_2 21 rfl rfl)
theorem dX10_fix_66 : decode cX10_fix 66 = .ok (.iaload, 1) := dk_46 (dk_at dksX10_fix_2 22 rfl rfl)
theorem dX10_fix_67 : decode cX10_fix 67 = .ok (.istore 4, 2) := dk_54 4 (dk_at dksX10_fix_3 0 rfl rfl)
theorem dX10_fix_69 : decode cX10_fix 69 = .ok (.iload 4, 2) := dk_21 4 (dk_at dksX10_fix_3 2 rfl rfl)
theorem dX10_fix_71 : decode cX10_fix 71 = .ok (.bipush 20, 2) := dk_16 20 (dk_at dksX10_fix_3 4 rfl rfl)
theorem dX10_fix_73 : decode cX10_fix 73 = .ok (.if_icmp .ne 5, 3) := dk_160 0 5 (dk_at dksX10_fix_3 6 rfl rfl)
theorem dX10_fix_76 : decode cX10_fix 76 = .ok (.iconst (-1), 1) := dk_2 (dk_at dksX10_fix_3 9 rfl rfl)
theorem dX10_fix_77 : decode cX10_fix 77 = .ok (.ireturn, 1) := dk_172 (dk_at dksX10_fix_3 10 rfl rfl)
theorem dX10_fix_78 : decode cX10_fix 78 = .ok (.iload 4, 2) := dk_21 4 (dk_at dksX10_fix_3 11 rfl rfl)
theorem dX10_fix_80 : decode cX10_fix 80 = .ok (.ifCond .le 24, 3) := dk_158 0 24 (dk_at dksX10_fix_3 13 rfl rfl)
theorem dX10_fix_83 : decode cX10_fix 83 = .ok (.iload_n 2, 1) := dk_28 (dk_at dksX10_fix_3 16 rfl rfl)
theorem dX10_fix_84 : decode cX10_fix 84 = .ok (.aload_n 0, 1) := dk_42 (dk_at dksX10_fix_3 17 rfl rfl)
theorem dX10_fix_85 : decode cX10_fix 85 = .ok (.getfield 159, 3) := dk_180 0 159 (dk_at dksX10_fix_3 18 rfl rfl)
theorem dX10_fix_88 : decode cX10_fix 88 = .ok (.bipush 20, 2) := dk_16 20 (dk_at dksX10_fix_3 21 rfl rfl)
theorem dX10_fix_90 : decode cX10_fix 90 = .ok (.iload_n 1, 1) := dk_27 (dk_at dksX10_fix_3 23 rfl rfl)
theorem dX10_fix_91 : decode cX10_fix 91 = .ok (.imul, 1) := dk_104 (dk_at dksX10_fix_4 0 rfl rfl)
theorem dX10_fix_92 : decode cX10_fix 92 = .ok (.iload 4, 2) := dk_21 4 (dk_at dksX10_fix_4 1 rfl rfl)
theorem dX10_fix_94 : decode cX10_fix 94 = .ok (.iadd, 1) := dk_96 (dk_at dksX10_fix_4 3 rfl rfl)
theorem dX10_fix_95 : decode cX10_fix 95 = .ok (.iconst 1, 1) := dk_4 (dk_at dksX10_fix_4 4 rfl rfl)
theorem dX10_fix_96 : decode cX10_fix 96 = .ok (.isub, 1) := dk_100 (dk_at dksX10_fix_4 5 rfl rfl)
theorem dX10_fix_97 : decode cX10_fix 97 = .ok (.iaload, 1) := dk_46 (dk_at dksX10_fix_4 6 rfl rfl)
theorem dX10_fix_98 : decode cX10_fix 98 = .ok (.if_icmp .gt 6, 3) := dk_163 0 6 (dk_at dksX10_fix_4 7 rfl rfl)
theorem dX10_fix_101 : decode cX10_fix 101 = .ok (.bipush (-2), 2) := dk_16 254 (dk_at dksX10_fix_4 10 rfl rfl)
theorem dX10_fix_103 : decode cX10_fix 103 = .ok (.ireturn, 1) := dk_172 (dk_at dksX10_fix_4 12 rfl rfl)
theorem dX10_fix_104 : decode cX10_fix 104 = .ok (.iload 4, 2) := dk_21 4 (dk_at dksX10_fix_4 13 rfl rfl)
theorem dX10_fix_106 : decode cX10_fix 106 = .ok (.ifCond .le 60, 3) := dk_158 0 60 (dk_at dksX10_fix_4 15 rfl rfl)
theorem dX10_fix_109 : decode cX10_fix 109 = .ok (.aload_n 0, 1) := dk_42 (dk_at dksX10_fix_4 18 rfl rfl)
theorem dX10_fix_110 : decode cX10_fix 110 = .ok (.aload_n 0, 1) := dk_42 (dk_at dksX10_fix_4 19 rfl rfl)
theorem dX10_fix_111 : decode cX10_fix 111 = .ok (.getfield 162, 3) := dk_180 0 162 (dk_at dksX10_fix_4 20 rfl rfl)
theorem dX10_fix_114 : decode cX10_fix 114 = .ok (.bipush 20, 2) := dk_16 20 (dk_at dksX10_fix_5 0 rfl rfl)
theorem dX10_fix_116 : decode cX10_fix 116 = .ok (.iload_n 1, 1) := dk_27 (dk_at dksX10_fix_5 2 rfl rfl)
theorem dX10_fix_117 : decode cX10_fix 117 = .ok (.imul, 1) := dk_104 (dk_at dksX10_fix_5 3 rfl rfl)
theorem dX10_fix_118 : decode cX10_fix 118 = .ok (.iload 4, 2) := dk_21 4 (dk_at dksX10_fix_5 4 rfl rfl)
theorem dX10_fix_120 : decode cX10_fix 120 = .ok (.iadd, 1) := dk_96 (dk_at dksX10_fix_5 6 rfl rfl)
theorem dX10_fix_121 : decode cX10_fix 121 = .ok (.iconst 1, 1) := dk_4 (dk_at dksX10_fix_5 7 rfl rfl)
theorem dX10_fix_122 : decode cX10_fix 122 = .ok (.isub, 1) := dk_100 (dk_at dksX10_fix_5 8 rfl rfl)
theorem dX10_fix_123 : decode cX10_fix 123 = .ok (.iaload, 1) := dk_46 (dk_at dksX10_fix_5 9 rfl rfl)
theorem dX10_fix_124 : decode cX10_fix 124 = .ok (.aload_n 0, 1) := dk_42 (dk_at dksX10_fix_5 10 rfl rfl)
theorem dX10_fix_125 : decode cX10_fix 125 = .ok (.getfield 165, 3) := dk_180 0 165 (dk_at dksX10_fix_5 11 rfl rfl)
theorem dX10_fix_128 : decode cX10_fix 128 = .ok (.invokevirtual 564, 3) := dk_182 2 52 (dk_at dksX10_fix_5 14 rfl rfl)
theorem dX10_fix_131 : decode cX10_fix 131 = .ok (.aload_n 0, 1) := dk_42 (dk_at dksX10_fix_5 17 rfl rfl)
theorem dX10_fix_132 : decode cX10_fix 132 = .ok (.getfield 165, 3) := dk_180 0 165 (dk_at dksX10_fix_5 18 rfl rfl)
theorem dX10_fix_135 : decode cX10_fix 135 = .ok (.iload_n 3, 1) := dk_29 (dk_at dksX10_fix_5 21 rfl rfl)
theorem dX10_fix_136 : decode cX10_fix 136 = .ok (.iaload, 1) := dk_46 (dk_at dksX10_fix_5 22 rfl rfl)
theorem dX10_fix_137 : decode cX10_fix 137 = .ok (.aload_n 0, 1) := dk_42 (dk_at dksX10_fix_5 23 rfl rfl)
theorem dX10_fix_138 : decode cX10_fix 138 = .ok (.getfield 77, 3) := dk_180 0 77 (dk_at dksX10_fix_6 0 rfl rfl)
theorem dX10_fix_141 : decode cX10_fix 141 = .ok (.iload_n 1, 1) := dk_27 (dk_at dksX10_fix_6 3 rfl rfl)
theorem dX10_fix_142 : decode cX10_fix 142 = .ok (.iaload, 1) := dk_46 (dk_at dksX10_fix_6 4 rfl rfl)
theorem dX10_fix_143 : decode cX10_fix 143 = .ok (.iload_n 2, 1) := dk_28 (dk_at dksX10_fix_6 5 rfl rfl)
theorem dX10_fix_144 : decode cX10_fix 144 = .ok (.aload_n 0, 1) := dk_42 (dk_at dksX10_fix_6 6 rfl rfl)
theorem dX10_fix_145 : decode cX10_fix 145 = .ok (.getfield 159, 3) := dk_180 0 159 (dk_at dksX10_fix_6 7 rfl rfl)
theorem dX10_fix_148 : decode cX10_fix 148 = .ok (.bipush 20, 2) := dk_16 20 (dk_at dksX10_fix_6 10 rfl rfl)
theorem dX10_fix_150 : decode cX10_fix 150 = .ok (.iload_n 1, 1) := dk_27 (dk_at dksX10_fix_6 12 rfl rfl)
theorem dX10_fix_151 : decode cX10_fix 151 = .ok (.imul, 1) := dk_104 (dk_at dksX10_fix_6 13 rfl rfl)
theorem dX10_fix_152 : decode cX10_fix 152 = .ok (.iload 4, 2) := dk_21 4 (dk_at dksX10_fix_6 14 rfl rfl)
theorem dX10_fix_154 : decode cX10_fix 154 = .ok (.iadd, 1) := dk_96 (dk_at dksX10_fix_6 16 rfl rfl)
theorem dX10_fix_155 : decode cX10_fix 155 = .ok (.iconst 1, 1) := dk_4 (dk_at dksX10_fix_6 17 rfl rfl)
theorem dX10_fix_156 : decode cX10_fix 156 = .ok (.isub, 1) := dk_100 (dk_at dksX10_fix_6 18 rfl rfl)
theorem dX10_fix_157 : decode cX10_fix 157 = .ok (.iaload, 1) := dk_46 (dk_at dksX10_fix_6 19 rfl rfl)
theorem dX10_fix_158 : decode cX10_fix 158 = .ok (.isub, 1) := dk_100 (dk_at dksX10_fix_6 20 rfl rfl)
theorem dX10_fix_159 : decode cX10_fix 159 = .ok (.imul, 1) := dk_104 (dk_at dksX10_fix_6 21 rfl rfl)
theorem dX10_fix_160 : decode cX10_fix 160 = .ok (.if_icmp .le 6, 3) := dk_164 0 6 (dk_at dksX10_fix_7 0 rfl rfl)
theorem dX10_fix_163 : decode cX10_fix 163 = .ok (.bipush (-3), 2) := dk_16 253 (dk_at dksX10_fix_7 3 rfl rfl)
theorem dX10_fix_165 : decode cX10_fix 165 = .ok (.ireturn, 1) := dk_172 (dk_at dksX10_fix_7 5 rfl rfl)
theorem dX10_fix_166 : decode cX10_fix 166 = .ok (.aload_n 0, 1) := dk_42 (dk_at dksX10_fix_7 6 rfl rfl)
theorem dX10_fix_167 : decode cX10_fix 167 = .ok (.getfield 159, 3) := dk_180 0 159 (dk_at dksX10_fix_7 7 rfl rfl)
theorem dX10_fix_170 : decode cX10_fix 170 = .ok (.bipush 20, 2) := dk_16 20 (dk_at dksX10_fix_7 10 rfl rfl)
theorem dX10_fix_172 : decode cX10_fix 172 = .ok (.iload_n 1, 1) := dk_27 (dk_at dksX10_fix_7 12 rfl rfl)
theorem dX10_fix_173 : decode cX10_fix 173 = .ok (.imul, 1) := dk_104 (dk_at dksX10_fix_7 13 rfl rfl)
theorem dX10_fix_174 : decode cX10_fix 174 = .ok (.iload 4, 2) := dk_21 4 (dk_at dksX10_fix_7 14 rfl rfl)
theorem dX10_fix_176 : decode cX10_fix 176 = .ok (.iadd, 1) := dk_96 (dk_at dksX10_fix_7 16 rfl rfl)
theorem dX10_fix_177 : decode cX10_fix 177 = .ok (.iload_n 2, 1) := dk_28 (dk_at dksX10_fix_7 17 rfl rfl)
theorem dX10_fix_178 : decode cX10_fix 178 = .ok (.iastore, 1) := dk_79 (dk_at dksX10_fix_7 18 rfl rfl)
theorem dX10_fix_179 : decode cX10_fix 179 = .ok (.aload_n 0, 1) := dk_42 (dk_at dksX10_fix_7 19 rfl rfl)
theorem dX10_fix_180 : decode cX10_fix 180 = .ok (.getfield 162, 3) := dk_180 0 162 (dk_at dksX10_fix_7 20 rfl rfl)
theorem dX10_fix_183 : decode cX10_fix 183 = .ok (.bipush 20, 2) := dk_16 20 (dk_at dksX10_fix_8 0 rfl rfl)
theorem dX10_fix_185 : decode cX10_fix 185 = .ok (.iload_n 1, 1) := dk_27 (dk_at dksX10_fix_8 2 rfl rfl)
theorem dX10_fix_186 : decode cX10_fix 186 = .ok (.imul, 1) := dk_104 (dk_at dksX10_fix_8 3 rfl rfl)
theorem dX10_fix_187 : decode cX10_fix 187 = .ok (.iload 4, 2) := dk_21 4 (dk_at dksX10_fix_8 4 rfl rfl)
theorem dX10_fix_189 : decode cX10_fix 189 = .ok (.iadd, 1) := dk_96 (dk_at dksX10_fix_8 6 rfl rfl)
theorem dX10_fix_190 : decode cX10_fix 190 = .ok (.iload_n 3, 1) := dk_29 (dk_at dksX10_fix_8 7 rfl rfl)
theorem dX10_fix_191 : decode cX10_fix 191 = .ok (.iastore, 1) := dk_79 (dk_at dksX10_fix_8 8 rfl rfl)
theorem dX10_fix_192 : decode cX10_fix 192 = .ok (.aload_n 0, 1) := dk_42 (dk_at dksX10_fix_8 9 rfl rfl)
theorem dX10_fix_193 : decode cX10_fix 193 = .ok (.getfield 156, 3) := dk_180 0 156 (dk_at dksX10_fix_8 10 rfl rfl)
theorem dX10_fix_196 : decode cX10_fix 196 = .ok (.iload_n 1, 1) := dk_27 (dk_at dksX10_fix_8 13 rfl rfl)
theorem dX10_fix_197 : decode cX10_fix 197 = .ok (.dup2, 1) := dk_92 (dk_at dksX10_fix_8 14 rfl rfl)
theorem dX10_fix_198 : decode cX10_fix 198 = .ok (.iaload, 1) := dk_46 (dk_at dksX10_fix_8 15 rfl rfl)
theorem dX10_fix_199 : decode cX10_fix 199 = .ok (.iconst 1, 1) := dk_4 (dk_at dksX10_fix_8 16 rfl rfl)
theorem dX10_fix_200 : decode cX10_fix 200 = .ok (.iadd, 1) := dk_96 (dk_at dksX10_fix_8 17 rfl rfl)
theorem dX10_fix_201 : decode cX10_fix 201 = .ok (.iastore, 1) := dk_79 (dk_at dksX10_fix_8 18 rfl rfl)
theorem dX10_fix_202 : decode cX10_fix 202 = .ok (.iload 4, 2) := dk_21 4 (dk_at dksX10_fix_8 19 rfl rfl)
theorem dX10_fix_204 : decode cX10_fix 204 = .ok (.iconst 1, 1) := dk_4 (dk_at dksX10_fix_8 21 rfl rfl)
theorem dX10_fix_205 : decode cX10_fix 205 = .ok (.iadd, 1) := dk_96 (dk_at dksX10_fix_8 22 rfl rfl)
theorem dX10_fix_206 : decode cX10_fix 206 = .ok (.ireturn, 1) := dk_172 (dk_at dksX10_fix_8 23 rfl rfl)
def dkwX10_isHour_0 : List UInt8 := [27, 3, 19, 2, 24, 184, 0, 210, 172]
abbrev dktX10_isHour_0 : List UInt8 := dkwX10_isHour_0 ++ []
theorem dksX10_isHour_0 : cX10_isHour.data.toList.drop 0 = dktX10_isHour_0 := by decide +kernel
theorem dX10_isHour_0 : decode cX10_isHour 0 = .ok (.iload_n 1, 1) := dk_27 (dk_at dksX10_isHour_0 0 rfl rfl)
theorem dX10_isHour_1 : decode cX10_isHour 1 = .ok (.iconst 0, 1) := dk_3 (dk_at dksX10_isHour_0 1 rfl rfl)
theorem dX10_isHour_2 : decode cX10_isHour 2 = .ok (.ldc_w 536, 3) := dk_19 2 24 (dk_at dksX10_isHour_0 2 rfl rfl)
theorem dX10_isHour_5 : decode cX10_isHour 5 = .ok (.invokestatic 210, 3) := dk_184 0 210 (dk_at dksX10_isHour_0 5 rfl rfl)
theorem dX10_isHour_8 : decode cX10_isHour 8 = .ok (.ireturn, 1) := dk_172 (dk_at dksX10_isHour_0 8 rfl rfl)
def dkwX10_findSteps_5 : List UInt8 := [96, 79, 4, 62, 132, 6, 1, 167, 255, 189, 132, 5, 1, 167, 255, 173, 132, 4, 1, 167, 255, 158, 177]
abbrev dktX10_findSteps_5 : List UInt8 := dkwX10_findSteps_5 ++ []
def dkwX10_findSteps_4 : List UInt8 := [46, 4, 159, 0, 26, 44, 21, 7, 46, 19, 1, 122, 159, 0, 6, 167, 0, 13, 44, 21, 7, 21, 4, 4]
abbrev dktX10_findSteps_4 : List UInt8 := dkwX10_findSteps_4 ++ dktX10_findSteps_5
def dkwX10_findSteps_3 : List UInt8 := [160, 0, 58, 21, 5, 21, 6, 184, 1, 123, 54, 7, 21, 7, 2, 159, 0, 37, 42, 180, 0, 13, 21, 7]
abbrev dktX10_findSteps_3 : List UInt8 := dkwX10_findSteps_3 ++ dktX10_findSteps_4
def dkwX10_findSteps_2 : List UInt8 := [54, 5, 21, 5, 16, 64, 162, 0, 82, 3, 54, 6, 21, 6, 7, 162, 0, 67, 44, 21, 5, 46, 21, 4]
abbrev dktX10_findSteps_2 : List UInt8 := dkwX10_findSteps_2 ++ dktX10_findSteps_3
def dkwX10_findSteps_1 : List UInt8 := [27, 46, 4, 160, 0, 4, 177, 44, 27, 3, 79, 4, 62, 3, 54, 4, 29, 153, 0, 100, 3, 62, 3]
abbrev dktX10_findSteps_1 : List UInt8 := dkwX10_findSteps_1 ++ dktX10_findSteps_2
def dkwX10_findSteps_0 : List UInt8 := [3, 62, 29, 16, 64, 162, 0, 15, 44, 29, 19, 1, 122, 79, 132, 3, 1, 167, 255, 241, 42, 180, 0, 13]
abbrev dktX10_findSteps_0 : List UInt8 := dkwX10_findSteps_0 ++ dktX10_findSteps_1
theorem dksX10_findSteps_0 : cX10_findSteps.data.toList.drop 0 = dktX10_findSteps_0 := by decide +kernel
theorem dksX10_findSteps_1 : cX10_findSteps.data.toList.drop 24 = dktX10_findSteps_1 := dk_seg dksX10_findSteps_0 24 rfl rfl
theorem dksX10_findSteps_2 : cX10_findSteps.data.toList.drop 47 = dktX10_findSteps_2 := dk_seg dksX10_findSteps_1 23 rfl rfl
theorem dksX10_findSteps_3 : cX10_findSteps.data.toList.drop 71 = dktX10_findSteps_3 := dk_seg dksX10_findSteps_2 24 rfl rfl
theorem dksX10_findSteps_4 : cX10_findSteps.data.toList.drop 95 = dktX10_findSteps_4 := dk_seg dksX10_findSteps_3 24 rfl rfl
theorem dksX10_findSteps_5 : cX10_findSteps.data.toList.drop 119 = dktX10_findSteps_5 := dk_seg dksX10_findSteps_4 24 rfl rfl
theorem dX10_findSteps_0 : decode cX10_findSteps 0 = .ok (.iconst 0, 1) := dk_3 (dk_at dksX10_findSteps_0 0 rfl rfl)
theorem dX10_findSteps_1 : decode cX10_findSteps 1 = .ok (.istore_n 3, 1) := dk_62 (dk_at dksX10_findSteps_0 1 rfl rfl)
theorem dX10_findSteps_2 : decode cX10_findSteps 2 = .ok (.iload_n 3, 1) := dk_29 (dk_at dksX10_findSteps_0 2 rfl rfl)
theorem dX10_findSteps_3 : decode cX10_findSteps 3 = .ok (.bipush 64, 2) := dk_16 64 (dk_at dksX10_findSteps_0 3 rfl rfl)
theorem dX10_findSteps_5 : decode cX10_findSteps 5 = .ok (.if_icmp .ge 15, 3) := dk_162 0 15 (dk_at dksX10_findSteps_0 5 rfl rfl)
theorem dX10_findSteps_8 : decode cX10_findSteps 8 = .ok (.aload_n 2, 1) := dk_44 (dk_at dksX10_findSteps_0 8 rfl rfl)
theorem dX10_findSteps_9 : decode cX10_findSteps 9 = .ok (.iload_n 3, 1) := dk_29 (dk_at dksX10_findSteps_0 9 rfl rfl)
theorem dX10_findSteps_10 : decode cX10_findSteps 10 = .ok (.ldc_w 378, 3) := dk_19 1 122 (dk_at dksX10_findSteps_0 10 rfl rfl)
theorem dX10_findSteps_13 : decode cX10_findSteps 13 = .ok (.iastore, 1) := dk_79 (dk_at dksX10_findSteps_0 13 rfl rfl)
theorem dX10_findSteps_14 : decode cX10_findSteps 14 = .ok (.iinc 3 1, 3) := dk_132 3 1 (dk_at dksX10_findSteps_0 14 rfl rfl)
theorem dX10_findSteps_17 : decode cX10_findSteps 17 = .ok (.goto (-15), 3) := dk_167 255 241 (dk_at dksX10_findSteps_0 17 rfl rfl)
theorem dX10_findSteps_20 : decode cX10_findSteps 20 = .ok (.aload_n 0, 1) := dk_42 (dk_at dksX10_findSteps_0 20 rfl rfl)
theorem dX10_findSteps_21 : decode cX10_findSteps 21 = .ok (.getfield 13, 3) := dk_180 0 13 (dk_at dksX10_findSteps_0 21 rfl rfl)
theorem dX10_findSteps_24 : decode cX10_findSteps 24 = .ok (.iload_n 1, 1) := dk_27 (dk_at dksX10_findSteps_1 0 rfl rfl)
theorem dX10_findSteps_25 : decode cX10_findSteps 25 = .ok (.iaload, 1) := dk_46 (dk_at dksX10_findSteps_1 1 rfl rfl)
theorem dX10_findSteps_26 : decode cX10_findSteps 26 = .ok (.iconst 1, 1) := dk_4 (dk_at dksX10_findSteps_1 2 rfl rfl)
theorem dX10_findSteps_27 : decode cX10_findSteps 27 = .ok (.if_icmp .ne 4, 3) := dk_160 0 4 (dk_at dksX10_findSteps_1 3 rfl rfl)
theorem dX10_findSteps_30 : decode cX10_findSteps 30 = .ok (.return_, 1) := dk_177 (dk_at dksX10_findSteps_1 6 rfl rfl)
theorem dX10_findSteps_31 : decode cX10_findSteps 31 = .ok (.aload_n 2, 1) := dk_44 (dk_at dksX10_findSteps_1 7 rfl rfl)
theorem dX10_findSteps_32 : decode cX10_findSteps 32 = .ok (.iload_n 1, 1) := dk_27 (dk_at dksX10_findSteps_1 8 rfl rfl)
theorem dX10_findSteps_33 : decode cX10_findSteps 33 = .ok (.iconst 0, 1) := dk_3 (dk_at dksX10_findSteps_1 9 rfl rfl)
theorem dX10_findSteps_34 : decode cX10_findSteps 34 = .ok (.iastore, 1) := dk_79 (dk_at dksX10_findSteps_1 10 rfl rfl)
theorem dX10_findSteps_35 : decode cX10_findSteps 35 = .ok (.iconst 1, 1) := dk_4 (dk_at dksX10_findSteps_1 11 rfl rfl)
theorem dX10_findSteps_36 : decode cX10_findSteps 36 = .ok (.istore_n 3, 1) := dk_62 (dk_at dksX10_findSteps_1 12 rfl rfl)
theorem dX10_findSteps_37 : decode cX10_findSteps 37 = .ok (.iconst 0, 1) := dk_3 (dk_at dksX10_findSteps_1 13 rfl rfl)
theorem dX10_findSteps_38 : decode cX10_findSteps 38 = .ok (.istore 4, 2) := dk_54 4 (dk_at dksX10_findSteps_1 14 rfl rfl)
theorem dX10_findSteps_40 : decode cX10_findSteps 40 = .ok (.iload_n 3, 1) := dk_29 (dk_at dksX10_findSteps_1 16 rfl rfl)
theorem dX10_findSteps_41 : decode cX10_findSteps 41 = .ok (.ifCond .eq 100, 3) := dk_153 0 100 (dk_at dksX10_findSteps_1 17 rfl rfl)
theorem dX10_findSteps_44 : decode cX10_findSteps 44 = .ok (.iconst 0, 1) := dk_3 (dk_at dksX10_findSteps_1 20 rfl rfl)
theorem dX10_findSteps_45 : decode cX10_findSteps 45 = .ok (.istore_n 3, 1) := dk_62 (dk_at dksX10_findSteps_1 21 rfl rfl)
theorem dX10_findSteps_46 : decode cX10_findSteps 46 = .ok (.iconst 0, 1) := dk_3 (dk_at dksX10_findSteps_1 22 rfl rfl)
theorem dX10_findSteps_47 : decode cX10_findSteps 47 = .ok (.istore 5, 2) := dk_54 5 (dk_at dksX10_findSteps_2 0 rfl rfl)
theorem dX10_findSteps_49 : decode cX10_findSteps 49 = .ok (.iload 5, 2) := dk_21 5 (dk_at dksX10_findSteps_2 2 rfl rfl)
theorem dX10_findSteps_51 : decode cX10_findSteps 51 = .ok (.bipush 64, 2) := dk_16 64 (dk_at dksX10_findSteps_2 4 rfl rfl)
theorem dX10_findSteps_53 : decode cX10_findSteps 53 = .ok (.if_icmp .ge 82, 3) := dk_162 0 82 (dk_at dksX10_findSteps_2 6 rfl rfl)
theorem dX10_findSteps_56 : decode cX10_findSteps 56 = .ok (.iconst 0, 1) := dk_3 (dk_at dksX10_findSteps_2 9 rfl rfl)
theorem dX10_findSteps_57 : decode cX10_findSteps 57 = .ok (.istore 6, 2) := dk_54 6 (dk_at dksX10_findSteps_2 10 rfl rfl)
theorem dX10_findSteps_59 : decode cX10_findSteps 59 = .ok (.iload 6, 2) := dk_21 6 (dk_at dksX10_findSteps_2 12 rfl rfl)
theorem dX10_findSteps_61 : decode cX10_findSteps 61 = .ok (.iconst 4, 1) := dk_7 (dk_at dksX10_findSteps_2 14 rfl rfl)
theorem dX10_findSteps_62 : decode cX10_findSteps 62 = .ok (.if_icmp .ge 67, 3) := dk_162 0 67 (dk_at dksX10_findSteps_2 15 rfl rfl)
theorem dX10_findSteps_65 : decode cX10_findSteps 65 = .ok (.aload_n 2, 1) := dk_44 (dk_at dksX10_findSteps_2 18 rfl rfl)
theorem dX10_findSteps_66 : decode cX10_findSteps 66 = .ok (.iload 5, 2) := dk_21 5 (dk_at dksX10_findSteps_2 19 rfl rfl)
theorem dX10_findSteps_68 : decode cX10_findSteps 68 = .ok (.iaload, 1) := dk_46 (dk_at dksX10_findSteps_2 21 rfl rfl)
theorem dX10_findSteps_69 : decode cX10_findSteps 69 = .ok (.iload 4, 2) := dk_21 4 (dk_at dksX10_findSteps_2 22 rfl rfl)
theorem dX10_findSteps_71 : decode cX10_findSteps 71 = .ok (.if_icmp .ne 58, 3) := dk_160 0 58 (dk_at dksX10_findSteps_3 0 rfl rfl)
theorem dX10_findSteps_74 : decode cX10_findSteps 74 = .ok (.iload 5, 2) := dk_21 5 (dk_at dksX10_findSteps_3 3 rfl rfl)
theorem dX10_findSteps_76 : decode cX10_findSteps 76 = .ok (.iload 6, 2) := dk_21 6 (dk_at dksX10_findSteps_3 5 rfl rfl)
theorem dX10_findSteps_78 : decode cX10_findSteps 78 = .ok (.invokestatic 379, 3) := dk_184 1 123 (dk_at dksX10_findSteps_3 7 rfl rfl)
theorem dX10_findSteps_81 : decode cX10_findSteps 81 = .ok (.istore 7, 2) := dk_54 7 (dk_at dksX10_findSteps_3 10 rfl rfl)
theorem dX10_findSteps_83 : decode cX10_findSteps 83 = .ok (.iload 7, 2) := dk_21 7 (dk_at dksX10_findSteps_3 12 rfl rfl)
theorem dX10_findSteps_85 : decode cX10_findSteps 85 = .ok (.iconst (-1), 1) := dk_2 (dk_at dksX10_findSteps_3 14 rfl rfl)
theorem dX10_findSteps_86 : decode cX10_findSteps 86 = .ok (.if_icmp .eq 37, 3) := dk_159 0 37 (dk_at dksX10_findSteps_3 15 rfl rfl)
theorem dX10_findSteps_89 : decode cX10_findSteps 89 = .ok (.aload_n 0, 1) := dk_42 (dk_at dksX10_findSteps_3 18 rfl rfl)
theorem dX10_findSteps_90 : decode cX10_findSteps 90 = .ok (.getfield 13, 3) := dk_180 0 13 (dk_at dksX10_findSteps_3 19 rfl rfl)
theorem dX10_findSteps_93 : decode cX10_findSteps 93 = .ok (.iload 7, 2) := dk_21 7 (dk_at dksX10_findSteps_3 22 rfl rfl)
theorem dX10_findSteps_95 : decode cX10_findSteps 95 = .ok (.iaload, 1) := dk_46 (dk_at dksX10_findSteps_4 0 rfl rfl)
theorem dX10_findSteps_96 : decode cX10_findSteps 96 = .ok (.iconst 1, 1) := dk_4 (dk_at dksX10_findSteps_4 1 rfl rfl)
theorem dX10_findSteps_97 : decode cX10_findSteps 97 = .ok (.if_icmp .eq 26, 3) := dk_159 0 26 (dk_at dksX10_findSteps_4 2 rfl rfl)
theorem dX10_findSteps_100 : decode cX10_findSteps 100 = .ok (.aload_n 2, 1) := dk_44 (dk_at dksX10_findSteps_4 5 rfl rfl)
theorem dX10_findSteps_101 : decode cX10_findSteps 101 = .ok (.iload 7, 2) := dk_21 7 (dk_at dksX10_findSteps_4 6 rfl rfl)
theorem dX10_findSteps_103 : decode cX10_findSteps 103 = .ok (.iaload, 1) := dk_46 (dk_at dksX10_findSteps_4 8 rfl rfl)
theorem dX10_findSteps_104 : decode cX10_findSteps 104 = .ok (.ldc_w 378, 3) := dk_19 1 122 (dk_at dksX10_findSteps_4 9 rfl rfl)
theorem dX10_findSteps_107 : decode cX10_findSteps 107 = .ok (.if_icmp .eq 6, 3) := dk_159 0 6 (dk_at dksX10_findSteps_4 12 rfl rfl)
theorem dX10_findSteps_110 : decode cX10_findSteps 110 = .ok (.goto 13, 3) := dk_167 0 13 (dk_at dksX10_findSteps_4 15 rfl rfl)
theorem dX10_findSteps_113 : decode cX10_findSteps 113 = .ok (.aload_n 2, 1) := dk_44 (dk_at dksX10_findSteps_4 18 rfl rfl)
theorem dX10_findSteps_114 : decode cX10_findSteps 114 = .ok (.iload 7, 2) := dk_21 7 (dk_at dksX10_findSteps_4 19 rfl rfl)
theorem dX10_findSteps_116 : decode cX10_findSteps 116 = .ok (.iload 4, 2) := dk_21 4 (dk_at dksX10_findSteps_4 21 rfl rfl)
theorem dX10_findSteps_118 : decode cX10_findSteps 118 = .ok (.iconst 1, 1) := dk_4 (dk_at dksX10_findSteps_4 23 rfl rfl)
theorem dX10_findSteps_119 : decode cX10_findSteps 119 = .ok (.iadd, 1) := dk_96 (dk_at dksX10_findSteps_5 0 rfl rfl)
theorem dX10_findSteps_120 : decode cX10_findSteps 120 = .ok (.iastore, 1) := dk_79 (dk_at dksX10_findSteps_5 1 rfl rfl)
theorem dX10_findSteps_121 : decode cX10_findSteps 121 = .ok (.iconst 1, 1) := dk_4 (dk_at dksX10_findSteps_5 2 rfl rfl)
theorem dX10_findSteps_122 : decode cX10_findSteps 122 = .ok (.istore_n 3, 1) := dk_62 (dk_at dksX10_findSteps_5 3 rfl rfl)
theorem dX10_findSteps_123 : decode cX10_findSteps 123 = .ok (.iinc 6 1, 3) := dk_132 6 1 (dk_at dksX10_findSteps_5 4 rfl rfl)
theorem dX10_findSteps_126 : decode cX10_findSteps 126 = .ok (.goto (-67), 3) := dk_167 255 189 (dk_at dksX10_findSteps_5 7 rfl rfl)
theorem dX10_findSteps_129 : decode cX10_findSteps 129 = .ok (.iinc 5 1, 3) := dk_132 5 1 (dk_at dksX10_findSteps_5 10 rfl rfl)
theorem dX10_findSteps_132 : decode cX10_findSteps 132 = .ok (.goto (-83), 3) := dk_167 255 173 (dk_at dksX10_findSteps_5 13 rfl rfl)
theorem dX10_findSteps_135 : decode cX10_findSteps 135 = .ok (.iinc 4 1, 3) := dk_132 4 1 (dk_at dksX10_findSteps_5 16 rfl rfl)
theorem dX10_findSteps_138 : decode cX10_findSteps 138 = .ok (.goto (-98), 3) := dk_167 255 158 (dk_at dksX10_findSteps_5 19 rfl rfl)
theorem dX10_findSteps_141 : decode cX10_findSteps 141 = .ok (.return_, 1) := dk_177 (dk_at dksX10_findSteps_5 22 rfl rfl)
def dkwX10_mayBe_2 : List UInt8 := [182, 2, 56, 42, 180, 0, 171, 29, 51, 172]
abbrev dktX10_mayBe_2 : List UInt8 := dkwX10_mayBe_2 ++ []
def dkwX10_mayBe_1 : List UInt8 := [182, 0, 214, 153, 0, 16, 42, 42, 28, 182, 2, 49, 6, 182, 0, 214, 154, 0, 5, 3, 172, 42, 27, 28]
abbrev dktX10_mayBe_1 : List UInt8 := dkwX10_mayBe_1 ++ dktX10_mayBe_2
def dkwX10_mayBe_0 : List UInt8 := [42, 3, 181, 0, 1, 42, 27, 182, 1, 135, 153, 0, 31, 42, 29, 3, 16, 63, 184, 0, 210, 5]
abbrev dktX10_mayBe_0 : List UInt8 := dkwX10_mayBe_0 ++ dktX10_mayBe_1
theorem dksX10_mayBe_0 : cX10_mayBe.data.toList.drop 0 = dktX10_mayBe_0 := by decide +kernel
theorem dksX10_mayBe_1 : cX10_mayBe.data.toList.drop 22 = dktX10_mayBe_1 := dk_seg dksX10_mayBe_0 22 rfl rfl
theorem dksX10_mayBe_2 : cX10_mayBe.data.toList.drop 46 = dktX10_mayBe_2 := dk_seg dksX10_mayBe_1 24 rfl rfl
theorem dX10_mayBe_0 : decode cX10_mayBe 0 = .ok (.aload_n 0, 1) := dk_42 (dk_at dksX10_mayBe_0 0 rfl rfl)
theorem dX10_mayBe_1 : decode cX10_mayBe 1 = .ok (.iconst 0, 1) := dk_3 (dk_at dksX10_mayBe_0 1 rfl rfl)
theorem dX10_mayBe_2 : decode cX10_mayBe 2 = .ok (.putfield 1, 3) := dk_181 0 1 (dk_at dksX10_mayBe_0 2 rfl rfl)
theorem dX10_mayBe_5 : decode cX10_mayBe 5 = .ok (.aload_n 0, 1) := dk_42 (dk_at dksX10_mayBe_0 5 rfl rfl)
theorem dX10_mayBe_6 : decode cX10_mayBe 6 = .ok (.iload_n 1, 1) := dk_27 (dk_at dksX10_mayBe_0 6 rfl rfl)
theorem dX10_mayBe_7 : decode cX10_mayBe 7 = .ok (.invokevirtual 391, 3) := dk_182 1 135 (dk_at dksX10_mayBe_0 7 rfl rfl)
theorem dX10_mayBe_10 : decode cX10_mayBe 10 = .ok (.ifCond .eq 31, 3) := dk_153 0 31 (dk_at dksX10_mayBe_0 10 rfl rfl)
theorem dX10_mayBe_13 : decode cX10_mayBe 13 = .ok (.aload_n 0, 1) := dk_42 (dk_at dksX10_mayBe_0 13 rfl rfl)
theorem dX10_mayBe_14 : decode cX10_mayBe 14 = .ok (.iload_n 3, 1) := dk_29 (dk_at dksX10_mayBe_0 14 rfl rfl)
theorem dX10_mayBe_15 : decode cX10_mayBe 15 = .ok (.iconst 0, 1) := dk_3 (dk_at dksX10_mayBe_0 15 rfl rfl)
theorem dX10_mayBe_16 : decode cX10_mayBe 16 = .ok (.bipush 63, 2) := dk_16 63 (dk_at dksX10_mayBe_0 16 rfl rfl)
theorem dX10_mayBe_18 : decode cX10_mayBe 18 = .ok (.invokestatic 210, 3) := dk_184 0 210 (dk_at dksX10_mayBe_0 18 rfl rfl)
theorem dX10_mayBe_21 : decode cX10_mayBe 21 = .ok (.iconst 2, 1) := dk_5 (dk_at dksX10_mayBe_0 21 rfl rfl)
theorem dX10_mayBe_22 : decode cX10_mayBe 22 = .ok (.invokevirtual 214, 3) := dk_182 0 214 (dk_at dksX10_mayBe_1 0 rfl rfl)
theorem dX10_mayBe_25 : decode cX10_mayBe 25 = .ok (.ifCond .eq 16, 3) := dk_153 0 16 (dk_at dksX10_mayBe_1 3 rfl rfl)
theorem dX10_mayBe_28 : decode cX10_mayBe 28 = .ok (.aload_n 0, 1) := dk_42 (dk_at dksX10_mayBe_1 6 rfl rfl)
theorem dX10_mayBe_29 : decode cX10_mayBe 29 = .ok (.aload_n 0, 1) := dk_42 (dk_at dksX10_mayBe_1 7 rfl rfl)
theorem dX10_mayBe_30 : decode cX10_mayBe 30 = .ok (.iload_n 2, 1) := dk_28 (dk_at dksX10_mayBe_1 8 rfl rfl)
theorem dX10_mayBe_31 : decode cX10_mayBe 31 = .ok (.invokevirtual 561, 3) := dk_182 2 49 (dk_at dksX10_mayBe_1 9 rfl rfl)
theorem dX10_mayBe_34 : decode cX10_mayBe 34 = .ok (.iconst 3, 1) := dk_6 (dk_at dksX10_mayBe_1 12 rfl rfl)
theorem dX10_mayBe_35 : decode cX10_mayBe 35 = .ok (.invokevirtual 214, 3) := dk_182 0 214 (dk_at dksX10_mayBe_1 13 rfl rfl)
theorem dX10_mayBe_38 : decode cX10_mayBe 38 = .ok (.ifCond .ne 5, 3) := dk_154 0 5 (dk_at dksX10_mayBe_1 16 rfl rfl)
theorem dX10_mayBe_41 : decode cX10_mayBe 41 = .ok (.iconst 0, 1) := dk_3 (dk_at dksX10_mayBe_1 19 rfl rfl)
theorem dX10_mayBe_42 : decode cX10_mayBe 42 = .ok (.ireturn, 1) := dk_172 (dk_at dksX10_mayBe_1 20 rfl rfl)
theorem dX10_mayBe_43 : decode cX10_mayBe 43 = .ok (.aload_n 0, 1) := dk_42 (dk_at dksX10_mayBe_1 21 rfl rfl)
theorem dX10_mayBe_44 : decode cX10_mayBe 44 = .ok (.iload_n 1, 1) := dk_27 (dk_at dksX10_mayBe_1 22 rfl rfl)
theorem dX10_mayBe_45 : decode cX10_mayBe 45 = .ok (.iload_n 2, 1) := dk_28 (dk_at dksX10_mayBe_1 23 rfl rfl)
theorem dX10_mayBe_46 : decode cX10_mayBe 46 = .ok (.invokevirtual 568, 3) := dk_182 2 56 (dk_at dksX10_mayBe_2 0 rfl rfl)
theorem dX10_mayBe_49 : decode cX10_mayBe 49 = .ok (.aload_n 0, 1) := dk_42 (dk_at dksX10_mayBe_2 3 rfl rfl)
theorem dX10_mayBe_50 : decode cX10_mayBe 50 = .ok (.getfield 171, 3) := dk_180 0 171 (dk_at dksX10_mayBe_2 4 rfl rfl)
theorem dX10_mayBe_53 : decode cX10_mayBe 53 = .ok (.iload_n 3, 1) := dk_29 (dk_at dksX10_mayBe_2 7 rfl rfl)
theorem dX10_mayBe_54 : decode cX10_mayBe 54 = .ok (.baload, 1) := dk_51 (dk_at dksX10_mayBe_2 8 rfl rfl)
theorem dX10_mayBe_55 : decode cX10_mayBe 55 = .ok (.ireturn, 1) := dk_172 (dk_at dksX10_mayBe_2 9 rfl rfl)
def dkwX10_findWhere_10 : List UInt8 := [28, 100, 104, 163, 0, 7, 4, 167, 0, 4, 3, 84, 132, 5, 1, 167, 255, 127, 177]
abbrev dktX10_findWhere_10 : List UInt8 := dkwX10_findWhere_10 ++ []
def dkwX10_findWhere_9 : List UInt8 := [180, 0, 168, 21, 5, 46, 42, 180, 0, 77, 27, 46, 42, 180, 0, 159, 16, 20, 27, 104, 21, 4, 96, 46]
abbrev dktX10_findWhere_9 : List UInt8 := dkwX10_findWhere_9 ++ dktX10_findWhere_10
def dkwX10_findWhere_8 : List UInt8 := [167, 0, 4, 3, 54, 6, 42, 180, 0, 171, 21, 5, 21, 6, 153, 0, 44, 21, 4, 2, 159, 0, 34, 42]
abbrev dktX10_findWhere_8 : List UInt8 := dkwX10_findWhere_8 ++ dktX10_findWhere_9
def dkwX10_findWhere_7 : List UInt8 := [42, 180, 0, 77, 27, 46, 28, 42, 180, 0, 159, 16, 20, 27, 104, 29, 96, 46, 100, 104, 163, 0, 7, 4]
abbrev dktX10_findWhere_7 : List UInt8 := dkwX10_findWhere_7 ++ dktX10_findWhere_8
def dkwX10_findWhere_6 : List UInt8 := [4, 167, 0, 4, 3, 54, 6, 21, 6, 153, 0, 42, 29, 2, 159, 0, 33, 42, 180, 0, 165, 21, 5, 46]
abbrev dktX10_findWhere_6 : List UInt8 := dkwX10_findWhere_6 ++ dktX10_findWhere_7
def dkwX10_findWhere_5 : List UInt8 := [182, 2, 52, 3, 54, 5, 21, 5, 16, 64, 162, 0, 128, 42, 180, 0, 13, 21, 5, 46, 4, 159, 0, 7]
abbrev dktX10_findWhere_5 : List UInt8 := dkwX10_findWhere_5 ++ dktX10_findWhere_6
def dkwX10_findWhere_4 : List UInt8 := [21, 4, 2, 159, 0, 23, 42, 42, 180, 0, 162, 16, 20, 27, 104, 21, 4, 96, 46, 42, 180, 0, 168]
abbrev dktX10_findWhere_4 : List UInt8 := dkwX10_findWhere_4 ++ dktX10_findWhere_5
def dkwX10_findWhere_3 : List UInt8 := [29, 2, 159, 0, 22, 42, 42, 180, 0, 162, 16, 20, 27, 104, 29, 96, 46, 42, 180, 0, 165, 182, 2, 52]
abbrev dktX10_findWhere_3 : List UInt8 := dkwX10_findWhere_3 ++ dktX10_findWhere_4
def dkwX10_findWhere_2 : List UInt8 := [21, 5, 96, 46, 28, 161, 0, 13, 21, 4, 2, 160, 0, 7, 21, 5, 54, 4, 132, 5, 1, 167, 255, 197]
abbrev dktX10_findWhere_2 : List UInt8 := dkwX10_findWhere_2 ++ dktX10_findWhere_3
def dkwX10_findWhere_1 : List UInt8 := [16, 20, 27, 104, 21, 5, 96, 46, 28, 163, 0, 6, 21, 5, 62, 42, 180, 0, 159, 16, 20, 27, 104]
abbrev dktX10_findWhere_1 : List UInt8 := dkwX10_findWhere_1 ++ dktX10_findWhere_2
def dkwX10_findWhere_0 : List UInt8 := [2, 62, 2, 54, 4, 3, 54, 5, 21, 5, 42, 180, 0, 156, 27, 46, 162, 0, 54, 42, 180, 0, 159]
abbrev dktX10_findWhere_0 : List UInt8 := dkwX10_findWhere_0 ++ dktX10_findWhere_1
theorem dksX10_findWhere_0 : cX10_findWhere.data.toList.drop 0 = dktX10_findWhere_0 := by decide +kernel
theorem dksX10_findWhere_1 : cX10_findWhere.data.toList.drop 23 = dktX10_findWhere_1 := dk_seg dksX10_findWhere_0 23 rfl rfl
theorem dksX10_findWhere_2 : cX10_findWhere.data.toList.drop 46 = dktX10_findWhere_2 := dk_seg dksX10_findWhere_1 23 rfl rfl
theorem dksX10_findWhere_3 : cX10_findWhere.data.toList.drop 70 = dktX10_findWhere_3 := dk_seg dksX10_findWhere_2 24 rfl rfl
theorem dksX10_findWhere_4 : cX10_findWhere.data.toList.drop 94 = dktX10_findWhere_4 := dk_seg dksX10_findWhere_3 24 rfl rfl
theorem dksX10_findWhere_5 : cX10_findWhere.data.toList.drop 117 = dktX10_findWhere_5 := dk_seg dksX10_findWhere_4 23 rfl rfl
theorem dksX10_findWhere_6 : cX10_findWhere.data.toList.drop 141 = dktX10_findWhere_6 := dk_seg dksX10_findWhere_5 24 rfl rfl
theorem dksX10_findWhere_7 : cX10_findWhere.data.toList.drop 165 = dktX10_findWhere_7 := dk_seg dksX10_findWhere_6 24 rfl rfl
theorem dksX10_findWhere_8 : cX10_findWhere.data.toList.drop 189 = dktX10_findWhere_8 := dk_seg dksX10_findWhere_7 24 rfl rfl
theorem dksX10_findWhere_9 : cX10_findWhere.data.toList.drop 213 = dktX10_findWhere_9 := dk_seg dksX10_findWhere_8 24 rfl rfl
theorem dksX10_findWhere_10 : cX10_findWhere.data.toList.drop 237 = dktX10_findWhere_10 := dk_seg dksX10_findWhere_9 24 rfl rfl
theorem dX10_findWhere_0 : decode cX10_findWhere 0 = .ok (.iconst (-1), 1) := dk_2 (dk_at dksX10_findWhere_0 0 rfl rfl)
theorem dX10_findWhere_1 : decode cX10_findWhere 1 = .ok (.istore_n 3, 1) := dk_62 (dk_at dksX10_findWhere_0 1 rfl rfl)
theorem dX10_findWhere_2 : decode cX10_findWhere 2 = .ok (.iconst (-1), 1) := dk_2 (dk_at dksX10_findWhere_0 2 rfl rfl)
theorem dX10_findWhere_3 : decode cX10_findWhere 3 = .ok (.istore 4, 2) := dk_54 4 (dk_at dksX10_findWhere_0 3 rfl rfl)
theorem dX10_findWhere_5 : decode cX10_findWhere 5 = .ok (.iconst 0, 1) := dk_3 (dk_at dksX10_findWhere_0 5 rfl rfl)
theorem dX10_findWhere_6 : decode cX10_findWhere 6 = .ok (.istore 5, 2) := dk_54 5 (dk_at dksX10_findWhere_0 6 rfl rfl)
theorem dX10_findWhere_8 : decode cX10_findWhere 8 = .ok (.iload 5, 2) := dk_21 5 (dk_at dksX10_findWhere_0 8 rfl rfl)
theorem dX10_findWhere_10 : decode cX10_findWhere 10 = .ok (.aload_n 0, 1) := dk_42 (dk_at dksX10_findWhere_0 10 rfl rfl)
theorem dX10_findWhere_11 : decode cX10_findWhere 11 = .ok (.getfield 156, 3) := dk_180 0 156 (dk_at dksX10_findWhere_0 11 rfl rfl)
theorem dX10_findWhere_14 : decode cX10_findWhere 14 = .ok (.iload_n 1, 1) := dk_27 (dk_at dksX10_findWhere_0 14 rfl rfl)
theorem dX10_findWhere_15 : decode cX10_findWhere 15 = .ok (.iaload, 1) := dk_46 (dk_at dksX10_findWhere_0 15 rfl rfl)
theorem dX10_findWhere_16 : decode cX10_findWhere 16 = .ok (.if_icmp .ge 54, 3) := dk_162 0 54 (dk_at dksX10_findWhere_0 16 rfl rfl)
theorem dX10_findWhere_19 : decode cX10_findWhere 19 = .ok (.aload_n 0, 1) := dk_42 (dk_at dksX10_findWhere_0 19 rfl rfl)
theorem dX10_findWhere_20 : decode cX10_findWhere 20 = .ok (.getfield 159, 3) := dk_180 0 159 (dk_at dksX10_findWhere_0 20 rfl rfl)
theorem dX10_findWhere_23 : decode cX10_findWhere 23 = .ok (.bipush 20, 2) := dk_16 20 (dk_at dksX10_findWhere_1 0 rfl rfl)
theorem dX10_findWhere_25 : decode cX10_findWhere 25 = .ok (.iload_n 1, 1) := dk_27 (dk_at dksX10_findWhere_1 2 rfl rfl)
theorem dX10_findWhere_26 : decode cX10_findWhere 26 = .ok (.imul, 1) := dk_104 (dk_at dksX10_findWhere_1 3 rfl rfl)
theorem dX10_findWhere_27 : decode cX10_findWhere 27 = .ok (.iload 5, 2) := dk_21 5 (dk_at dksX10_findWhere_1 4 rfl rfl)
theorem dX10_findWhere_29 : decode cX10_findWhere 29 = .ok (.iadd, 1) := dk_96 (dk_at dksX10_findWhere_1 6 rfl rfl)
theorem dX10_findWhere_30 : decode cX10_findWhere 30 = .ok (.iaload, 1) := dk_46 (dk_at dksX10_findWhere_1 7 rfl rfl)
theorem dX10_findWhere_31 : decode cX10_findWhere 31 = .ok (.iload_n 2, 1) := dk_28 (dk_at dksX10_findWhere_1 8 rfl rfl)
theorem dX10_findWhere_32 : decode cX10_findWhere 32 = .ok (.if_icmp .gt 6, 3) := dk_163 0 6 (dk_at dksX10_findWhere_1 9 rfl rfl)
theorem dX10_findWhere_35 : decode cX10_findWhere 35 = .ok (.iload 5, 2) := dk_21 5 (dk_at dksX10_findWhere_1 12 rfl rfl)
theorem dX10_findWhere_37 : decode cX10_findWhere 37 = .ok (.istore_n 3, 1) := dk_62 (dk_at dksX10_findWhere_1 14 rfl rfl)
theorem dX10_findWhere_38 : decode cX10_findWhere 38 = .ok (.aload_n 0, 1) := dk_42 (dk_at dksX10_findWhere_1 15 rfl rfl)
theorem dX10_findWhere_39 : decode cX10_findWhere 39 = .ok (.getfield 159, 3) := dk_180 0 159 (dk_at dksX10_findWhere_1 16 rfl rfl)
theorem dX10_findWhere_42 : decode cX10_findWhere 42 = .ok (.bipush 20, 2) := dk_16 20 (dk_at dksX10_findWhere_1 19 rfl rfl)
theorem dX10_findWhere_44 : decode cX10_findWhere 44 = .ok (.iload_n 1, 1) := dk_27 (dk_at dksX10_findWhere_1 21 rfl rfl)
theorem dX10_findWhere_45 : decode cX10_findWhere 45 = .ok (.imul, 1) := dk_104 (dk_at dksX10_findWhere_1 22 rfl rfl)
theorem dX10_findWhere_46 : decode cX10_findWhere 46 = .ok (.iload 5, 2) := dk_21 5 (dk_at dksX10_findWhere_2 0 rfl rfl)
theorem dX10_findWhere_48 : decode cX10_findWhere 48 = .ok (.iadd, 1) := dk_96 (dk_at dksX10_findWhere_2 2 rfl rfl)
theorem dX10_findWhere_49 : decode cX10_findWhere 49 = .ok (.iaload, 1) := dk_46 (dk_at dksX10_findWhere_2 3 rfl rfl)
theorem dX10_findWhere_50 : decode cX10_findWhere 50 = .ok (.iload_n 2, 1) := dk_28 (dk_at dksX10_findWhere_2 4 rfl rfl)
theorem dX10_findWhere_51 : decode cX10_findWhere 51 = .ok (.if_icmp .lt 13, 3) := dk_161 0 13 (dk_at dksX10_findWhere_2 5 rfl rfl)
theorem dX10_findWhere_54 : decode cX10_findWhere 54 = .ok (.iload 4, 2) := dk_21 4 (dk_at dksX10_findWhere_2 8 rfl rfl)
theorem dX10_findWhere_56 : decode cX10_findWhere 56 = .ok (.iconst (-1), 1) := dk_2 (dk_at dksX10_findWhere_2 10 rfl rfl)
theorem dX10_findWhere_57 : decode cX10_findWhere 57 = .ok (.if_icmp .ne 7, 3) := dk_160 0 7 (dk_at dksX10_findWhere_2 11 rfl rfl)
theorem dX10_findWhere_60 : decode cX10_findWhere 60 = .ok (.iload 5, 2) := dk_21 5 (dk_at dksX10_findWhere_2 14 rfl rfl)
theorem dX10_findWhere_62 : decode cX10_findWhere 62 = .ok (.istore 4, 2) := dk_54 4 (dk_at dksX10_findWhere_2 16 rfl rfl)
theorem dX10_findWhere_64 : decode cX10_findWhere 64 = .ok (.iinc 5 1, 3) := dk_132 5 1 (dk_at dksX10_findWhere_2 18 rfl rfl)
theorem dX10_findWhere_67 : decode cX10_findWhere 67 = .ok (.goto (-59), 3) := dk_167 255 197 (dk_at dksX10_findWhere_2 21 rfl rfl)
theorem dX10_findWhere_70 : decode cX10_findWhere 70 = .ok (.iload_n 3, 1) := dk_29 (dk_at dksX10_findWhere_3 0 rfl rfl)
theorem dX10_findWhere_71 : decode cX10_findWhere 71 = .ok (.iconst (-1), 1) := dk_2 (dk_at dksX10_findWhere_3 1 rfl rfl)
theorem dX10_findWhere_72 : decode cX10_findWhere 72 = .ok (.if_icmp .eq 22, 3) := dk_159 0 22 (dk_at dksX10_findWhere_3 2 rfl rfl)
theorem dX10_findWhere_75 : decode cX10_findWhere 75 = .ok (.aload_n 0, 1) := dk_42 (dk_at dksX10_findWhere_3 5 rfl rfl)
theorem dX10_findWhere_76 : decode cX10_findWhere 76 = .ok (.aload_n 0, 1) := dk_42 (dk_at dksX10_findWhere_3 6 rfl rfl)
theorem dX10_findWhere_77 : decode cX10_findWhere 77 = .ok (.getfield 162, 3) := dk_180 0 162 (dk_at dksX10_findWhere_3 7 rfl rfl)
theorem dX10_findWhere_80 : decode cX10_findWhere 80 = .ok (.bipush 20, 2) := dk_16 20 (dk_at dksX10_findWhere_3 10 rfl rfl)
theorem dX10_findWhere_82 : decode cX10_findWhere 82 = .ok (.iload_n 1, 1) := dk_27 (dk_at dksX10_findWhere_3 12 rfl rfl)
theorem dX10_findWhere_83 : decode cX10_findWhere 83 = .ok (.imul, 1) := dk_104 (dk_at dksX10_findWhere_3 13 rfl rfl)
theorem dX10_findWhere_84 : decode cX10_findWhere 84 = .ok (.iload_n 3, 1) := dk_29 (dk_at dksX10_findWhere_3 14 rfl rfl)
theorem dX10_findWhere_85 : decode cX10_findWhere 85 = .ok (.iadd, 1) := dk_96 (dk_at dksX10_findWhere_3 15 rfl rfl)
theorem dX10_findWhere_86 : decode cX10_findWhere 86 = .ok (.iaload, 1) := dk_46 (dk_at dksX10_findWhere_3 16 rfl rfl)
theorem dX10_findWhere_87 : decode cX10_findWhere 87 = .ok (.aload_n 0, 1) := dk_42 (dk_at dksX10_findWhere_3 17 rfl rfl)
theorem dX10_findWhere_88 : decode cX10_findWhere 88 = .ok (.getfield 165, 3) := dk_180 0 165 (dk_at dksX10_findWhere_3 18 rfl rfl)
theorem dX10_findWhere_91 : decode cX10_findWhere 91 = .ok (.invokevirtual 564, 3) := dk_182 2 52 (dk_at dksX10_findWhere_3 21 rfl rfl)
theorem dX10_findWhere_94 : decode cX10_findWhere 94 = .ok (.iload 4, 2) := dk_21 4 (dk_at dksX10_findWhere_4 0 rfl rfl)
theorem dX10_findWhere_96 : decode cX10_findWhere 96 = .ok (.iconst (-1), 1) := dk_2 (dk_at dksX10_findWhere_4 2 rfl rfl)
theorem dX10_findWhere_97 : decode cX10_findWhere 97 = .ok (.if_icmp .eq 23, 3) := dk_159 0 23 (dk_at dksX10_findWhere_4 3 rfl rfl)
theorem dX10_findWhere_100 : decode cX10_findWhere 100 = .ok (.aload_n 0, 1) := dk_42 (dk_at dksX10_findWhere_4 6 rfl rfl)
theorem dX10_findWhere_101 : decode cX10_findWhere 101 = .ok (.aload_n 0, 1) := dk_42 (dk_at dksX10_findWhere_4 7 rfl rfl)
theorem dX10_findWhere_102 : decode cX10_findWhere 102 = .ok (.getfield 162, 3) := dk_180 0 162 (dk_at dksX10_findWhere_4 8 rfl rfl)
theorem dX10_findWhere_105 : decode cX10_findWhere 105 = .ok (.bipush 20, 2) := dk_16 20 (dk_at dksX10_findWhere_4 11 rfl rfl)
theorem dX10_findWhere_107 : decode cX10_findWhere 107 = .ok (.iload_n 1, 1) := dk_27 (dk_at dksX10_findWhere_4 13 rfl rfl)
theorem dX10_findWhere_108 : decode cX10_findWhere 108 = .ok (.imul, 1) := dk_104 (dk_at dksX10_findWhere_4 14 rfl rfl)
theorem dX10_findWhere_109 : decode cX10_findWhere 109 = .ok (.iload 4, 2) := dk_21 4 (dk_at dksX10_findWhere_4 15 rfl rfl)
theorem dX10_findWhere_111 : decode cX10_findWhere 111 = .ok (.iadd, 1) := dk_96 (dk_at dksX10_findWhere_4 17 rfl rfl)
theorem dX10_findWhere_112 : decode cX10_findWhere 112 = .ok (.iaload, 1) := dk_46 (dk_at dksX10_findWhere_4 18 rfl rfl)
theorem dX10_findWhere_113 : decode cX10_findWhere 113 = .ok (.aload_n 0, 1) := dk_42 (dk_at dksX10_findWhere_4 19 rfl rfl)
theorem dX10_findWhere_114 : decode cX10_findWhere 114 = .ok (.getfield 168, 3) := dk_180 0 168 (dk_at dksX10_findWhere_4 20 rfl rfl)
theorem dX10_findWhere_117 : decode cX10_findWhere 117 = .ok (.invokevirtual 564, 3) := dk_182 2 52 (dk_at dksX10_findWhere_5 0 rfl rfl)
theorem dX10_findWhere_120 : decode cX10_findWhere 120 = .ok (.iconst 0, 1) := dk_3 (dk_at dksX10_findWhere_5 3 rfl rfl)
theorem dX10_findWhere_121 : decode cX10_findWhere 121 = .ok (.istore 5, 2) := dk_54 5 (dk_at dksX10_findWhere_5 4 rfl rfl)
theorem dX10_findWhere_123 : decode cX10_findWhere 123 = .ok (.iload 5, 2) := dk_21 5 (dk_at dksX10_findWhere_5 6 rfl rfl)
theorem dX10_findWhere_125 : decode cX10_findWhere 125 = .ok (.bipush 64, 2) := dk_16 64 (dk_at dksX10_findWhere_5 8 rfl rfl)
theorem dX10_findWhere_127 : decode cX10_findWhere 127 = .ok (.if_icmp .ge 128, 3) := dk_162 0 128 (dk_at dksX10_findWhere_5 10 rfl rfl)
theorem dX10_findWhere_130 : decode cX10_findWhere 130 = .ok (.aload_n 0, 1) := dk_42 (dk_at dksX10_findWhere_5 13 rfl rfl)
theorem dX10_findWhere_131 : decode cX10_findWhere 131 = .ok (.getfield 13, 3) := dk_180 0 13 (dk_at dksX10_findWhere_5 14 rfl rfl)
theorem dX10_findWhere_134 : decode cX10_findWhere 134 = .ok (.iload 5, 2) := dk_21 5 (dk_at dksX10_findWhere_5 17 rfl rfl)
theorem dX10_findWhere_136 : decode cX10_findWhere 136 = .ok (.iaload, 1) := dk_46 (dk_at dksX10_findWhere_5 19 rfl rfl)
theorem dX10_findWhere_137 : decode cX10_findWhere 137 = .ok (.iconst 1, 1) := dk_4 (dk_at dksX10_findWhere_5 20 rfl rfl)
theorem dX10_findWhere_138 : decode cX10_findWhere 138 = .ok (.if_icmp .eq 7, 3) := dk_159 0 7 (dk_at dksX10_findWhere_5 21 rfl rfl)
theorem dX10_findWhere_141 : decode cX10_findWhere 141 = .ok (.iconst 1, 1) := dk_4 (dk_at dksX10_findWhere_6 0 rfl rfl)
theorem dX10_findWhere_142 : decode cX10_findWhere 142 = .ok (.goto 4, 3) := dk_167 0 4 (dk_at dksX10_findWhere_6 1 rfl rfl)
theorem dX10_findWhere_145 : decode cX10_findWhere 145 = .ok (.iconst 0, 1) := dk_3 (dk_at dksX10_findWhere_6 4 rfl rfl)
theorem dX10_findWhere_146 : decode cX10_findWhere 146 = .ok (.istore 6, 2) := dk_54 6 (dk_at dksX10_findWhere_6 5 rfl rfl)
theorem dX10_findWhere_148 : decode cX10_findWhere 148 = .ok (.iload 6, 2) := dk_21 6 (dk_at dksX10_findWhere_6 7 rfl rfl)
theorem dX10_findWhere_150 : decode cX10_findWhere 150 = .ok (.ifCond .eq 42, 3) := dk_153 0 42 (dk_at dksX10_findWhere_6 9 rfl rfl)
theorem dX10_findWhere_153 : decode cX10_findWhere 153 = .ok (.iload_n 3, 1) := dk_29 (dk_at dksX10_findWhere_6 12 rfl rfl)
theorem dX10_findWhere_154 : decode cX10_findWhere 154 = .ok (.iconst (-1), 1) := dk_2 (dk_at dksX10_findWhere_6 13 rfl rfl)
theorem dX10_findWhere_155 : decode cX10_findWhere 155 = .ok (.if_icmp .eq 33, 3) := dk_159 0 33 (dk_at dksX10_findWhere_6 14 rfl rfl)
theorem dX10_findWhere_158 : decode cX10_findWhere 158 = .ok (.aload_n 0, 1) := dk_42 (dk_at dksX10_findWhere_6 17 rfl rfl)
theorem dX10_findWhere_159 : decode cX10_findWhere 159 = .ok (.getfield 165, 3) := dk_180 0 165 (dk_at dksX10_findWhere_6 18 rfl rfl)
theorem dX10_findWhere_162 : decode cX10_findWhere 162 = .ok (.iload 5, 2) := dk_21 5 (dk_at dksX10_findWhere_6 21 rfl rfl)
theorem dX10_findWhere_164 : decode cX10_findWhere 164 = .ok (.iaload, 1) := dk_46 (dk_at dksX10_findWhere_6 23 rfl rfl)
theorem dX10_findWhere_165 : decode cX10_findWhere 165 = .ok (.aload_n 0, 1) := dk_42 (dk_at dksX10_findWhere_7 0 rfl rfl)
theorem dX10_findWhere_166 : decode cX10_findWhere 166 = .ok (.getfield 77, 3) := dk_180 0 77 (dk_at dksX10_findWhere_7 1 rfl rfl)
theorem dX10_findWhere_169 : decode cX10_findWhere 169 = .ok (.iload_n 1, 1) := dk_27 (dk_at dksX10_findWhere_7 4 rfl rfl)
theorem dX10_findWhere_170 : decode cX10_findWhere 170 = .ok (.iaload, 1) := dk_46 (dk_at dksX10_findWhere_7 5 rfl rfl)
theorem dX10_findWhere_171 : decode cX10_findWhere 171 = .ok (.iload_n 2, 1) := dk_28 (dk_at dksX10_findWhere_7 6 rfl rfl)
theorem dX10_findWhere_172 : decode cX10_findWhere 172 = .ok (.aload_n 0, 1) := dk_42 (dk_at dksX10_findWhere_7 7 rfl rfl)
theorem dX10_findWhere_173 : decode cX10_findWhere 173 = .ok (.getfield 159, 3) := dk_180 0 159 (dk_at dksX10_findWhere_7 8 rfl rfl)
theorem dX10_findWhere_176 : decode cX10_findWhere 176 = .ok (.bipush 20, 2) := dk_16 20 (dk_at dksX10_findWhere_7 11 rfl rfl)
theorem dX10_findWhere_178 : decode cX10_findWhere 178 = .ok (.iload_n 1, 1) := dk_27 (dk_at dksX10_findWhere_7 13 rfl rfl)
theorem dX10_findWhere_179 : decode cX10_findWhere 179 = .ok (.imul, 1) := dk_104 (dk_at dksX10_findWhere_7 14 rfl rfl)
theorem dX10_findWhere_180 : decode cX10_findWhere 180 = .ok (.iload_n 3, 1) := dk_29 (dk_at dksX10_findWhere_7 15 rfl rfl)
theorem dX10_findWhere_181 : decode cX10_findWhere 181 = .ok (.iadd, 1) := dk_96 (dk_at dksX10_findWhere_7 16 rfl rfl)
theorem dX10_findWhere_182 : decode cX10_findWhere 182 = .ok (.iaload, 1) := dk_46 (dk_at dksX10_findWhere_7 17 rfl rfl)
theorem dX10_findWhere_183 : decode cX10_findWhere 183 = .ok (.isub, 1) := dk_100 (dk_at dksX10_findWhere_7 18 rfl rfl)
theorem dX10_findWhere_184 : decode cX10_findWhere 184 = .ok (.imul, 1) := dk_104 (dk_at dksX10_findWhere_7 19 rfl rfl)
theorem dX10_findWhere_185 : decode cX10_findWhere 185 = .ok (.if_icmp .gt 7, 3) := dk_163 0 7 (dk_at dksX10_findWhere_7 20 rfl rfl)
theorem dX10_findWhere_188 : decode cX10_findWhere 188 = .ok (.iconst 1, 1) := dk_4 (dk_at dksX10_findWhere_7 23 rfl rfl)
theorem dX10_findWhere_189 : decode cX10_findWhere 189 = .ok (.goto 4, 3) := dk_167 0 4 (dk_at dksX10_findWhere_8 0 rfl rfl)
theorem dX10_findWhere_192 : decode cX10_findWhere 192 = .ok (.iconst 0, 1) := dk_3 (dk_at dksX10_findWhere_8 3 rfl rfl)
theorem dX10_findWhere_193 : decode cX10_findWhere 193 = .ok (.istore 6, 2) := dk_54 6 (dk_at dksX10_findWhere_8 4 rfl rfl)
theorem dX10_findWhere_195 : decode cX10_findWhere 195 = .ok (.aload_n 0, 1) := dk_42 (dk_at dksX10_findWhere_8 6 rfl rfl)
theorem dX10_findWhere_196 : decode cX10_findWhere 196 = .ok (.getfield 171, 3) := dk_180 0 171 (dk_at dksX10_findWhere_8 7 rfl rfl)
theorem dX10_findWhere_199 : decode cX10_findWhere 199 = .ok (.iload 5, 2) := dk_21 5 (dk_at dksX10_findWhere_8 10 rfl rfl)
theorem dX10_findWhere_201 : decode cX10_findWhere 201 = .ok (.iload 6, 2) := dk_21 6 (dk_at dksX10_findWhere_8 12 rfl rfl)
theorem dX10_findWhere_203 : decode cX10_findWhere 203 = .ok (.ifCond .eq 44, 3) := dk_153 0 44 (dk_at dksX10_findWhere_8 14 rfl rfl)
theorem dX10_findWhere_206 : decode cX10_findWhere 206 = .ok (.iload 4, 2) := dk_21 4 (dk_at dksX10_findWhere_8 17 rfl rfl)
theorem dX10_findWhere_208 : decode cX10_findWhere 208 = .ok (.iconst (-1), 1) := dk_2 (dk_at dksX10_findWhere_8 19 rfl rfl)
theorem dX10_findWhere_209 : decode cX10_findWhere 209 = .ok (.if_icmp .eq 34, 3) := dk_159 0 34 (dk_at dksX10_findWhere_8 20 rfl rfl)
theorem dX10_findWhere_212 : decode cX10_findWhere 212 = .ok (.aload_n 0, 1) := dk_42 (dk_at dksX10_findWhere_8 23 rfl rfl)
theorem dX10_findWhere_213 : decode cX10_findWhere 213 = .ok (.getfield 168, 3) := dk_180 0 168 (dk_at dksX10_findWhere_9 0 rfl rfl)
theorem dX10_findWhere_216 : decode cX10_findWhere 216 = .ok (.iload 5, 2) := dk_21 5 (dk_at dksX10_findWhere_9 3 rfl rfl)
theorem dX10_findWhere_218 : decode cX10_findWhere 218 = .ok (.iaload, 1) := dk_46 (dk_at dksX10_findWhere_9 5 rfl rfl)
theorem dX10_findWhere_219 : decode cX10_findWhere 219 = .ok (.aload_n 0, 1) := dk_42 (dk_at dksX10_findWhere_9 6 rfl rfl)
theorem dX10_findWhere_220 : decode cX10_findWhere 220 = .ok (.getfield 77, 3) := dk_180 0 77 (dk_at dksX10_findWhere_9 7 rfl rfl)
theorem dX10_findWhere_223 : decode cX10_findWhere 223 = .ok (.iload_n 1, 1) := dk_27 (dk_at dksX10_findWhere_9 10 rfl rfl)
theorem dX10_findWhere_224 : decode cX10_findWhere 224 = .ok (.iaload, 1) := dk_46 (dk_at dksX10_findWhere_9 11 rfl rfl)
theorem dX10_findWhere_225 : decode cX10_findWhere 225 = .ok (.aload_n 0, 1) := dk_42 (dk_at dksX10_findWhere_9 12 rfl rfl)
theorem dX10_findWhere_226 : decode cX10_findWhere 226 = .ok (.getfield 159, 3) := dk_180 0 159 (dk_at dksX10_findWhere_9 13 rfl rfl)
theorem dX10_findWhere_229 : decode cX10_findWhere 229 = .ok (.bipush 20, 2) := dk_16 20 (dk_at dksX10_findWhere_9 16 rfl rfl)
theorem dX10_findWhere_231 : decode cX10_findWhere 231 = .ok (.iload_n 1, 1) := dk_27 (dk_at dksX10_findWhere_9 18 rfl rfl)
theorem dX10_findWhere_232 : decode cX10_findWhere 232 = .ok (.imul, 1) := dk_104 (dk_at dksX10_findWhere_9 19 rfl rfl)
theorem dX10_findWhere_233 : decode cX10_findWhere 233 = .ok (.iload 4, 2) := dk_21 4 (dk_at dksX10_findWhere_9 20 rfl rfl)
theorem dX10_findWhere_235 : decode cX10_findWhere 235 = .ok (.iadd, 1) := dk_96 (dk_at dksX10_findWhere_9 22 rfl rfl)
theorem dX10_findWhere_236 : decode cX10_findWhere 236 = .ok (.iaload, 1) := dk_46 (dk_at dksX10_findWhere_9 23 rfl rfl)
theorem dX10_findWhere_237 : decode cX10_findWhere 237 = .ok (.iload_n 2, 1) := dk_28 (dk_at dksX10_findWhere_10 0 rfl rfl)
theorem dX10_findWhere_238 : decode cX10_findWhere 238 = .ok (.isub, 1) := dk_100 (dk_at dksX10_findWhere_10 1 rfl rfl)
theorem dX10_findWhere_239 : decode cX10_findWhere 239 = .ok (.imul, 1) := dk_104 (dk_at dksX10_findWhere_10 2 rfl rfl)
theorem dX10_findWhere_240 : decode cX10_findWhere 240 = .ok (.if_icmp .gt 7, 3) := dk_163 0 7 (dk_at dksX10_findWhere_10 3 rfl rfl)
theorem dX10_findWhere_243 : decode cX10_findWhere 243 = .ok (.iconst 1, 1) := dk_4 (dk_at dksX10_findWhere_10 6 rfl rfl)
theorem dX10_findWhere_244 : decode cX10_findWhere 244 = .ok (.goto 4, 3) := dk_167 0 4 (dk_at dksX10_findWhere_10 7 rfl rfl)
theorem dX10_findWhere_247 : decode cX10_findWhere 247 = .ok (.iconst 0, 1) := dk_3 (dk_at dksX10_findWhere_10 10 rfl rfl)
theorem dX10_findWhere_248 : decode cX10_findWhere 248 = .ok (.bastore, 1) := dk_84 (dk_at dksX10_findWhere_10 11 rfl rfl)
theorem dX10_findWhere_249 : decode cX10_findWhere 249 = .ok (.iinc 5 1, 3) := dk_132 5 1 (dk_at dksX10_findWhere_10 12 rfl rfl)
theorem dX10_findWhere_252 : decode cX10_findWhere 252 = .ok (.goto (-129), 3) := dk_167 255 127 (dk_at dksX10_findWhere_10 15 rfl rfl)
theorem dX10_findWhere_255 : decode cX10_findWhere 255 = .ok (.return_, 1) := dk_177 (dk_at dksX10_findWhere_10 18 rfl rfl)
def dkwX10_spots_3 : List UInt8 := [172]
abbrev dktX10_spots_3 : List UInt8 := dkwX10_spots_3 ++ []
def dkwX10_spots_2 : List UInt8 := [42, 180, 0, 171, 21, 4, 51, 153, 0, 7, 4, 167, 0, 4, 3, 96, 62, 132, 4, 1, 167, 255, 228, 29]
abbrev dktX10_spots_2 : List UInt8 := dkwX10_spots_2 ++ dktX10_spots_3
def dkwX10_spots_1 : List UInt8 := [154, 0, 5, 3, 172, 42, 27, 28, 182, 2, 56, 3, 62, 3, 54, 4, 21, 4, 16, 64, 162, 0, 27, 29]
abbrev dktX10_spots_1 : List UInt8 := dkwX10_spots_1 ++ dktX10_spots_2
def dkwX10_spots_0 : List UInt8 := [42, 3, 181, 0, 1, 42, 27, 182, 1, 135, 153, 0, 16, 42, 42, 28, 182, 2, 49, 5, 182, 0, 214]
abbrev dktX10_spots_0 : List UInt8 := dkwX10_spots_0 ++ dktX10_spots_1
theorem dksX10_spots_0 : cX10_spots.data.toList.drop 0 = dktX10_spots_0 := by decide +kernel
theorem dksX10_spots_1 : cX10_spots.data.toList.drop 23 = dktX10_spots_1 := dk_seg dksX10_spots_0 23 rfl rfl
theorem dksX10_spots_2 : cX10_spots.data.toList.drop 47 = dktX10_spots_2 := dk_seg dksX10_spots_1 24 rfl rfl
theorem dksX10_spots_3 : cX10_spots.data.toList.drop 71 = dktX10_spots_3 := dk_seg dksX10_spots_2 24 rfl rfl
theorem dX10_spots_0 : decode cX10_spots 0 = .ok (.aload_n 0, 1) := dk_42 (dk_at dksX10_spots_0 0 rfl rfl)
theorem dX10_spots_1 : decode cX10_spots 1 = .ok (.iconst 0, 1) := dk_3 (dk_at dksX10_spots_0 1 rfl rfl)
theorem dX10_spots_2 : decode cX10_spots 2 = .ok (.putfield 1, 3) := dk_181 0 1 (dk_at dksX10_spots_0 2 rfl rfl)
theorem dX10_spots_5 : decode cX10_spots 5 = .ok (.aload_n 0, 1) := dk_42 (dk_at dksX10_spots_0 5 rfl rfl)
theorem dX10_spots_6 : decode cX10_spots 6 = .ok (.iload_n 1, 1) := dk_27 (dk_at dksX10_spots_0 6 rfl rfl)
theorem dX10_spots_7 : decode cX10_spots 7 = .ok (.invokevirtual 391, 3) := dk_182 1 135 (dk_at dksX10_spots_0 7 rfl rfl)
theorem dX10_spots_10 : decode cX10_spots 10 = .ok (.ifCond .eq 16, 3) := dk_153 0 16 (dk_at dksX10_spots_0 10 rfl rfl)
theorem dX10_spots_13 : decode cX10_spots 13 = .ok (.aload_n 0, 1) := dk_42 (dk_at dksX10_spots_0 13 rfl rfl)
theorem dX10_spots_14 : decode cX10_spots 14 = .ok (.aload_n 0, 1) := dk_42 (dk_at dksX10_spots_0 14 rfl rfl)
theorem dX10_spots_15 : decode cX10_spots 15 = .ok (.iload_n 2, 1) := dk_28 (dk_at dksX10_spots_0 15 rfl rfl)
theorem dX10_spots_16 : decode cX10_spots 16 = .ok (.invokevirtual 561, 3) := dk_182 2 49 (dk_at dksX10_spots_0 16 rfl rfl)
theorem dX10_spots_19 : decode cX10_spots 19 = .ok (.iconst 2, 1) := dk_5 (dk_at dksX10_spots_0 19 rfl rfl)
theorem dX10_spots_20 : decode cX10_spots 20 = .ok (.invokevirtual 214, 3) := dk_182 0 214 (dk_at dksX10_spots_0 20 rfl rfl)
theorem dX10_spots_23 : decode cX10_spots 23 = .ok (.ifCond .ne 5, 3) := dk_154 0 5 (dk_at dksX10_spots_1 0 rfl rfl)
theorem dX10_spots_26 : decode cX10_spots 26 = .ok (.iconst 0, 1) := dk_3 (dk_at dksX10_spots_1 3 rfl rfl)
theorem dX10_spots_27 : decode cX10_spots 27 = .ok (.ireturn, 1) := dk_172 (dk_at dksX10_spots_1 4 rfl rfl)
theorem dX10_spots_28 : decode cX10_spots 28 = .ok (.aload_n 0, 1) := dk_42 (dk_at dksX10_spots_1 5 rfl rfl)
theorem dX10_spots_29 : decode cX10_spots 29 = .ok (.iload_n 1, 1) := dk_27 (dk_at dksX10_spots_1 6 rfl rfl)
theorem dX10_spots_30 : decode cX10_spots 30 = .ok (.iload_n 2, 1) := dk_28 (dk_at dksX10_spots_1 7 rfl rfl)
theorem dX10_spots_31 : decode cX10_spots 31 = .ok (.invokevirtual 568, 3) := dk_182 2 56 (dk_at dksX10_spots_1 8 rfl rfl)
theorem dX10_spots_34 : decode cX10_spots 34 = .ok (.iconst 0, 1) := dk_3 (dk_at dksX10_spots_1 11 rfl rfl)
theorem dX10_spots_35 : decode cX10_spots 35 = .ok (.istore_n 3, 1) := dk_62 (dk_at dksX10_spots_1 12 rfl rfl)
theorem dX10_spots_36 : decode cX10_spots 36 = .ok (.iconst 0, 1) := dk_3 (dk_at dksX10_spots_1 13 rfl rfl)
theorem dX10_spots_37 : decode cX10_spots 37 = .ok (.istore 4, 2) := dk_54 4 (dk_at dksX10_spots_1 14 rfl rfl)
theorem dX10_spots_39 : decode cX10_spots 39 = .ok (.iload 4, 2) := dk_21 4 (dk_at dksX10_spots_1 16 rfl rfl)
theorem dX10_spots_41 : decode cX10_spots 41 = .ok (.bipush 64, 2) := dk_16 64 (dk_at dksX10_spots_1 18 rfl rfl)
theorem dX10_spots_43 : decode cX10_spots 43 = .ok (.if_icmp .ge 27, 3) := dk_162 0 27 (dk_at dksX10_spots_1 20 rfl rfl)
theorem dX10_spots_46 : decode cX10_spots 46 = .ok (.iload_n 3, 1) := dk_29 (dk_at dksX10_spots_1 23 rfl rfl)
theorem dX10_spots_47 : decode cX10_spots 47 = .ok (.aload_n 0, 1) := dk_42 (dk_at dksX10_spots_2 0 rfl rfl)
theorem dX10_spots_48 : decode cX10_spots 48 = .ok (.getfield 171, 3) := dk_180 0 171 (dk_at dksX10_spots_2 1 rfl rfl)
theorem dX10_spots_51 : decode cX10_spots 51 = .ok (.iload 4, 2) := dk_21 4 (dk_at dksX10_spots_2 4 rfl rfl)
theorem dX10_spots_53 : decode cX10_spots 53 = .ok (.baload, 1) := dk_51 (dk_at dksX10_spots_2 6 rfl rfl)
theorem dX10_spots_54 : decode cX10_spots 54 = .ok (.ifCond .eq 7, 3) := dk_153 0 7 (dk_at dksX10_spots_2 7 rfl rfl)
theorem dX10_spots_57 : decode cX10_spots 57 = .ok (.iconst 1, 1) := dk_4 (dk_at dksX10_spots_2 10 rfl rfl)
theorem dX10_spots_58 : decode cX10_spots 58 = .ok (.goto 4, 3) := dk_167 0 4 (dk_at dksX10_spots_2 11 rfl rfl)
theorem dX10_spots_61 : decode cX10_spots 61 = .ok (.iconst 0, 1) := dk_3 (dk_at dksX10_spots_2 14 rfl rfl)
theorem dX10_spots_62 : decode cX10_spots 62 = .ok (.iadd, 1) := dk_96 (dk_at dksX10_spots_2 15 rfl rfl)
theorem dX10_spots_63 : decode cX10_spots 63 = .ok (.istore_n 3, 1) := dk_62 (dk_at dksX10_spots_2 16 rfl rfl)
theorem dX10_spots_64 : decode cX10_spots 64 = .ok (.iinc 4 1, 3) := dk_132 4 1 (dk_at dksX10_spots_2 17 rfl rfl)
theorem dX10_spots_67 : decode cX10_spots 67 = .ok (.goto (-28), 3) := dk_167 255 228 (dk_at dksX10_spots_2 20 rfl rfl)
theorem dX10_spots_70 : decode cX10_spots 70 = .ok (.iload_n 3, 1) := dk_29 (dk_at dksX10_spots_2 23 rfl rfl)
theorem dX10_spots_71 : decode cX10_spots 71 = .ok (.ireturn, 1) := dk_172 (dk_at dksX10_spots_3 0 rfl rfl)
def dkwX10_wire_4 : List UInt8 := [79, 42, 89, 180, 2, 59, 4, 96, 181, 2, 59, 42, 180, 2, 59, 4, 100, 172]
abbrev dktX10_wire_4 : List UInt8 := dkwX10_wire_4 ++ []
def dkwX10_wire_3 : List UInt8 := [180, 2, 59, 27, 79, 42, 180, 0, 177, 42, 180, 2, 59, 28, 79, 42, 180, 0, 180, 42, 180, 2, 59, 29]
abbrev dktX10_wire_3 : List UInt8 := dkwX10_wire_3 ++ dktX10_wire_4
def dkwX10_wire_2 : List UInt8 := [182, 0, 214, 154, 0, 5, 3, 172, 42, 180, 2, 59, 16, 10, 160, 0, 5, 2, 172, 42, 180, 0, 174, 42]
abbrev dktX10_wire_2 : List UInt8 := dkwX10_wire_2 ++ dktX10_wire_3
def dkwX10_wire_1 : List UInt8 := [184, 0, 228, 153, 0, 17, 29, 3, 16, 12, 184, 0, 210, 153, 0, 7, 4, 167, 0, 4, 3, 5]
abbrev dktX10_wire_1 : List UInt8 := dkwX10_wire_1 ++ dktX10_wire_2
def dkwX10_wire_0 : List UInt8 := [42, 3, 181, 0, 1, 42, 27, 182, 0, 218, 153, 0, 42, 42, 28, 182, 0, 218, 153, 0, 34, 42, 27, 28]
abbrev dktX10_wire_0 : List UInt8 := dkwX10_wire_0 ++ dktX10_wire_1
theorem dksX10_wire_0 : cX10_wire.data.toList.drop 0 = dktX10_wire_0 := by decide +kernel
theorem dksX10_wire_1 : cX10_wire.data.toList.drop 24 = dktX10_wire_1 := dk_seg dksX10_wire_0 24 rfl rfl
theorem dksX10_wire_2 : cX10_wire.data.toList.drop 46 = dktX10_wire_2 := dk_seg dksX10_wire_1 22 rfl rfl
theorem dksX10_wire_3 : cX10_wire.data.toList.drop 70 = dktX10_wire_3 := dk_seg dksX10_wire_2 24 rfl rfl
theorem dksX10_wire_4 : cX10_wire.data.toList.drop 94 = dktX10_wire_4 := dk_seg dksX10_wire_3 24 rfl rfl
theorem dX10_wire_0 : decode cX10_wire 0 = .ok (.aload_n 0, 1) := dk_42 (dk_at dksX10_wire_0 0 rfl rfl)
theorem dX10_wire_1 : decode cX10_wire 1 = .ok (.iconst 0, 1) := dk_3 (dk_at dksX10_wire_0 1 rfl rfl)
theorem dX10_wire_2 : decode cX10_wire 2 = .ok (.putfield 1, 3) := dk_181 0 1 (dk_at dksX10_wire_0 2 rfl rfl)
theorem dX10_wire_5 : decode cX10_wire 5 = .ok (.aload_n 0, 1) := dk_42 (dk_at dksX10_wire_0 5 rfl rfl)
theorem dX10_wire_6 : decode cX10_wire 6 = .ok (.iload_n 1, 1) := dk_27 (dk_at dksX10_wire_0 6 rfl rfl)
theorem dX10_wire_7 : decode cX10_wire 7 = .ok (.invokevirtual 218, 3) := dk_182 0 218 (dk_at dksX10_wire_0 7 rfl rfl)
theorem dX10_wire_10 : decode cX10_wire 10 = .ok (.ifCond .eq 42, 3) := dk_153 0 42 (dk_at dksX10_wire_0 10 rfl rfl)
theorem dX10_wire_13 : decode cX10_wire 13 = .ok (.aload_n 0, 1) := dk_42 (dk_at dksX10_wire_0 13 rfl rfl)
theorem dX10_wire_14 : decode cX10_wire 14 = .ok (.iload_n 2, 1) := dk_28 (dk_at dksX10_wire_0 14 rfl rfl)
theorem dX10_wire_15 : decode cX10_wire 15 = .ok (.invokevirtual 218, 3) := dk_182 0 218 (dk_at dksX10_wire_0 15 rfl rfl)
theorem dX10_wire_18 : decode cX10_wire 18 = .ok (.ifCond .eq 34, 3) := dk_153 0 34 (dk_at dksX10_wire_0 18 rfl rfl)
theorem dX10_wire_21 : decode cX10_wire 21 = .ok (.aload_n 0, 1) := dk_42 (dk_at dksX10_wire_0 21 rfl rfl)
theorem dX10_wire_22 : decode cX10_wire 22 = .ok (.iload_n 1, 1) := dk_27 (dk_at dksX10_wire_0 22 rfl rfl)
theorem dX10_wire_23 : decode cX10_wire 23 = .ok (.iload_n 2, 1) := dk_28 (dk_at dksX10_wire_0 23 rfl rfl)
theorem dX10_wire_24 : decode cX10_wire 24 = .ok (.invokestatic 228, 3) := dk_184 0 228 (dk_at dksX10_wire_1 0 rfl rfl)
theorem dX10_wire_27 : decode cX10_wire 27 = .ok (.ifCond .eq 17, 3) := dk_153 0 17 (dk_at dksX10_wire_1 3 rfl rfl)
theorem dX10_wire_30 : decode cX10_wire 30 = .ok (.iload_n 3, 1) := dk_29 (dk_at dksX10_wire_1 6 rfl rfl)
theorem dX10_wire_31 : decode cX10_wire 31 = .ok (.iconst 0, 1) := dk_3 (dk_at dksX10_wire_1 7 rfl rfl)
theorem dX10_wire_32 : decode cX10_wire 32 = .ok (.bipush 12, 2) := dk_16 12 (dk_at dksX10_wire_1 8 rfl rfl)
theorem dX10_wire_34 : decode cX10_wire 34 = .ok (.invokestatic 210, 3) := dk_184 0 210 (dk_at dksX10_wire_1 10 rfl rfl)
theorem dX10_wire_37 : decode cX10_wire 37 = .ok (.ifCond .eq 7, 3) := dk_153 0 7 (dk_at dksX10_wire_1 13 rfl rfl)
theorem dX10_wire_40 : decode cX10_wire 40 = .ok (.iconst 1, 1) := dk_4 (dk_at dksX10_wire_1 16 rfl rfl)
theorem dX10_wire_41 : decode cX10_wire 41 = .ok (.goto 4, 3) := dk_167 0 4 (dk_at dksX10_wire_1 17 rfl rfl)
theorem dX10_wire_44 : decode cX10_wire 44 = .ok (.iconst 0, 1) := dk_3 (dk_at dksX10_wire_1 20 rfl rfl)
theorem dX10_wire_45 : decode cX10_wire 45 = .ok (.iconst 2, 1) := dk_5 (dk_at dksX10_wire_1 21 rfl rfl)
theorem dX10_wire_46 : decode cX10_wire 46 = .ok (.invokevirtual 214, 3) := dk_182 0 214 (dk_at dksX10_wire_2 0 rfl rfl)
theorem dX10_wire_49 : decode cX10_wire 49 = .ok (.ifCond .ne 5, 3) := dk_154 0 5 (dk_at dksX10_wire_2 3 rfl rfl)
theorem dX10_wire_52 : decode cX10_wire 52 = .ok (.iconst 0, 1) := dk_3 (dk_at dksX10_wire_2 6 rfl rfl)
theorem dX10_wire_53 : decode cX10_wire 53 = .ok (.ireturn, 1) := dk_172 (dk_at dksX10_wire_2 7 rfl rfl)
theorem dX10_wire_54 : decode cX10_wire 54 = .ok (.aload_n 0, 1) := dk_42 (dk_at dksX10_wire_2 8 rfl rfl)
theorem dX10_wire_55 : decode cX10_wire 55 = .ok (.getfield 571, 3) := dk_180 2 59 (dk_at dksX10_wire_2 9 rfl rfl)
theorem dX10_wire_58 : decode cX10_wire 58 = .ok (.bipush 10, 2) := dk_16 10 (dk_at dksX10_wire_2 12 rfl rfl)
theorem dX10_wire_60 : decode cX10_wire 60 = .ok (.if_icmp .ne 5, 3) := dk_160 0 5 (dk_at dksX10_wire_2 14 rfl rfl)
theorem dX10_wire_63 : decode cX10_wire 63 = .ok (.iconst (-1), 1) := dk_2 (dk_at dksX10_wire_2 17 rfl rfl)
theorem dX10_wire_64 : decode cX10_wire 64 = .ok (.ireturn, 1) := dk_172 (dk_at dksX10_wire_2 18 rfl rfl)
theorem dX10_wire_65 : decode cX10_wire 65 = .ok (.aload_n 0, 1) := dk_42 (dk_at dksX10_wire_2 19 rfl rfl)
theorem dX10_wire_66 : decode cX10_wire 66 = .ok (.getfield 174, 3) := dk_180 0 174 (dk_at dksX10_wire_2 20 rfl rfl)
theorem dX10_wire_69 : decode cX10_wire 69 = .ok (.aload_n 0, 1) := dk_42 (dk_at dksX10_wire_2 23 rfl rfl)
theorem dX10_wire_70 : decode cX10_wire 70 = .ok (.getfield 571, 3) := dk_180 2 59 (dk_at dksX10_wire_3 0 rfl rfl)
theorem dX10_wire_73 : decode cX10_wire 73 = .ok (.iload_n 1, 1) := dk_27 (dk_at dksX10_wire_3 3 rfl rfl)
theorem dX10_wire_74 : decode cX10_wire 74 = .ok (.iastore, 1) := dk_79 (dk_at dksX10_wire_3 4 rfl rfl)
theorem dX10_wire_75 : decode cX10_wire 75 = .ok (.aload_n 0, 1) := dk_42 (dk_at dksX10_wire_3 5 rfl rfl)
theorem dX10_wire_76 : decode cX10_wire 76 = .ok (.getfield 177, 3) := dk_180 0 177 (dk_at dksX10_wire_3 6 rfl rfl)
theorem dX10_wire_79 : decode cX10_wire 79 = .ok (.aload_n 0, 1) := dk_42 (dk_at dksX10_wire_3 9 rfl rfl)
theorem dX10_wire_80 : decode cX10_wire 80 = .ok (.getfield 571, 3) := dk_180 2 59 (dk_at dksX10_wire_3 10 rfl rfl)
theorem dX10_wire_83 : decode cX10_wire 83 = .ok (.iload_n 2, 1) := dk_28 (dk_at dksX10_wire_3 13 rfl rfl)
theorem dX10_wire_84 : decode cX10_wire 84 = .ok (.iastore, 1) := dk_79 (dk_at dksX10_wire_3 14 rfl rfl)
theorem dX10_wire_85 : decode cX10_wire 85 = .ok (.aload_n 0, 1) := dk_42 (dk_at dksX10_wire_3 15 rfl rfl)
theorem dX10_wire_86 : decode cX10_wire 86 = .ok (.getfield 180, 3) := dk_180 0 180 (dk_at dksX10_wire_3 16 rfl rfl)
theorem dX10_wire_89 : decode cX10_wire 89 = .ok (.aload_n 0, 1) := dk_42 (dk_at dksX10_wire_3 19 rfl rfl)
theorem dX10_wire_90 : decode cX10_wire 90 = .ok (.getfield 571, 3) := dk_180 2 59 (dk_at dksX10_wire_3 20 rfl rfl)
theorem dX10_wire_93 : decode cX10_wire 93 = .ok (.iload_n 3, 1) := dk_29 (dk_at dksX10_wire_3 23 rfl rfl)
theorem dX10_wire_94 : decode cX10_wire 94 = .ok (.iastore, 1) := dk_79 (dk_at dksX10_wire_4 0 rfl rfl)
theorem dX10_wire_95 : decode cX10_wire 95 = .ok (.aload_n 0, 1) := dk_42 (dk_at dksX10_wire_4 1 rfl rfl)
theorem dX10_wire_96 : decode cX10_wire 96 = .ok (.dup, 1) := dk_89 (dk_at dksX10_wire_4 2 rfl rfl)
theorem dX10_wire_97 : decode cX10_wire 97 = .ok (.getfield 571, 3) := dk_180 2 59 (dk_at dksX10_wire_4 3 rfl rfl)
theorem dX10_wire_100 : decode cX10_wire 100 = .ok (.iconst 1, 1) := dk_4 (dk_at dksX10_wire_4 6 rfl rfl)
theorem dX10_wire_101 : decode cX10_wire 101 = .ok (.iadd, 1) := dk_96 (dk_at dksX10_wire_4 7 rfl rfl)
theorem dX10_wire_102 : decode cX10_wire 102 = .ok (.putfield 571, 3) := dk_181 2 59 (dk_at dksX10_wire_4 8 rfl rfl)
theorem dX10_wire_105 : decode cX10_wire 105 = .ok (.aload_n 0, 1) := dk_42 (dk_at dksX10_wire_4 11 rfl rfl)
theorem dX10_wire_106 : decode cX10_wire 106 = .ok (.getfield 571, 3) := dk_180 2 59 (dk_at dksX10_wire_4 12 rfl rfl)
theorem dX10_wire_109 : decode cX10_wire 109 = .ok (.iconst 1, 1) := dk_4 (dk_at dksX10_wire_4 15 rfl rfl)
theorem dX10_wire_110 : decode cX10_wire 110 = .ok (.isub, 1) := dk_100 (dk_at dksX10_wire_4 16 rfl rfl)
theorem dX10_wire_111 : decode cX10_wire 111 = .ok (.ireturn, 1) := dk_172 (dk_at dksX10_wire_4 17 rfl rfl)
def dkwX10_wind_4 : List UInt8 := [181, 2, 62, 42, 180, 0, 183, 29, 27, 79, 42, 180, 0, 186, 29, 28, 79, 21, 4, 172]
abbrev dktX10_wind_4 : List UInt8 := dkwX10_wind_4 ++ []
def dkwX10_wind_3 : List UInt8 := [180, 0, 186, 29, 46, 54, 4, 29, 2, 160, 0, 18, 42, 180, 2, 62, 62, 42, 89, 180, 2, 62, 4, 96]
abbrev dktX10_wind_3 : List UInt8 := dkwX10_wind_3 ++ dktX10_wind_4
def dkwX10_wind_2 : List UInt8 := [160, 0, 14, 42, 180, 2, 62, 16, 60, 160, 0, 5, 2, 172, 29, 2, 160, 0, 7, 3, 167, 0, 9, 42]
abbrev dktX10_wind_2 : List UInt8 := dkwX10_wind_2 ++ dktX10_wind_3
def dkwX10_wind_1 : List UInt8 := [4, 167, 0, 4, 3, 4, 182, 0, 214, 154, 0, 5, 3, 172, 42, 27, 182, 2, 65, 62, 29, 2]
abbrev dktX10_wind_1 : List UInt8 := dkwX10_wind_1 ++ dktX10_wind_2
def dkwX10_wind_0 : List UInt8 := [42, 3, 181, 0, 1, 42, 42, 27, 182, 2, 49, 153, 0, 17, 28, 3, 16, 12, 184, 0, 210, 153, 0, 7]
abbrev dktX10_wind_0 : List UInt8 := dkwX10_wind_0 ++ dktX10_wind_1
theorem dksX10_wind_0 : cX10_wind.data.toList.drop 0 = dktX10_wind_0 := by decide +kernel
theorem dksX10_wind_1 : cX10_wind.data.toList.drop 24 = dktX10_wind_1 := dk_seg dksX10_wind_0 24 rfl rfl
theorem dksX10_wind_2 : cX10_wind.data.toList.drop 46 = dktX10_wind_2 := dk_seg dksX10_wind_1 22 rfl rfl
theorem dksX10_wind_3 : cX10_wind.data.toList.drop 70 = dktX10_wind_3 := dk_seg dksX10_wind_2 24 rfl rfl
theorem dksX10_wind_4 : cX10_wind.data.toList.drop 94 = dktX10_wind_4 := dk_seg dksX10_wind_3 24 rfl rfl
theorem dX10_wind_0 : decode cX10_wind 0 = .ok (.aload_n 0, 1) := dk_42 (dk_at dksX10_wind_0 0 rfl rfl)
theorem dX10_wind_1 : decode cX10_wind 1 = .ok (.iconst 0, 1) := dk_3 (dk_at dksX10_wind_0 1 rfl rfl)
theorem dX10_wind_2 : decode cX10_wind 2 = .ok (.putfield 1, 3) := dk_181 0 1 (dk_at dksX10_wind_0 2 rfl rfl)
theorem dX10_wind_5 : decode cX10_wind 5 = .ok (.aload_n 0, 1) := dk_42 (dk_at dksX10_wind_0 5 rfl rfl)
theorem dX10_wind_6 : decode cX10_wind 6 = .ok (.aload_n 0, 1) := dk_42 (dk_at dksX10_wind_0 6 rfl rfl)
theorem dX10_wind_7 : decode cX10_wind 7 = .ok (.iload_n 1, 1) := dk_27 (dk_at dksX10_wind_0 7 rfl rfl)
theorem dX10_wind_8 : decode cX10_wind 8 = .ok (.invokevirtual 561, 3) := dk_182 2 49 (dk_at dksX10_wind_0 8 rfl rfl)
theorem dX10_wind_11 : decode cX10_wind 11 = .ok (.ifCond .eq 17, 3) := dk_153 0 17 (dk_at dksX10_wind_0 11 rfl rfl)
theorem dX10_wind_14 : decode cX10_wind 14 = .ok (.iload_n 2, 1) := dk_28 (dk_at dksX10_wind_0 14 rfl rfl)
theorem dX10_wind_15 : decode cX10_wind 15 = .ok (.iconst 0, 1) := dk_3 (dk_at dksX10_wind_0 15 rfl rfl)
theorem dX10_wind_16 : decode cX10_wind 16 = .ok (.bipush 12, 2) := dk_16 12 (dk_at dksX10_wind_0 16 rfl rfl)
theorem dX10_wind_18 : decode cX10_wind 18 = .ok (.invokestatic 210, 3) := dk_184 0 210 (dk_at dksX10_wind_0 18 rfl rfl)
theorem dX10_wind_21 : decode cX10_wind 21 = .ok (.ifCond .eq 7, 3) := dk_153 0 7 (dk_at dksX10_wind_0 21 rfl rfl)
theorem dX10_wind_24 : decode cX10_wind 24 = .ok (.iconst 1, 1) := dk_4 (dk_at dksX10_wind_1 0 rfl rfl)
theorem dX10_wind_25 : decode cX10_wind 25 = .ok (.goto 4, 3) := dk_167 0 4 (dk_at dksX10_wind_1 1 rfl rfl)
theorem dX10_wind_28 : decode cX10_wind 28 = .ok (.iconst 0, 1) := dk_3 (dk_at dksX10_wind_1 4 rfl rfl)
theorem dX10_wind_29 : decode cX10_wind 29 = .ok (.iconst 1, 1) := dk_4 (dk_at dksX10_wind_1 5 rfl rfl)
theorem dX10_wind_30 : decode cX10_wind 30 = .ok (.invokevirtual 214, 3) := dk_182 0 214 (dk_at dksX10_wind_1 6 rfl rfl)
theorem dX10_wind_33 : decode cX10_wind 33 = .ok (.ifCond .ne 5, 3) := dk_154 0 5 (dk_at dksX10_wind_1 9 rfl rfl)
theorem dX10_wind_36 : decode cX10_wind 36 = .ok (.iconst 0, 1) := dk_3 (dk_at dksX10_wind_1 12 rfl rfl)
theorem dX10_wind_37 : decode cX10_wind 37 = .ok (.ireturn, 1) := dk_172 (dk_at dksX10_wind_1 13 rfl rfl)
theorem dX10_wind_38 : decode cX10_wind 38 = .ok (.aload_n 0, 1) := dk_42 (dk_at dksX10_wind_1 14 rfl rfl)
theorem dX10_wind_39 : decode cX10_wind 39 = .ok (.iload_n 1, 1) := dk_27 (dk_at dksX10_wind_1 15 rfl rfl)
theorem dX10_wind_40 : decode cX10_wind 40 = .ok (.invokevirtual 577, 3) := dk_182 2 65 (dk_at dksX10_wind_1 16 rfl rfl)
theorem dX10_wind_43 : decode cX10_wind 43 = .ok (.istore_n 3, 1) := dk_62 (dk_at dksX10_wind_1 19 rfl rfl)
theorem dX10_wind_44 : decode cX10_wind 44 = .ok (.iload_n 3, 1) := dk_29 (dk_at dksX10_wind_1 20 rfl rfl)
theorem dX10_wind_45 : decode cX10_wind 45 = .ok (.iconst (-1), 1) := dk_2 (dk_at dksX10_wind_1 21 rfl rfl)
theorem dX10_wind_46 : decode cX10_wind 46 = .ok (.if_icmp .ne 14, 3) := dk_160 0 14 (dk_at dksX10_wind_2 0 rfl rfl)
theorem dX10_wind_49 : decode cX10_wind 49 = .ok (.aload_n 0, 1) := dk_42 (dk_at dksX10_wind_2 3 rfl rfl)
theorem dX10_wind_50 : decode cX10_wind 50 = .ok (.getfield 574, 3) := dk_180 2 62 (dk_at dksX10_wind_2 4 rfl rfl)
theorem dX10_wind_53 : decode cX10_wind 53 = .ok (.bipush 60, 2) := dk_16 60 (dk_at dksX10_wind_2 7 rfl rfl)
theorem dX10_wind_55 : decode cX10_wind 55 = .ok (.if_icmp .ne 5, 3) := dk_160 0 5 (dk_at dksX10_wind_2 9 rfl rfl)
theorem dX10_wind_58 : decode cX10_wind 58 = .ok (.iconst (-1), 1) := dk_2 (dk_at dksX10_wind_2 12 rfl rfl)
theorem dX10_wind_59 : decode cX10_wind 59 = .ok (.ireturn, 1) := dk_172 (dk_at dksX10_wind_2 13 rfl rfl)
theorem dX10_wind_60 : decode cX10_wind 60 = .ok (.iload_n 3, 1) := dk_29 (dk_at dksX10_wind_2 14 rfl rfl)
theorem dX10_wind_61 : decode cX10_wind 61 = .ok (.iconst (-1), 1) := dk_2 (dk_at dksX10_wind_2 15 rfl rfl)
theorem dX10_wind_62 : decode cX10_wind 62 = .ok (.if_icmp .ne 7, 3) := dk_160 0 7 (dk_at dksX10_wind_2 16 rfl rfl)
theorem dX10_wind_65 : decode cX10_wind 65 = .ok (.iconst 0, 1) := dk_3 (dk_at dksX10_wind_2 19 rfl rfl)
theorem dX10_wind_66 : decode cX10_wind 66 = .ok (.goto 9, 3) := dk_167 0 9 (dk_at dksX10_wind_2 20 rfl rfl)
theorem dX10_wind_69 : decode cX10_wind 69 = .ok (.aload_n 0, 1) := dk_42 (dk_at dksX10_wind_2 23 rfl rfl)
theorem dX10_wind_70 : decode cX10_wind 70 = .ok (.getfield 186, 3) := dk_180 0 186 (dk_at dksX10_wind_3 0 rfl rfl)
theorem dX10_wind_73 : decode cX10_wind 73 = .ok (.iload_n 3, 1) := dk_29 (dk_at dksX10_wind_3 3 rfl rfl)
theorem dX10_wind_74 : decode cX10_wind 74 = .ok (.iaload, 1) := dk_46 (dk_at dksX10_wind_3 4 rfl rfl)
theorem dX10_wind_75 : decode cX10_wind 75 = .ok (.istore 4, 2) := dk_54 4 (dk_at dksX10_wind_3 5 rfl rfl)
theorem dX10_wind_77 : decode cX10_wind 77 = .ok (.iload_n 3, 1) := dk_29 (dk_at dksX10_wind_3 7 rfl rfl)
theorem dX10_wind_78 : decode cX10_wind 78 = .ok (.iconst (-1), 1) := dk_2 (dk_at dksX10_wind_3 8 rfl rfl)
theorem dX10_wind_79 : decode cX10_wind 79 = .ok (.if_icmp .ne 18, 3) := dk_160 0 18 (dk_at dksX10_wind_3 9 rfl rfl)
theorem dX10_wind_82 : decode cX10_wind 82 = .ok (.aload_n 0, 1) := dk_42 (dk_at dksX10_wind_3 12 rfl rfl)
theorem dX10_wind_83 : decode cX10_wind 83 = .ok (.getfield 574, 3) := dk_180 2 62 (dk_at dksX10_wind_3 13 rfl rfl)
theorem dX10_wind_86 : decode cX10_wind 86 = .ok (.istore_n 3, 1) := dk_62 (dk_at dksX10_wind_3 16 rfl rfl)
theorem dX10_wind_87 : decode cX10_wind 87 = .ok (.aload_n 0, 1) := dk_42 (dk_at dksX10_wind_3 17 rfl rfl)
theorem dX10_wind_88 : decode cX10_wind 88 = .ok (.dup, 1) := dk_89 (dk_at dksX10_wind_3 18 rfl rfl)
theorem dX10_wind_89 : decode cX10_wind 89 = .ok (.getfield 574, 3) := dk_180 2 62 (dk_at dksX10_wind_3 19 rfl rfl)
theorem dX10_wind_92 : decode cX10_wind 92 = .ok (.iconst 1, 1) := dk_4 (dk_at dksX10_wind_3 22 rfl rfl)
theorem dX10_wind_93 : decode cX10_wind 93 = .ok (.iadd, 1) := dk_96 (dk_at dksX10_wind_3 23 rfl rfl)
theorem dX10_wind_94 : decode cX10_wind 94 = .ok (.putfield 574, 3) := dk_181 2 62 (dk_at dksX10_wind_4 0 rfl rfl)
theorem dX10_wind_97 : decode cX10_wind 97 = .ok (.aload_n 0, 1) := dk_42 (dk_at dksX10_wind_4 3 rfl rfl)
theorem dX10_wind_98 : decode cX10_wind 98 = .ok (.getfield 183, 3) := dk_180 0 183 (dk_at dksX10_wind_4 4 rfl rfl)
theorem dX10_wind_101 : decode cX10_wind 101 = .ok (.iload_n 3, 1) := dk_29 (dk_at dksX10_wind_4 7 rfl rfl)
theorem dX10_wind_102 : decode cX10_wind 102 = .ok (.iload_n 1, 1) := dk_27 (dk_at dksX10_wind_4 8 rfl rfl)
theorem dX10_wind_103 : decode cX10_wind 103 = .ok (.iastore, 1) := dk_79 (dk_at dksX10_wind_4 9 rfl rfl)
theorem dX10_wind_104 : decode cX10_wind 104 = .ok (.aload_n 0, 1) := dk_42 (dk_at dksX10_wind_4 10 rfl rfl)
theorem dX10_wind_105 : decode cX10_wind 105 = .ok (.getfield 186, 3) := dk_180 0 186 (dk_at dksX10_wind_4 11 rfl rfl)
theorem dX10_wind_108 : decode cX10_wind 108 = .ok (.iload_n 3, 1) := dk_29 (dk_at dksX10_wind_4 14 rfl rfl)
theorem dX10_wind_109 : decode cX10_wind 109 = .ok (.iload_n 2, 1) := dk_28 (dk_at dksX10_wind_4 15 rfl rfl)
theorem dX10_wind_110 : decode cX10_wind 110 = .ok (.iastore, 1) := dk_79 (dk_at dksX10_wind_4 16 rfl rfl)
theorem dX10_wind_111 : decode cX10_wind 111 = .ok (.iload 4, 2) := dk_21 4 (dk_at dksX10_wind_4 17 rfl rfl)
theorem dX10_wind_113 : decode cX10_wind 113 = .ok (.ireturn, 1) := dk_172 (dk_at dksX10_wind_4 19 rfl rfl)
def dkwX10_windAt_1 : List UInt8 := [132, 2, 1, 167, 255, 233, 2, 172]
abbrev dktX10_windAt_1 : List UInt8 := dkwX10_windAt_1 ++ []
def dkwX10_windAt_0 : List UInt8 := [3, 61, 28, 42, 180, 2, 62, 162, 0, 21, 42, 180, 0, 183, 28, 46, 27, 160, 0, 5, 28, 172]
abbrev dktX10_windAt_0 : List UInt8 := dkwX10_windAt_0 ++ dktX10_windAt_1
theorem dksX10_windAt_0 : cX10_windAt.data.toList.drop 0 = dktX10_windAt_0 := by decide +kernel
theorem dksX10_windAt_1 : cX10_windAt.data.toList.drop 22 = dktX10_windAt_1 := dk_seg dksX10_windAt_0 22 rfl rfl
theorem dX10_windAt_0 : decode cX10_windAt 0 = .ok (.iconst 0, 1) := dk_3 (dk_at dksX10_windAt_0 0 rfl rfl)
theorem dX10_windAt_1 : decode cX10_windAt 1 = .ok (.istore_n 2, 1) := dk_61 (dk_at dksX10_windAt_0 1 rfl rfl)
theorem dX10_windAt_2 : decode cX10_windAt 2 = .ok (.iload_n 2, 1) := dk_28 (dk_at dksX10_windAt_0 2 rfl rfl)
theorem dX10_windAt_3 : decode cX10_windAt 3 = .ok (.aload_n 0, 1) := dk_42 (dk_at dksX10_windAt_0 3 rfl rfl)
theorem dX10_windAt_4 : decode cX10_windAt 4 = .ok (.getfield 574, 3) := dk_180 2 62 (dk_at dksX10_windAt_0 4 rfl rfl)
theorem dX10_windAt_7 : decode cX10_windAt 7 = .ok (.if_icmp .ge 21, 3) := dk_162 0 21 (dk_at dksX10_windAt_0 7 rfl rfl)
theorem dX10_windAt_10 : decode cX10_windAt 10 = .ok (.aload_n 0, 1) := dk_42 (dk_at dksX10_windAt_0 10 rfl rfl)
theorem dX10_windAt_11 : decode cX10_windAt 11 = .ok (.getfield 183, 3) := dk_180 0 183 (dk_at dksX10_windAt_0 11 rfl rfl)
theorem dX10_windAt_14 : decode cX10_windAt 14 = .ok (.iload_n 2, 1) := dk_28 (dk_at dksX10_windAt_0 14 rfl rfl)
theorem dX10_windAt_15 : decode cX10_windAt 15 = .ok (.iaload, 1) := dk_46 (dk_at dksX10_windAt_0 15 rfl rfl)
theorem dX10_windAt_16 : decode cX10_windAt 16 = .ok (.iload_n 1, 1) := dk_27 (dk_at dksX10_windAt_0 16 rfl rfl)
theorem dX10_windAt_17 : decode cX10_windAt 17 = .ok (.if_icmp .ne 5, 3) := dk_160 0 5 (dk_at dksX10_windAt_0 17 rfl rfl)
theorem dX10_windAt_20 : decode cX10_windAt 20 = .ok (.iload_n 2, 1) := dk_28 (dk_at dksX10_windAt_0 20 rfl rfl)
theorem dX10_windAt_21 : decode cX10_windAt 21 = .ok (.ireturn, 1) := dk_172 (dk_at dksX10_windAt_0 21 rfl rfl)
theorem dX10_windAt_22 : decode cX10_windAt 22 = .ok (.iinc 2 1, 3) := dk_132 2 1 (dk_at dksX10_windAt_1 0 rfl rfl)
theorem dX10_windAt_25 : decode cX10_windAt 25 = .ok (.goto (-23), 3) := dk_167 255 233 (dk_at dksX10_windAt_1 3 rfl rfl)
theorem dX10_windAt_28 : decode cX10_windAt 28 = .ok (.iconst (-1), 1) := dk_2 (dk_at dksX10_windAt_1 6 rfl rfl)
theorem dX10_windAt_29 : decode cX10_windAt 29 = .ok (.ireturn, 1) := dk_172 (dk_at dksX10_windAt_1 7 rfl rfl)
def dkwX10_trip_3 : List UInt8 := [180, 2, 68, 4, 96, 181, 2, 68, 42, 180, 2, 68, 4, 100, 172]
abbrev dktX10_trip_3 : List UInt8 := dkwX10_trip_3 ++ []
def dkwX10_trip_2 : List UInt8 := [2, 172, 42, 180, 0, 189, 42, 180, 2, 68, 27, 79, 42, 180, 0, 192, 42, 180, 2, 68, 28, 79, 42, 89]
abbrev dktX10_trip_2 : List UInt8 := dkwX10_trip_2 ++ dktX10_trip_3
def dkwX10_trip_1 : List UInt8 := [42, 42, 28, 182, 2, 49, 5, 182, 0, 214, 154, 0, 5, 3, 172, 42, 180, 2, 68, 16, 60, 160, 0, 5]
abbrev dktX10_trip_1 : List UInt8 := dkwX10_trip_1 ++ dktX10_trip_2
def dkwX10_trip_0 : List UInt8 := [42, 3, 181, 0, 1, 42, 27, 3, 42, 180, 2, 59, 4, 100, 184, 0, 210, 4, 182, 0, 214, 153, 0, 16]
abbrev dktX10_trip_0 : List UInt8 := dkwX10_trip_0 ++ dktX10_trip_1
theorem dksX10_trip_0 : cX10_trip.data.toList.drop 0 = dktX10_trip_0 := by decide +kernel
theorem dksX10_trip_1 : cX10_trip.data.toList.drop 24 = dktX10_trip_1 := dk_seg dksX10_trip_0 24 rfl rfl
theorem dksX10_trip_2 : cX10_trip.data.toList.drop 48 = dktX10_trip_2 := dk_seg dksX10_trip_1 24 rfl rfl
theorem dksX10_trip_3 : cX10_trip.data.toList.drop 72 = dktX10_trip_3 := dk_seg dksX10_trip_2 24 rfl rfl
theorem dX10_trip_0 : decode cX10_trip 0 = .ok (.aload_n 0, 1) := dk_42 (dk_at dksX10_trip_0 0 rfl rfl)
theorem dX10_trip_1 : decode cX10_trip 1 = .ok (.iconst 0, 1) := dk_3 (dk_at dksX10_trip_0 1 rfl rfl)
theorem dX10_trip_2 : decode cX10_trip 2 = .ok (.putfield 1, 3) := dk_181 0 1 (dk_at dksX10_trip_0 2 rfl rfl)
theorem dX10_trip_5 : decode cX10_trip 5 = .ok (.aload_n 0, 1) := dk_42 (dk_at dksX10_trip_0 5 rfl rfl)
theorem dX10_trip_6 : decode cX10_trip 6 = .ok (.iload_n 1, 1) := dk_27 (dk_at dksX10_trip_0 6 rfl rfl)
theorem dX10_trip_7 : decode cX10_trip 7 = .ok (.iconst 0, 1) := dk_3 (dk_at dksX10_trip_0 7 rfl rfl)
theorem dX10_trip_8 : decode cX10_trip 8 = .ok (.aload_n 0, 1) := dk_42 (dk_at dksX10_trip_0 8 rfl rfl)
theorem dX10_trip_9 : decode cX10_trip 9 = .ok (.getfield 571, 3) := dk_180 2 59 (dk_at dksX10_trip_0 9 rfl rfl)
theorem dX10_trip_12 : decode cX10_trip 12 = .ok (.iconst 1, 1) := dk_4 (dk_at dksX10_trip_0 12 rfl rfl)
theorem dX10_trip_13 : decode cX10_trip 13 = .ok (.isub, 1) := dk_100 (dk_at dksX10_trip_0 13 rfl rfl)
theorem dX10_trip_14 : decode cX10_trip 14 = .ok (.invokestatic 210, 3) := dk_184 0 210 (dk_at dksX10_trip_0 14 rfl rfl)
theorem dX10_trip_17 : decode cX10_trip 17 = .ok (.iconst 1, 1) := dk_4 (dk_at dksX10_trip_0 17 rfl rfl)
theorem dX10_trip_18 : decode cX10_trip 18 = .ok (.invokevirtual 214, 3) := dk_182 0 214 (dk_at dksX10_trip_0 18 rfl rfl)
theorem dX10_trip_21 : decode cX10_trip 21 = .ok (.ifCond .eq 16, 3) := dk_153 0 16 (dk_at dksX10_trip_0 21 rfl rfl)
theorem dX10_trip_24 : decode cX10_trip 24 = .ok (.aload_n 0, 1) := dk_42 (dk_at dksX10_trip_1 0 rfl rfl)
theorem dX10_trip_25 : decode cX10_trip 25 = .ok (.aload_n 0, 1) := dk_42 (dk_at dksX10_trip_1 1 rfl rfl)
theorem dX10_trip_26 : decode cX10_trip 26 = .ok (.iload_n 2, 1) := dk_28 (dk_at dksX10_trip_1 2 rfl rfl)
theorem dX10_trip_27 : decode cX10_trip 27 = .ok (.invokevirtual 561, 3) := dk_182 2 49 (dk_at dksX10_trip_1 3 rfl rfl)
theorem dX10_trip_30 : decode cX10_trip 30 = .ok (.iconst 2, 1) := dk_5 (dk_at dksX10_trip_1 6 rfl rfl)
theorem dX10_trip_31 : decode cX10_trip 31 = .ok (.invokevirtual 214, 3) := dk_182 0 214 (dk_at dksX10_trip_1 7 rfl rfl)
theorem dX10_trip_34 : decode cX10_trip 34 = .ok (.ifCond .ne 5, 3) := dk_154 0 5 (dk_at dksX10_trip_1 10 rfl rfl)
theorem dX10_trip_37 : decode cX10_trip 37 = .ok (.iconst 0, 1) := dk_3 (dk_at dksX10_trip_1 13 rfl rfl)
theorem dX10_trip_38 : decode cX10_trip 38 = .ok (.ireturn, 1) := dk_172 (dk_at dksX10_trip_1 14 rfl rfl)
theorem dX10_trip_39 : decode cX10_trip 39 = .ok (.aload_n 0, 1) := dk_42 (dk_at dksX10_trip_1 15 rfl rfl)
theorem dX10_trip_40 : decode cX10_trip 40 = .ok (.getfield 580, 3) := dk_180 2 68 (dk_at dksX10_trip_1 16 rfl rfl)
theorem dX10_trip_43 : decode cX10_trip 43 = .ok (.bipush 60, 2) := dk_16 60 (dk_at dksX10_trip_1 19 rfl rfl)
theorem dX10_trip_45 : decode cX10_trip 45 = .ok (.if_icmp .ne 5, 3) := dk_160 0 5 (dk_at dksX10_trip_1 21 rfl rfl)
theorem dX10_trip_48 : decode cX10_trip 48 = .ok (.iconst (-1), 1) := dk_2 (dk_at dksX10_trip_2 0 rfl rfl)
theorem dX10_trip_49 : decode cX10_trip 49 = .ok (.ireturn, 1) := dk_172 (dk_at dksX10_trip_2 1 rfl rfl)
theorem dX10_trip_50 : decode cX10_trip 50 = .ok (.aload_n 0, 1) := dk_42 (dk_at dksX10_trip_2 2 rfl rfl)
theorem dX10_trip_51 : decode cX10_trip 51 = .ok (.getfield 189, 3) := dk_180 0 189 (dk_at dksX10_trip_2 3 rfl rfl)
theorem dX10_trip_54 : decode cX10_trip 54 = .ok (.aload_n 0, 1) := dk_42 (dk_at dksX10_trip_2 6 rfl rfl)
theorem dX10_trip_55 : decode cX10_trip 55 = .ok (.getfield 580, 3) := dk_180 2 68 (dk_at dksX10_trip_2 7 rfl rfl)
theorem dX10_trip_58 : decode cX10_trip 58 = .ok (.iload_n 1, 1) := dk_27 (dk_at dksX10_trip_2 10 rfl rfl)
theorem dX10_trip_59 : decode cX10_trip 59 = .ok (.iastore, 1) := dk_79 (dk_at dksX10_trip_2 11 rfl rfl)
theorem dX10_trip_60 : decode cX10_trip 60 = .ok (.aload_n 0, 1) := dk_42 (dk_at dksX10_trip_2 12 rfl rfl)
theorem dX10_trip_61 : decode cX10_trip 61 = .ok (.getfield 192, 3) := dk_180 0 192 (dk_at dksX10_trip_2 13 rfl rfl)
theorem dX10_trip_64 : decode cX10_trip 64 = .ok (.aload_n 0, 1) := dk_42 (dk_at dksX10_trip_2 16 rfl rfl)
theorem dX10_trip_65 : decode cX10_trip 65 = .ok (.getfield 580, 3) := dk_180 2 68 (dk_at dksX10_trip_2 17 rfl rfl)
theorem dX10_trip_68 : decode cX10_trip 68 = .ok (.iload_n 2, 1) := dk_28 (dk_at dksX10_trip_2 20 rfl rfl)
theorem dX10_trip_69 : decode cX10_trip 69 = .ok (.iastore, 1) := dk_79 (dk_at dksX10_trip_2 21 rfl rfl)
theorem dX10_trip_70 : decode cX10_trip 70 = .ok (.aload_n 0, 1) := dk_42 (dk_at dksX10_trip_2 22 rfl rfl)
theorem dX10_trip_71 : decode cX10_trip 71 = .ok (.dup, 1) := dk_89 (dk_at dksX10_trip_2 23 rfl rfl)
theorem dX10_trip_72 : decode cX10_trip 72 = .ok (.getfield 580, 3) := dk_180 2 68 (dk_at dksX10_trip_3 0 rfl rfl)
theorem dX10_trip_75 : decode cX10_trip 75 = .ok (.iconst 1, 1) := dk_4 (dk_at dksX10_trip_3 3 rfl rfl)
theorem dX10_trip_76 : decode cX10_trip 76 = .ok (.iadd, 1) := dk_96 (dk_at dksX10_trip_3 4 rfl rfl)
theorem dX10_trip_77 : decode cX10_trip 77 = .ok (.putfield 580, 3) := dk_181 2 68 (dk_at dksX10_trip_3 5 rfl rfl)
theorem dX10_trip_80 : decode cX10_trip 80 = .ok (.aload_n 0, 1) := dk_42 (dk_at dksX10_trip_3 8 rfl rfl)
theorem dX10_trip_81 : decode cX10_trip 81 = .ok (.getfield 580, 3) := dk_180 2 68 (dk_at dksX10_trip_3 9 rfl rfl)
theorem dX10_trip_84 : decode cX10_trip 84 = .ok (.iconst 1, 1) := dk_4 (dk_at dksX10_trip_3 12 rfl rfl)
theorem dX10_trip_85 : decode cX10_trip 85 = .ok (.isub, 1) := dk_100 (dk_at dksX10_trip_3 13 rfl rfl)
theorem dX10_trip_86 : decode cX10_trip 86 = .ok (.ireturn, 1) := dk_172 (dk_at dksX10_trip_3 14 rfl rfl)
def dkwX10_cause_1 : List UInt8 := [3, 172, 42, 27, 182, 2, 71, 172]
abbrev dktX10_cause_1 : List UInt8 := dkwX10_cause_1 ++ []
def dkwX10_cause_0 : List UInt8 := [42, 3, 181, 0, 1, 42, 27, 3, 42, 180, 2, 68, 4, 100, 184, 0, 210, 4, 182, 0, 214, 154, 0, 5]
abbrev dktX10_cause_0 : List UInt8 := dkwX10_cause_0 ++ dktX10_cause_1
theorem dksX10_cause_0 : cX10_cause.data.toList.drop 0 = dktX10_cause_0 := by decide +kernel
theorem dksX10_cause_1 : cX10_cause.data.toList.drop 24 = dktX10_cause_1 := dk_seg dksX10_cause_0 24 rfl rfl
theorem dX10_cause_0 : decode cX10_cause 0 = .ok (.aload_n 0, 1) := dk_42 (dk_at dksX10_cause_0 0 rfl rfl)
theorem dX10_cause_1 : decode cX10_cause 1 = .ok (.iconst 0, 1) := dk_3 (dk_at dksX10_cause_0 1 rfl rfl)
theorem dX10_cause_2 : decode cX10_cause 2 = .ok (.putfield 1, 3) := dk_181 0 1 (dk_at dksX10_cause_0 2 rfl rfl)
theorem dX10_cause_5 : decode cX10_cause 5 = .ok (.aload_n 0, 1) := dk_42 (dk_at dksX10_cause_0 5 rfl rfl)
theorem dX10_cause_6 : decode cX10_cause 6 = .ok (.iload_n 1, 1) := dk_27 (dk_at dksX10_cause_0 6 rfl rfl)
theorem dX10_cause_7 : decode cX10_cause 7 = .ok (.iconst 0, 1) := dk_3 (dk_at dksX10_cause_0 7 rfl rfl)
theorem dX10_cause_8 : decode cX10_cause 8 = .ok (.aload_n 0, 1) := dk_42 (dk_at dksX10_cause_0 8 rfl rfl)
theorem dX10_cause_9 : decode cX10_cause 9 = .ok (.getfield 580, 3) := dk_180 2 68 (dk_at dksX10_cause_0 9 rfl rfl)
theorem dX10_cause_12 : decode cX10_cause 12 = .ok (.iconst 1, 1) := dk_4 (dk_at dksX10_cause_0 12 rfl rfl)
theorem dX10_cause_13 : decode cX10_cause 13 = .ok (.isub, 1) := dk_100 (dk_at dksX10_cause_0 13 rfl rfl)
theorem dX10_cause_14 : decode cX10_cause 14 = .ok (.invokestatic 210, 3) := dk_184 0 210 (dk_at dksX10_cause_0 14 rfl rfl)
theorem dX10_cause_17 : decode cX10_cause 17 = .ok (.iconst 1, 1) := dk_4 (dk_at dksX10_cause_0 17 rfl rfl)
theorem dX10_cause_18 : decode cX10_cause 18 = .ok (.invokevirtual 214, 3) := dk_182 0 214 (dk_at dksX10_cause_0 18 rfl rfl)
theorem dX10_cause_21 : decode cX10_cause 21 = .ok (.ifCond .ne 5, 3) := dk_154 0 5 (dk_at dksX10_cause_0 21 rfl rfl)
theorem dX10_cause_24 : decode cX10_cause 24 = .ok (.iconst 0, 1) := dk_3 (dk_at dksX10_cause_1 0 rfl rfl)
theorem dX10_cause_25 : decode cX10_cause 25 = .ok (.ireturn, 1) := dk_172 (dk_at dksX10_cause_1 1 rfl rfl)
theorem dX10_cause_26 : decode cX10_cause 26 = .ok (.aload_n 0, 1) := dk_42 (dk_at dksX10_cause_1 2 rfl rfl)
theorem dX10_cause_27 : decode cX10_cause 27 = .ok (.iload_n 1, 1) := dk_27 (dk_at dksX10_cause_1 3 rfl rfl)
theorem dX10_cause_28 : decode cX10_cause 28 = .ok (.invokevirtual 583, 3) := dk_182 2 71 (dk_at dksX10_cause_1 4 rfl rfl)
theorem dX10_cause_31 : decode cX10_cause 31 = .ok (.ireturn, 1) := dk_172 (dk_at dksX10_cause_1 7 rfl rfl)
def dkwX10_causeOf_5 : List UInt8 := [3, 21, 5, 42, 180, 0, 180, 28, 46, 161, 0, 7, 5, 167, 0, 4, 3, 96, 172]
abbrev dktX10_causeOf_5 : List UInt8 := dkwX10_causeOf_5 ++ []
def dkwX10_causeOf_4 : List UInt8 := [160, 0, 7, 3, 167, 0, 10, 42, 180, 0, 186, 21, 4, 46, 54, 5, 29, 153, 0, 7, 4, 167, 0, 4]
abbrev dktX10_causeOf_4 : List UInt8 := dkwX10_causeOf_4 ++ dktX10_causeOf_5
def dkwX10_causeOf_3 : List UInt8 := [62, 132, 4, 1, 167, 255, 194, 42, 42, 180, 0, 192, 27, 46, 182, 2, 65, 54, 4, 21, 4, 2]
abbrev dktX10_causeOf_3 : List UInt8 := dkwX10_causeOf_3 ++ dktX10_causeOf_4
def dkwX10_causeOf_2 : List UInt8 := [46, 51, 154, 0, 17, 42, 180, 0, 171, 42, 180, 0, 177, 28, 46, 51, 153, 0, 7, 4, 167, 0, 4, 3]
abbrev dktX10_causeOf_2 : List UInt8 := dkwX10_causeOf_2 ++ dktX10_causeOf_3
def dkwX10_causeOf_1 : List UInt8 := [154, 0, 55, 42, 21, 4, 42, 180, 0, 192, 27, 46, 182, 2, 56, 42, 180, 0, 171, 42, 180, 0, 174, 28]
abbrev dktX10_causeOf_1 : List UInt8 := dkwX10_causeOf_1 ++ dktX10_causeOf_2
def dkwX10_causeOf_0 : List UInt8 := [42, 180, 0, 189, 27, 46, 61, 3, 62, 3, 54, 4, 21, 4, 42, 180, 0, 225, 162, 0, 59, 29]
abbrev dktX10_causeOf_0 : List UInt8 := dkwX10_causeOf_0 ++ dktX10_causeOf_1
theorem dksX10_causeOf_0 : cX10_causeOf.data.toList.drop 0 = dktX10_causeOf_0 := by decide +kernel
theorem dksX10_causeOf_1 : cX10_causeOf.data.toList.drop 22 = dktX10_causeOf_1 := dk_seg dksX10_causeOf_0 22 rfl rfl
theorem dksX10_causeOf_2 : cX10_causeOf.data.toList.drop 46 = dktX10_causeOf_2 := dk_seg dksX10_causeOf_1 24 rfl rfl
theorem dksX10_causeOf_3 : cX10_causeOf.data.toList.drop 70 = dktX10_causeOf_3 := dk_seg dksX10_causeOf_2 24 rfl rfl
theorem dksX10_causeOf_4 : cX10_causeOf.data.toList.drop 92 = dktX10_causeOf_4 := dk_seg dksX10_causeOf_3 22 rfl rfl
theorem dksX10_causeOf_5 : cX10_causeOf.data.toList.drop 116 = dktX10_causeOf_5 := dk_seg dksX10_causeOf_4 24 rfl rfl
theorem dX10_causeOf_0 : decode cX10_causeOf 0 = .ok (.aload_n 0, 1) := dk_42 (dk_at dksX10_causeOf_0 0 rfl rfl)
theorem dX10_causeOf_1 : decode cX10_causeOf 1 = .ok (.getfield 189, 3) := dk_180 0 189 (dk_at dksX10_causeOf_0 1 rfl rfl)
theorem dX10_causeOf_4 : decode cX10_causeOf 4 = .ok (.iload_n 1, 1) := dk_27 (dk_at dksX10_causeOf_0 4 rfl rfl)
theorem dX10_causeOf_5 : decode cX10_causeOf 5 = .ok (.iaload, 1) := dk_46 (dk_at dksX10_causeOf_0 5 rfl rfl)
theorem dX10_causeOf_6 : decode cX10_causeOf 6 = .ok (.istore_n 2, 1) := dk_61 (dk_at dksX10_causeOf_0 6 rfl rfl)
theorem dX10_causeOf_7 : decode cX10_causeOf 7 = .ok (.iconst 0, 1) := dk_3 (dk_at dksX10_causeOf_0 7 rfl rfl)
theorem dX10_causeOf_8 : decode cX10_causeOf 8 = .ok (.istore_n 3, 1) := dk_62 (dk_at dksX10_causeOf_0 8 rfl rfl)
theorem dX10_causeOf_9 : decode cX10_causeOf 9 = .ok (.iconst 0, 1) := dk_3 (dk_at dksX10_causeOf_0 9 rfl rfl)
theorem dX10_causeOf_10 : decode cX10_causeOf 10 = .ok (.istore 4, 2) := dk_54 4 (dk_at dksX10_causeOf_0 10 rfl rfl)
theorem dX10_causeOf_12 : decode cX10_causeOf 12 = .ok (.iload 4, 2) := dk_21 4 (dk_at dksX10_causeOf_0 12 rfl rfl)
theorem dX10_causeOf_14 : decode cX10_causeOf 14 = .ok (.aload_n 0, 1) := dk_42 (dk_at dksX10_causeOf_0 14 rfl rfl)
theorem dX10_causeOf_15 : decode cX10_causeOf 15 = .ok (.getfield 225, 3) := dk_180 0 225 (dk_at dksX10_causeOf_0 15 rfl rfl)
theorem dX10_causeOf_18 : decode cX10_causeOf 18 = .ok (.if_icmp .ge 59, 3) := dk_162 0 59 (dk_at dksX10_causeOf_0 18 rfl rfl)
theorem dX10_causeOf_21 : decode cX10_causeOf 21 = .ok (.iload_n 3, 1) := dk_29 (dk_at dksX10_causeOf_0 21 rfl rfl)
theorem dX10_causeOf_22 : decode cX10_causeOf 22 = .ok (.ifCond .ne 55, 3) := dk_154 0 55 (dk_at dksX10_causeOf_1 0 rfl rfl)
theorem dX10_causeOf_25 : decode cX10_causeOf 25 = .ok (.aload_n 0, 1) := dk_42 (dk_at dksX10_causeOf_1 3 rfl rfl)
theorem dX10_causeOf_26 : decode cX10_causeOf 26 = .ok (.iload 4, 2) := dk_21 4 (dk_at dksX10_causeOf_1 4 rfl rfl)
theorem dX10_causeOf_28 : decode cX10_causeOf 28 = .ok (.aload_n 0, 1) := dk_42 (dk_at dksX10_causeOf_1 6 rfl rfl)
theorem dX10_causeOf_29 : decode cX10_causeOf 29 = .ok (.getfield 192, 3) := dk_180 0 192 (dk_at dksX10_causeOf_1 7 rfl rfl)
theorem dX10_causeOf_32 : decode cX10_causeOf 32 = .ok (.iload_n 1, 1) := dk_27 (dk_at dksX10_causeOf_1 10 rfl rfl)
theorem dX10_causeOf_33 : decode cX10_causeOf 33 = .ok (.iaload, 1) := dk_46 (dk_at dksX10_causeOf_1 11 rfl rfl)
theorem dX10_causeOf_34 : decode cX10_causeOf 34 = .ok (.invokevirtual 568, 3) := dk_182 2 56 (dk_at dksX10_causeOf_1 12 rfl rfl)
theorem dX10_causeOf_37 : decode cX10_causeOf 37 = .ok (.aload_n 0, 1) := dk_42 (dk_at dksX10_causeOf_1 15 rfl rfl)
theorem dX10_causeOf_38 : decode cX10_causeOf 38 = .ok (.getfield 171, 3) := dk_180 0 171 (dk_at dksX10_causeOf_1 16 rfl rfl)
theorem dX10_causeOf_41 : decode cX10_causeOf 41 = .ok (.aload_n 0, 1) := dk_42 (dk_at dksX10_causeOf_1 19 rfl rfl)
theorem dX10_causeOf_42 : decode cX10_causeOf 42 = .ok (.getfield 174, 3) := dk_180 0 174 (dk_at dksX10_causeOf_1 20 rfl rfl)
theorem dX10_causeOf_45 : decode cX10_causeOf 45 = .ok (.iload_n 2, 1) := dk_28 (dk_at dksX10_causeOf_1 23 rfl rfl)
theorem dX10_causeOf_46 : decode cX10_causeOf 46 = .ok (.iaload, 1) := dk_46 (dk_at dksX10_causeOf_2 0 rfl rfl)
theorem dX10_causeOf_47 : decode cX10_causeOf 47 = .ok (.baload, 1) := dk_51 (dk_at dksX10_causeOf_2 1 rfl rfl)
theorem dX10_causeOf_48 : decode cX10_causeOf 48 = .ok (.ifCond .ne 17, 3) := dk_154 0 17 (dk_at dksX10_causeOf_2 2 rfl rfl)
theorem dX10_causeOf_51 : decode cX10_causeOf 51 = .ok (.aload_n 0, 1) := dk_42 (dk_at dksX10_causeOf_2 5 rfl rfl)
theorem dX10_causeOf_52 : decode cX10_causeOf 52 = .ok (.getfield 171, 3) := dk_180 0 171 (dk_at dksX10_causeOf_2 6 rfl rfl)
theorem dX10_causeOf_55 : decode cX10_causeOf 55 = .ok (.aload_n 0, 1) := dk_42 (dk_at dksX10_causeOf_2 9 rfl rfl)
theorem dX10_causeOf_56 : decode cX10_causeOf 56 = .ok (.getfield 177, 3) := dk_180 0 177 (dk_at dksX10_causeOf_2 10 rfl rfl)
theorem dX10_causeOf_59 : decode cX10_causeOf 59 = .ok (.iload_n 2, 1) := dk_28 (dk_at dksX10_causeOf_2 13 rfl rfl)
theorem dX10_causeOf_60 : decode cX10_causeOf 60 = .ok (.iaload, 1) := dk_46 (dk_at dksX10_causeOf_2 14 rfl rfl)
theorem dX10_causeOf_61 : decode cX10_causeOf 61 = .ok (.baload, 1) := dk_51 (dk_at dksX10_causeOf_2 15 rfl rfl)
theorem dX10_causeOf_62 : decode cX10_causeOf 62 = .ok (.ifCond .eq 7, 3) := dk_153 0 7 (dk_at dksX10_causeOf_2 16 rfl rfl)
theorem dX10_causeOf_65 : decode cX10_causeOf 65 = .ok (.iconst 1, 1) := dk_4 (dk_at dksX10_causeOf_2 19 rfl rfl)
theorem dX10_causeOf_66 : decode cX10_causeOf 66 = .ok (.goto 4, 3) := dk_167 0 4 (dk_at dksX10_causeOf_2 20 rfl rfl)
theorem dX10_causeOf_69 : decode cX10_causeOf 69 = .ok (.iconst 0, 1) := dk_3 (dk_at dksX10_causeOf_2 23 rfl rfl)
theorem dX10_causeOf_70 : decode cX10_causeOf 70 = .ok (.istore_n 3, 1) := dk_62 (dk_at dksX10_causeOf_3 0 rfl rfl)
theorem dX10_causeOf_71 : decode cX10_causeOf 71 = .ok (.iinc 4 1, 3) := dk_132 4 1 (dk_at dksX10_causeOf_3 1 rfl rfl)
theorem dX10_causeOf_74 : decode cX10_causeOf 74 = .ok (.goto (-62), 3) := dk_167 255 194 (dk_at dksX10_causeOf_3 4 rfl rfl)
theorem dX10_causeOf_77 : decode cX10_causeOf 77 = .ok (.aload_n 0, 1) := dk_42 (dk_at dksX10_causeOf_3 7 rfl rfl)
theorem dX10_causeOf_78 : decode cX10_causeOf 78 = .ok (.aload_n 0, 1) := dk_42 (dk_at dksX10_causeOf_3 8 rfl rfl)
theorem dX10_causeOf_79 : decode cX10_causeOf 79 = .ok (.getfield 192, 3) := dk_180 0 192 (dk_at dksX10_causeOf_3 9 rfl rfl)
theorem dX10_causeOf_82 : decode cX10_causeOf 82 = .ok (.iload_n 1, 1) := dk_27 (dk_at dksX10_causeOf_3 12 rfl rfl)
theorem dX10_causeOf_83 : decode cX10_causeOf 83 = .ok (.iaload, 1) := dk_46 (dk_at dksX10_causeOf_3 13 rfl rfl)
theorem dX10_causeOf_84 : decode cX10_causeOf 84 = .ok (.invokevirtual 577, 3) := dk_182 2 65 (dk_at dksX10_causeOf_3 14 rfl rfl)
theorem dX10_causeOf_87 : decode cX10_causeOf 87 = .ok (.istore 4, 2) := dk_54 4 (dk_at dksX10_causeOf_3 17 rfl rfl)
theorem dX10_causeOf_89 : decode cX10_causeOf 89 = .ok (.iload 4, 2) := dk_21 4 (dk_at dksX10_causeOf_3 19 rfl rfl)
theorem dX10_causeOf_91 : decode cX10_causeOf 91 = .ok (.iconst (-1), 1) := dk_2 (dk_at dksX10_causeOf_3 21 rfl rfl)
theorem dX10_causeOf_92 : decode cX10_causeOf 92 = .ok (.if_icmp .ne 7, 3) := dk_160 0 7 (dk_at dksX10_causeOf_4 0 rfl rfl)
theorem dX10_causeOf_95 : decode cX10_causeOf 95 = .ok (.iconst 0, 1) := dk_3 (dk_at dksX10_causeOf_4 3 rfl rfl)
theorem dX10_causeOf_96 : decode cX10_causeOf 96 = .ok (.goto 10, 3) := dk_167 0 10 (dk_at dksX10_causeOf_4 4 rfl rfl)
theorem dX10_causeOf_99 : decode cX10_causeOf 99 = .ok (.aload_n 0, 1) := dk_42 (dk_at dksX10_causeOf_4 7 rfl rfl)
theorem dX10_causeOf_100 : decode cX10_causeOf 100 = .ok (.getfield 186, 3) := dk_180 0 186 (dk_at dksX10_causeOf_4 8 rfl rfl)
theorem dX10_causeOf_103 : decode cX10_causeOf 103 = .ok (.iload 4, 2) := dk_21 4 (dk_at dksX10_causeOf_4 11 rfl rfl)
theorem dX10_causeOf_105 : decode cX10_causeOf 105 = .ok (.iaload, 1) := dk_46 (dk_at dksX10_causeOf_4 13 rfl rfl)
theorem dX10_causeOf_106 : decode cX10_causeOf 106 = .ok (.istore 5, 2) := dk_54 5 (dk_at dksX10_causeOf_4 14 rfl rfl)
theorem dX10_causeOf_108 : decode cX10_causeOf 108 = .ok (.iload_n 3, 1) := dk_29 (dk_at dksX10_causeOf_4 16 rfl rfl)
theorem dX10_causeOf_109 : decode cX10_causeOf 109 = .ok (.ifCond .eq 7, 3) := dk_153 0 7 (dk_at dksX10_causeOf_4 17 rfl rfl)
theorem dX10_causeOf_112 : decode cX10_causeOf 112 = .ok (.iconst 1, 1) := dk_4 (dk_at dksX10_causeOf_4 20 rfl rfl)
theorem dX10_causeOf_113 : decode cX10_causeOf 113 = .ok (.goto 4, 3) := dk_167 0 4 (dk_at dksX10_causeOf_4 21 rfl rfl)
theorem dX10_causeOf_116 : decode cX10_causeOf 116 = .ok (.iconst 0, 1) := dk_3 (dk_at dksX10_causeOf_5 0 rfl rfl)
theorem dX10_causeOf_117 : decode cX10_causeOf 117 = .ok (.iload 5, 2) := dk_21 5 (dk_at dksX10_causeOf_5 1 rfl rfl)
theorem dX10_causeOf_119 : decode cX10_causeOf 119 = .ok (.aload_n 0, 1) := dk_42 (dk_at dksX10_causeOf_5 3 rfl rfl)
theorem dX10_causeOf_120 : decode cX10_causeOf 120 = .ok (.getfield 180, 3) := dk_180 0 180 (dk_at dksX10_causeOf_5 4 rfl rfl)
theorem dX10_causeOf_123 : decode cX10_causeOf 123 = .ok (.iload_n 2, 1) := dk_28 (dk_at dksX10_causeOf_5 7 rfl rfl)
theorem dX10_causeOf_124 : decode cX10_causeOf 124 = .ok (.iaload, 1) := dk_46 (dk_at dksX10_causeOf_5 8 rfl rfl)
theorem dX10_causeOf_125 : decode cX10_causeOf 125 = .ok (.if_icmp .lt 7, 3) := dk_161 0 7 (dk_at dksX10_causeOf_5 9 rfl rfl)
theorem dX10_causeOf_128 : decode cX10_causeOf 128 = .ok (.iconst 2, 1) := dk_5 (dk_at dksX10_causeOf_5 12 rfl rfl)
theorem dX10_causeOf_129 : decode cX10_causeOf 129 = .ok (.goto 4, 3) := dk_167 0 4 (dk_at dksX10_causeOf_5 13 rfl rfl)
theorem dX10_causeOf_132 : decode cX10_causeOf 132 = .ok (.iconst 0, 1) := dk_3 (dk_at dksX10_causeOf_5 16 rfl rfl)
theorem dX10_causeOf_133 : decode cX10_causeOf 133 = .ok (.iadd, 1) := dk_96 (dk_at dksX10_causeOf_5 17 rfl rfl)
theorem dX10_causeOf_134 : decode cX10_causeOf 134 = .ok (.ireturn, 1) := dk_172 (dk_at dksX10_causeOf_5 18 rfl rfl)
def dkwX10_causes_3 : List UInt8 := [28, 160, 0, 7, 4, 167, 0, 4, 3, 96, 62, 132, 4, 1, 167, 255, 215, 29, 172]
abbrev dktX10_causes_3 : List UInt8 := dkwX10_causes_3 ++ []
def dkwX10_causes_2 : List UInt8 := [180, 2, 68, 162, 0, 38, 29, 42, 180, 0, 189, 21, 4, 46, 27, 160, 0, 17, 42, 21, 4, 182, 2, 71]
abbrev dktX10_causes_2 : List UInt8 := dkwX10_causes_2 ++ dktX10_causes_3
def dkwX10_causes_1 : List UInt8 := [42, 28, 3, 6, 184, 0, 210, 5, 182, 0, 214, 154, 0, 5, 3, 172, 3, 62, 3, 54, 4, 21, 4, 42]
abbrev dktX10_causes_1 : List UInt8 := dkwX10_causes_1 ++ dktX10_causes_2
def dkwX10_causes_0 : List UInt8 := [42, 3, 181, 0, 1, 42, 27, 3, 42, 180, 2, 59, 4, 100, 184, 0, 210, 4, 182, 0, 214, 153, 0, 17]
abbrev dktX10_causes_0 : List UInt8 := dkwX10_causes_0 ++ dktX10_causes_1
theorem dksX10_causes_0 : cX10_causes.data.toList.drop 0 = dktX10_causes_0 := by decide +kernel
theorem dksX10_causes_1 : cX10_causes.data.toList.drop 24 = dktX10_causes_1 := dk_seg dksX10_causes_0 24 rfl rfl
theorem dksX10_causes_2 : cX10_causes.data.toList.drop 48 = dktX10_causes_2 := dk_seg dksX10_causes_1 24 rfl rfl
theorem dksX10_causes_3 : cX10_causes.data.toList.drop 72 = dktX10_causes_3 := dk_seg dksX10_causes_2 24 rfl rfl
theorem dX10_causes_0 : decode cX10_causes 0 = .ok (.aload_n 0, 1) := dk_42 (dk_at dksX10_causes_0 0 rfl rfl)
theorem dX10_causes_1 : decode cX10_causes 1 = .ok (.iconst 0, 1) := dk_3 (dk_at dksX10_causes_0 1 rfl rfl)
theorem dX10_causes_2 : decode cX10_causes 2 = .ok (.putfield 1, 3) := dk_181 0 1 (dk_at dksX10_causes_0 2 rfl rfl)
theorem dX10_causes_5 : decode cX10_causes 5 = .ok (.aload_n 0, 1) := dk_42 (dk_at dksX10_causes_0 5 rfl rfl)
theorem dX10_causes_6 : decode cX10_causes 6 = .ok (.iload_n 1, 1) := dk_27 (dk_at dksX10_causes_0 6 rfl rfl)
theorem dX10_causes_7 : decode cX10_causes 7 = .ok (.iconst 0, 1) := dk_3 (dk_at dksX10_causes_0 7 rfl rfl)
theorem dX10_causes_8 : decode cX10_causes 8 = .ok (.aload_n 0, 1) := dk_42 (dk_at dksX10_causes_0 8 rfl rfl)
theorem dX10_causes_9 : decode cX10_causes 9 = .ok (.getfield 571, 3) := dk_180 2 59 (dk_at dksX10_causes_0 9 rfl rfl)
theorem dX10_causes_12 : decode cX10_causes 12 = .ok (.iconst 1, 1) := dk_4 (dk_at dksX10_causes_0 12 rfl rfl)
theorem dX10_causes_13 : decode cX10_causes 13 = .ok (.isub, 1) := dk_100 (dk_at dksX10_causes_0 13 rfl rfl)
theorem dX10_causes_14 : decode cX10_causes 14 = .ok (.invokestatic 210, 3) := dk_184 0 210 (dk_at dksX10_causes_0 14 rfl rfl)
theorem dX10_causes_17 : decode cX10_causes 17 = .ok (.iconst 1, 1) := dk_4 (dk_at dksX10_causes_0 17 rfl rfl)
theorem dX10_causes_18 : decode cX10_causes 18 = .ok (.invokevirtual 214, 3) := dk_182 0 214 (dk_at dksX10_causes_0 18 rfl rfl)
theorem dX10_causes_21 : decode cX10_causes 21 = .ok (.ifCond .eq 17, 3) := dk_153 0 17 (dk_at dksX10_causes_0 21 rfl rfl)
theorem dX10_causes_24 : decode cX10_causes 24 = .ok (.aload_n 0, 1) := dk_42 (dk_at dksX10_causes_1 0 rfl rfl)
theorem dX10_causes_25 : decode cX10_causes 25 = .ok (.iload_n 2, 1) := dk_28 (dk_at dksX10_causes_1 1 rfl rfl)
theorem dX10_causes_26 : decode cX10_causes 26 = .ok (.iconst 0, 1) := dk_3 (dk_at dksX10_causes_1 2 rfl rfl)
theorem dX10_causes_27 : decode cX10_causes 27 = .ok (.iconst 3, 1) := dk_6 (dk_at dksX10_causes_1 3 rfl rfl)
theorem dX10_causes_28 : decode cX10_causes 28 = .ok (.invokestatic 210, 3) := dk_184 0 210 (dk_at dksX10_causes_1 4 rfl rfl)
theorem dX10_causes_31 : decode cX10_causes 31 = .ok (.iconst 2, 1) := dk_5 (dk_at dksX10_causes_1 7 rfl rfl)
theorem dX10_causes_32 : decode cX10_causes 32 = .ok (.invokevirtual 214, 3) := dk_182 0 214 (dk_at dksX10_causes_1 8 rfl rfl)
theorem dX10_causes_35 : decode cX10_causes 35 = .ok (.ifCond .ne 5, 3) := dk_154 0 5 (dk_at dksX10_causes_1 11 rfl rfl)
theorem dX10_causes_38 : decode cX10_causes 38 = .ok (.iconst 0, 1) := dk_3 (dk_at dksX10_causes_1 14 rfl rfl)
theorem dX10_causes_39 : decode cX10_causes 39 = .ok (.ireturn, 1) := dk_172 (dk_at dksX10_causes_1 15 rfl rfl)
theorem dX10_causes_40 : decode cX10_causes 40 = .ok (.iconst 0, 1) := dk_3 (dk_at dksX10_causes_1 16 rfl rfl)
theorem dX10_causes_41 : decode cX10_causes 41 = .ok (.istore_n 3, 1) := dk_62 (dk_at dksX10_causes_1 17 rfl rfl)
theorem dX10_causes_42 : decode cX10_causes 42 = .ok (.iconst 0, 1) := dk_3 (dk_at dksX10_causes_1 18 rfl rfl)
theorem dX10_causes_43 : decode cX10_causes 43 = .ok (.istore 4, 2) := dk_54 4 (dk_at dksX10_causes_1 19 rfl rfl)
theorem dX10_causes_45 : decode cX10_causes 45 = .ok (.iload 4, 2) := dk_21 4 (dk_at dksX10_causes_1 21 rfl rfl)
theorem dX10_causes_47 : decode cX10_causes 47 = .ok (.aload_n 0, 1) := dk_42 (dk_at dksX10_causes_1 23 rfl rfl)
theorem dX10_causes_48 : decode cX10_causes 48 = .ok (.getfield 580, 3) := dk_180 2 68 (dk_at dksX10_causes_2 0 rfl rfl)
theorem dX10_causes_51 : decode cX10_causes 51 = .ok (.if_icmp .ge 38, 3) := dk_162 0 38 (dk_at dksX10_causes_2 3 rfl rfl)
theorem dX10_causes_54 : decode cX10_causes 54 = .ok (.iload_n 3, 1) := dk_29 (dk_at dksX10_causes_2 6 rfl rfl)
theorem dX10_causes_55 : decode cX10_causes 55 = .ok (.aload_n 0, 1) := dk_42 (dk_at dksX10_causes_2 7 rfl rfl)
theorem dX10_causes_56 : decode cX10_causes 56 = .ok (.getfield 189, 3) := dk_180 0 189 (dk_at dksX10_causes_2 8 rfl rfl)
theorem dX10_causes_59 : decode cX10_causes 59 = .ok (.iload 4, 2) := dk_21 4 (dk_at dksX10_causes_2 11 rfl rfl)
theorem dX10_causes_61 : decode cX10_causes 61 = .ok (.iaload, 1) := dk_46 (dk_at dksX10_causes_2 13 rfl rfl)
theorem dX10_causes_62 : decode cX10_causes 62 = .ok (.iload_n 1, 1) := dk_27 (dk_at dksX10_causes_2 14 rfl rfl)
theorem dX10_causes_63 : decode cX10_causes 63 = .ok (.if_icmp .ne 17, 3) := dk_160 0 17 (dk_at dksX10_causes_2 15 rfl rfl)
theorem dX10_causes_66 : decode cX10_causes 66 = .ok (.aload_n 0, 1) := dk_42 (dk_at dksX10_causes_2 18 rfl rfl)
theorem dX10_causes_67 : decode cX10_causes 67 = .ok (.iload 4, 2) := dk_21 4 (dk_at dksX10_causes_2 19 rfl rfl)
theorem dX10_causes_69 : decode cX10_causes 69 = .ok (.invokevirtual 583, 3) := dk_182 2 71 (dk_at dksX10_causes_2 21 rfl rfl)
theorem dX10_causes_72 : decode cX10_causes 72 = .ok (.iload_n 2, 1) := dk_28 (dk_at dksX10_causes_3 0 rfl rfl)
theorem dX10_causes_73 : decode cX10_causes 73 = .ok (.if_icmp .ne 7, 3) := dk_160 0 7 (dk_at dksX10_causes_3 1 rfl rfl)
theorem dX10_causes_76 : decode cX10_causes 76 = .ok (.iconst 1, 1) := dk_4 (dk_at dksX10_causes_3 4 rfl rfl)
theorem dX10_causes_77 : decode cX10_causes 77 = .ok (.goto 4, 3) := dk_167 0 4 (dk_at dksX10_causes_3 5 rfl rfl)
theorem dX10_causes_80 : decode cX10_causes 80 = .ok (.iconst 0, 1) := dk_3 (dk_at dksX10_causes_3 8 rfl rfl)
theorem dX10_causes_81 : decode cX10_causes 81 = .ok (.iadd, 1) := dk_96 (dk_at dksX10_causes_3 9 rfl rfl)
theorem dX10_causes_82 : decode cX10_causes 82 = .ok (.istore_n 3, 1) := dk_62 (dk_at dksX10_causes_3 10 rfl rfl)
theorem dX10_causes_83 : decode cX10_causes 83 = .ok (.iinc 4 1, 3) := dk_132 4 1 (dk_at dksX10_causes_3 11 rfl rfl)
theorem dX10_causes_86 : decode cX10_causes 86 = .ok (.goto (-41), 3) := dk_167 255 215 (dk_at dksX10_causes_3 14 rfl rfl)
theorem dX10_causes_89 : decode cX10_causes 89 = .ok (.iload_n 3, 1) := dk_29 (dk_at dksX10_causes_3 17 rfl rfl)
theorem dX10_causes_90 : decode cX10_causes 90 = .ok (.ireturn, 1) := dk_172 (dk_at dksX10_causes_3 18 rfl rfl)
def dkwX10_called_5 : List UInt8 := [132, 7, 1, 167, 255, 205, 21, 6, 28, 160, 0, 6, 21, 4, 172, 132, 4, 1, 167, 255, 157, 2, 172]
abbrev dktX10_called_5 : List UInt8 := dkwX10_called_5 ++ []
def dkwX10_called_4 : List UInt8 := [182, 2, 80, 21, 5, 160, 0, 14, 21, 7, 21, 4, 162, 0, 7, 4, 167, 0, 4, 3, 96, 54, 6]
abbrev dktX10_called_4 : List UInt8 := dkwX10_called_4 ++ dktX10_called_5
def dkwX10_called_3 : List UInt8 := [16, 10, 162, 0, 50, 21, 6, 42, 21, 7, 29, 182, 2, 80, 21, 5, 161, 0, 22, 42, 21, 7, 29]
abbrev dktX10_called_3 : List UInt8 := dkwX10_called_3 ++ dktX10_called_4
def dkwX10_called_2 : List UInt8 := [182, 2, 80, 54, 5, 21, 5, 19, 1, 122, 160, 0, 6, 167, 0, 72, 3, 54, 6, 3, 54, 7, 21, 7]
abbrev dktX10_called_2 : List UInt8 := dkwX10_called_2 ++ dktX10_called_3
def dkwX10_called_1 : List UInt8 := [3, 172, 42, 180, 0, 189, 27, 46, 62, 3, 54, 4, 21, 4, 16, 10, 162, 0, 98, 42, 21, 4, 29]
abbrev dktX10_called_1 : List UInt8 := dkwX10_called_1 ++ dktX10_called_2
def dkwX10_called_0 : List UInt8 := [42, 3, 181, 0, 1, 42, 27, 3, 42, 180, 2, 68, 4, 100, 184, 0, 210, 4, 182, 0, 214, 154, 0, 5]
abbrev dktX10_called_0 : List UInt8 := dkwX10_called_0 ++ dktX10_called_1
theorem dksX10_called_0 : cX10_called.data.toList.drop 0 = dktX10_called_0 := by decide +kernel
theorem dksX10_called_1 : cX10_called.data.toList.drop 24 = dktX10_called_1 := dk_seg dksX10_called_0 24 rfl rfl
theorem dksX10_called_2 : cX10_called.data.toList.drop 47 = dktX10_called_2 := dk_seg dksX10_called_1 23 rfl rfl
theorem dksX10_called_3 : cX10_called.data.toList.drop 71 = dktX10_called_3 := dk_seg dksX10_called_2 24 rfl rfl
theorem dksX10_called_4 : cX10_called.data.toList.drop 94 = dktX10_called_4 := dk_seg dksX10_called_3 23 rfl rfl
theorem dksX10_called_5 : cX10_called.data.toList.drop 117 = dktX10_called_5 := dk_seg dksX10_called_4 23 rfl rfl
theorem dX10_called_0 : decode cX10_called 0 = .ok (.aload_n 0, 1) := dk_42 (dk_at dksX10_called_0 0 rfl rfl)
theorem dX10_called_1 : decode cX10_called 1 = .ok (.iconst 0, 1) := dk_3 (dk_at dksX10_called_0 1 rfl rfl)
theorem dX10_called_2 : decode cX10_called 2 = .ok (.putfield 1, 3) := dk_181 0 1 (dk_at dksX10_called_0 2 rfl rfl)
theorem dX10_called_5 : decode cX10_called 5 = .ok (.aload_n 0, 1) := dk_42 (dk_at dksX10_called_0 5 rfl rfl)
theorem dX10_called_6 : decode cX10_called 6 = .ok (.iload_n 1, 1) := dk_27 (dk_at dksX10_called_0 6 rfl rfl)
theorem dX10_called_7 : decode cX10_called 7 = .ok (.iconst 0, 1) := dk_3 (dk_at dksX10_called_0 7 rfl rfl)
theorem dX10_called_8 : decode cX10_called 8 = .ok (.aload_n 0, 1) := dk_42 (dk_at dksX10_called_0 8 rfl rfl)
theorem dX10_called_9 : decode cX10_called 9 = .ok (.getfield 580, 3) := dk_180 2 68 (dk_at dksX10_called_0 9 rfl rfl)
theorem dX10_called_12 : decode cX10_called 12 = .ok (.iconst 1, 1) := dk_4 (dk_at dksX10_called_0 12 rfl rfl)
theorem dX10_called_13 : decode cX10_called 13 = .ok (.isub, 1) := dk_100 (dk_at dksX10_called_0 13 rfl rfl)
theorem dX10_called_14 : decode cX10_called 14 = .ok (.invokestatic 210, 3) := dk_184 0 210 (dk_at dksX10_called_0 14 rfl rfl)
theorem dX10_called_17 : decode cX10_called 17 = .ok (.iconst 1, 1) := dk_4 (dk_at dksX10_called_0 17 rfl rfl)
theorem dX10_called_18 : decode cX10_called 18 = .ok (.invokevirtual 214, 3) := dk_182 0 214 (dk_at dksX10_called_0 18 rfl rfl)
theorem dX10_called_21 : decode cX10_called 21 = .ok (.ifCond .ne 5, 3) := dk_154 0 5 (dk_at dksX10_called_0 21 rfl rfl)
theorem dX10_called_24 : decode cX10_called 24 = .ok (.iconst 0, 1) := dk_3 (dk_at dksX10_called_1 0 rfl rfl)
theorem dX10_called_25 : decode cX10_called 25 = .ok (.ireturn, 1) := dk_172 (dk_at dksX10_called_1 1 rfl rfl)
theorem dX10_called_26 : decode cX10_called 26 = .ok (.aload_n 0, 1) := dk_42 (dk_at dksX10_called_1 2 rfl rfl)
theorem dX10_called_27 : decode cX10_called 27 = .ok (.getfield 189, 3) := dk_180 0 189 (dk_at dksX10_called_1 3 rfl rfl)
theorem dX10_called_30 : decode cX10_called 30 = .ok (.iload_n 1, 1) := dk_27 (dk_at dksX10_called_1 6 rfl rfl)
theorem dX10_called_31 : decode cX10_called 31 = .ok (.iaload, 1) := dk_46 (dk_at dksX10_called_1 7 rfl rfl)
theorem dX10_called_32 : decode cX10_called 32 = .ok (.istore_n 3, 1) := dk_62 (dk_at dksX10_called_1 8 rfl rfl)
theorem dX10_called_33 : decode cX10_called 33 = .ok (.iconst 0, 1) := dk_3 (dk_at dksX10_called_1 9 rfl rfl)
theorem dX10_called_34 : decode cX10_called 34 = .ok (.istore 4, 2) := dk_54 4 (dk_at dksX10_called_1 10 rfl rfl)
theorem dX10_called_36 : decode cX10_called 36 = .ok (.iload 4, 2) := dk_21 4 (dk_at dksX10_called_1 12 rfl rfl)
theorem dX10_called_38 : decode cX10_called 38 = .ok (.bipush 10, 2) := dk_16 10 (dk_at dksX10_called_1 14 rfl rfl)
theorem dX10_called_40 : decode cX10_called 40 = .ok (.if_icmp .ge 98, 3) := dk_162 0 98 (dk_at dksX10_called_1 16 rfl rfl)
theorem dX10_called_43 : decode cX10_called 43 = .ok (.aload_n 0, 1) := dk_42 (dk_at dksX10_called_1 19 rfl rfl)
theorem dX10_called_44 : decode cX10_called 44 = .ok (.iload 4, 2) := dk_21 4 (dk_at dksX10_called_1 20 rfl rfl)
theorem dX10_called_46 : decode cX10_called 46 = .ok (.iload_n 3, 1) := dk_29 (dk_at dksX10_called_1 22 rfl rfl)
theorem dX10_called_47 : decode cX10_called 47 = .ok (.invokevirtual 592, 3) := dk_182 2 80 (dk_at dksX10_called_2 0 rfl rfl)
theorem dX10_called_50 : decode cX10_called 50 = .ok (.istore 5, 2) := dk_54 5 (dk_at dksX10_called_2 3 rfl rfl)
theorem dX10_called_52 : decode cX10_called 52 = .ok (.iload 5, 2) := dk_21 5 (dk_at dksX10_called_2 5 rfl rfl)
theorem dX10_called_54 : decode cX10_called 54 = .ok (.ldc_w 378, 3) := dk_19 1 122 (dk_at dksX10_called_2 7 rfl rfl)
theorem dX10_called_57 : decode cX10_called 57 = .ok (.if_icmp .ne 6, 3) := dk_160 0 6 (dk_at dksX10_called_2 10 rfl rfl)
theorem dX10_called_60 : decode cX10_called 60 = .ok (.goto 72, 3) := dk_167 0 72 (dk_at dksX10_called_2 13 rfl rfl)
theorem dX10_called_63 : decode cX10_called 63 = .ok (.iconst 0, 1) := dk_3 (dk_at dksX10_called_2 16 rfl rfl)
theorem dX10_called_64 : decode cX10_called 64 = .ok (.istore 6, 2) := dk_54 6 (dk_at dksX10_called_2 17 rfl rfl)
theorem dX10_called_66 : decode cX10_called 66 = .ok (.iconst 0, 1) := dk_3 (dk_at dksX10_called_2 19 rfl rfl)
theorem dX10_called_67 : decode cX10_called 67 = .ok (.istore 7, 2) := dk_54 7 (dk_at dksX10_called_2 20 rfl rfl)
theorem dX10_called_69 : decode cX10_called 69 = .ok (.iload 7, 2) := dk_21 7 (dk_at dksX10_called_2 22 rfl rfl)
theorem dX10_called_71 : decode cX10_called 71 = .ok (.bipush 10, 2) := dk_16 10 (dk_at dksX10_called_3 0 rfl rfl)
theorem dX10_called_73 : decode cX10_called 73 = .ok (.if_icmp .ge 50, 3) := dk_162 0 50 (dk_at dksX10_called_3 2 rfl rfl)
theorem dX10_called_76 : decode cX10_called 76 = .ok (.iload 6, 2) := dk_21 6 (dk_at dksX10_called_3 5 rfl rfl)
theorem dX10_called_78 : decode cX10_called 78 = .ok (.aload_n 0, 1) := dk_42 (dk_at dksX10_called_3 7 rfl rfl)
theorem dX10_called_79 : decode cX10_called 79 = .ok (.iload 7, 2) := dk_21 7 (dk_at dksX10_called_3 8 rfl rfl)
theorem dX10_called_81 : decode cX10_called 81 = .ok (.iload_n 3, 1) := dk_29 (dk_at dksX10_called_3 10 rfl rfl)
theorem dX10_called_82 : decode cX10_called 82 = .ok (.invokevirtual 592, 3) := dk_182 2 80 (dk_at dksX10_called_3 11 rfl rfl)
theorem dX10_called_85 : decode cX10_called 85 = .ok (.iload 5, 2) := dk_21 5 (dk_at dksX10_called_3 14 rfl rfl)
theorem dX10_called_87 : decode cX10_called 87 = .ok (.if_icmp .lt 22, 3) := dk_161 0 22 (dk_at dksX10_called_3 16 rfl rfl)
theorem dX10_called_90 : decode cX10_called 90 = .ok (.aload_n 0, 1) := dk_42 (dk_at dksX10_called_3 19 rfl rfl)
theorem dX10_called_91 : decode cX10_called 91 = .ok (.iload 7, 2) := dk_21 7 (dk_at dksX10_called_3 20 rfl rfl)
theorem dX10_called_93 : decode cX10_called 93 = .ok (.iload_n 3, 1) := dk_29 (dk_at dksX10_called_3 22 rfl rfl)
theorem dX10_called_94 : decode cX10_called 94 = .ok (.invokevirtual 592, 3) := dk_182 2 80 (dk_at dksX10_called_4 0 rfl rfl)
theorem dX10_called_97 : decode cX10_called 97 = .ok (.iload 5, 2) := dk_21 5 (dk_at dksX10_called_4 3 rfl rfl)
theorem dX10_called_99 : decode cX10_called 99 = .ok (.if_icmp .ne 14, 3) := dk_160 0 14 (dk_at dksX10_called_4 5 rfl rfl)
theorem dX10_called_102 : decode cX10_called 102 = .ok (.iload 7, 2) := dk_21 7 (dk_at dksX10_called_4 8 rfl rfl)
theorem dX10_called_104 : decode cX10_called 104 = .ok (.iload 4, 2) := dk_21 4 (dk_at dksX10_called_4 10 rfl rfl)
theorem dX10_called_106 : decode cX10_called 106 = .ok (.if_icmp .ge 7, 3) := dk_162 0 7 (dk_at dksX10_called_4 12 rfl rfl)
theorem dX10_called_109 : decode cX10_called 109 = .ok (.iconst 1, 1) := dk_4 (dk_at dksX10_called_4 15 rfl rfl)
theorem dX10_called_110 : decode cX10_called 110 = .ok (.goto 4, 3) := dk_167 0 4 (dk_at dksX10_called_4 16 rfl rfl)
theorem dX10_called_113 : decode cX10_called 113 = .ok (.iconst 0, 1) := dk_3 (dk_at dksX10_called_4 19 rfl rfl)
theorem dX10_called_114 : decode cX10_called 114 = .ok (.iadd, 1) := dk_96 (dk_at dksX10_called_4 20 rfl rfl)
theorem dX10_called_115 : decode cX10_called 115 = .ok (.istore 6, 2) := dk_54 6 (dk_at dksX10_called_4 21 rfl rfl)
theorem dX10_called_117 : decode cX10_called 117 = .ok (.iinc 7 1, 3) := dk_132 7 1 (dk_at dksX10_called_5 0 rfl rfl)
theorem dX10_called_120 : decode cX10_called 120 = .ok (.goto (-51), 3) := dk_167 255 205 (dk_at dksX10_called_5 3 rfl rfl)
theorem dX10_called_123 : decode cX10_called 123 = .ok (.iload 6, 2) := dk_21 6 (dk_at dksX10_called_5 6 rfl rfl)
theorem dX10_called_125 : decode cX10_called 125 = .ok (.iload_n 2, 1) := dk_28 (dk_at dksX10_called_5 8 rfl rfl)
theorem dX10_called_126 : decode cX10_called 126 = .ok (.if_icmp .ne 6, 3) := dk_160 0 6 (dk_at dksX10_called_5 9 rfl rfl)
theorem dX10_called_129 : decode cX10_called 129 = .ok (.iload 4, 2) := dk_21 4 (dk_at dksX10_called_5 12 rfl rfl)
theorem dX10_called_131 : decode cX10_called 131 = .ok (.ireturn, 1) := dk_172 (dk_at dksX10_called_5 14 rfl rfl)
theorem dX10_called_132 : decode cX10_called 132 = .ok (.iinc 4 1, 3) := dk_132 4 1 (dk_at dksX10_called_5 15 rfl rfl)
theorem dX10_called_135 : decode cX10_called 135 = .ok (.goto (-99), 3) := dk_167 255 157 (dk_at dksX10_called_5 18 rfl rfl)
theorem dX10_called_138 : decode cX10_called 138 = .ok (.iconst (-1), 1) := dk_2 (dk_at dksX10_called_5 21 rfl rfl)
theorem dX10_called_139 : decode cX10_called 139 = .ok (.ireturn, 1) := dk_172 (dk_at dksX10_called_5 22 rfl rfl)
def dkwX10_nearest_4 : List UInt8 := [132, 4, 1, 167, 255, 169, 29, 172]
abbrev dktX10_nearest_4 : List UInt8 := dkwX10_nearest_4 ++ []
def dkwX10_nearest_3 : List UInt8 := [162, 0, 8, 21, 5, 167, 0, 4, 29, 62, 21, 6, 29, 162, 0, 8, 21, 6, 167, 0, 4, 29, 62]
abbrev dktX10_nearest_3 : List UInt8 := dkwX10_nearest_3 ++ dktX10_nearest_4
def dkwX10_nearest_2 : List UInt8 := [46, 184, 2, 77, 54, 5, 21, 4, 42, 180, 0, 177, 28, 46, 184, 2, 77, 54, 6, 21, 5, 29]
abbrev dktX10_nearest_2 : List UInt8 := dkwX10_nearest_2 ++ dktX10_nearest_3
def dkwX10_nearest_1 : List UInt8 := [160, 0, 69, 42, 180, 0, 17, 21, 4, 46, 27, 159, 0, 6, 167, 0, 55, 21, 4, 42, 180, 0, 174, 28]
abbrev dktX10_nearest_1 : List UInt8 := dkwX10_nearest_1 ++ dktX10_nearest_2
def dkwX10_nearest_0 : List UInt8 := [19, 1, 122, 62, 3, 54, 4, 21, 4, 16, 64, 162, 0, 86, 42, 180, 0, 13, 21, 4, 46, 5]
abbrev dktX10_nearest_0 : List UInt8 := dkwX10_nearest_0 ++ dktX10_nearest_1
theorem dksX10_nearest_0 : cX10_nearest.data.toList.drop 0 = dktX10_nearest_0 := by decide +kernel
theorem dksX10_nearest_1 : cX10_nearest.data.toList.drop 22 = dktX10_nearest_1 := dk_seg dksX10_nearest_0 22 rfl rfl
theorem dksX10_nearest_2 : cX10_nearest.data.toList.drop 46 = dktX10_nearest_2 := dk_seg dksX10_nearest_1 24 rfl rfl
theorem dksX10_nearest_3 : cX10_nearest.data.toList.drop 68 = dktX10_nearest_3 := dk_seg dksX10_nearest_2 22 rfl rfl
theorem dksX10_nearest_4 : cX10_nearest.data.toList.drop 91 = dktX10_nearest_4 := dk_seg dksX10_nearest_3 23 rfl rfl
theorem dX10_nearest_0 : decode cX10_nearest 0 = .ok (.ldc_w 378, 3) := dk_19 1 122 (dk_at dksX10_nearest_0 0 rfl rfl)
theorem dX10_nearest_3 : decode cX10_nearest 3 = .ok (.istore_n 3, 1) := dk_62 (dk_at dksX10_nearest_0 3 rfl rfl)
theorem dX10_nearest_4 : decode cX10_nearest 4 = .ok (.iconst 0, 1) := dk_3 (dk_at dksX10_nearest_0 4 rfl rfl)
theorem dX10_nearest_5 : decode cX10_nearest 5 = .ok (.istore 4, 2) := dk_54 4 (dk_at dksX10_nearest_0 5 rfl rfl)
theorem dX10_nearest_7 : decode cX10_nearest 7 = .ok (.iload 4, 2) := dk_21 4 (dk_at dksX10_nearest_0 7 rfl rfl)
theorem dX10_nearest_9 : decode cX10_nearest 9 = .ok (.bipush 64, 2) := dk_16 64 (dk_at dksX10_nearest_0 9 rfl rfl)
theorem dX10_nearest_11 : decode cX10_nearest 11 = .ok (.if_icmp .ge 86, 3) := dk_162 0 86 (dk_at dksX10_nearest_0 11 rfl rfl)
theorem dX10_nearest_14 : decode cX10_nearest 14 = .ok (.aload_n 0, 1) := dk_42 (dk_at dksX10_nearest_0 14 rfl rfl)
theorem dX10_nearest_15 : decode cX10_nearest 15 = .ok (.getfield 13, 3) := dk_180 0 13 (dk_at dksX10_nearest_0 15 rfl rfl)
theorem dX10_nearest_18 : decode cX10_nearest 18 = .ok (.iload 4, 2) := dk_21 4 (dk_at dksX10_nearest_0 18 rfl rfl)
theorem dX10_nearest_20 : decode cX10_nearest 20 = .ok (.iaload, 1) := dk_46 (dk_at dksX10_nearest_0 20 rfl rfl)
theorem dX10_nearest_21 : decode cX10_nearest 21 = .ok (.iconst 2, 1) := dk_5 (dk_at dksX10_nearest_0 21 rfl rfl)
theorem dX10_nearest_22 : decode cX10_nearest 22 = .ok (.if_icmp .ne 69, 3) := dk_160 0 69 (dk_at dksX10_nearest_1 0 rfl rfl)
theorem dX10_nearest_25 : decode cX10_nearest 25 = .ok (.aload_n 0, 1) := dk_42 (dk_at dksX10_nearest_1 3 rfl rfl)
theorem dX10_nearest_26 : decode cX10_nearest 26 = .ok (.getfield 17, 3) := dk_180 0 17 (dk_at dksX10_nearest_1 4 rfl rfl)
theorem dX10_nearest_29 : decode cX10_nearest 29 = .ok (.iload 4, 2) := dk_21 4 (dk_at dksX10_nearest_1 7 rfl rfl)
theorem dX10_nearest_31 : decode cX10_nearest 31 = .ok (.iaload, 1) := dk_46 (dk_at dksX10_nearest_1 9 rfl rfl)
theorem dX10_nearest_32 : decode cX10_nearest 32 = .ok (.iload_n 1, 1) := dk_27 (dk_at dksX10_nearest_1 10 rfl rfl)
theorem dX10_nearest_33 : decode cX10_nearest 33 = .ok (.if_icmp .eq 6, 3) := dk_159 0 6 (dk_at dksX10_nearest_1 11 rfl rfl)
theorem dX10_nearest_36 : decode cX10_nearest 36 = .ok (.goto 55, 3) := dk_167 0 55 (dk_at dksX10_nearest_1 14 rfl rfl)
theorem dX10_nearest_39 : decode cX10_nearest 39 = .ok (.iload 4, 2) := dk_21 4 (dk_at dksX10_nearest_1 17 rfl rfl)
theorem dX10_nearest_41 : decode cX10_nearest 41 = .ok (.aload_n 0, 1) := dk_42 (dk_at dksX10_nearest_1 19 rfl rfl)
theorem dX10_nearest_42 : decode cX10_nearest 42 = .ok (.getfield 174, 3) := dk_180 0 174 (dk_at dksX10_nearest_1 20 rfl rfl)
theorem dX10_nearest_45 : decode cX10_nearest 45 = .ok (.iload_n 2, 1) := dk_28 (dk_at dksX10_nearest_1 23 rfl rfl)
theorem dX10_nearest_46 : decode cX10_nearest 46 = .ok (.iaload, 1) := dk_46 (dk_at dksX10_nearest_2 0 rfl rfl)
theorem dX10_nearest_47 : decode cX10_nearest 47 = .ok (.invokestatic 589, 3) := dk_184 2 77 (dk_at dksX10_nearest_2 1 rfl rfl)
theorem dX10_nearest_50 : decode cX10_nearest 50 = .ok (.istore 5, 2) := dk_54 5 (dk_at dksX10_nearest_2 4 rfl rfl)
theorem dX10_nearest_52 : decode cX10_nearest 52 = .ok (.iload 4, 2) := dk_21 4 (dk_at dksX10_nearest_2 6 rfl rfl)
theorem dX10_nearest_54 : decode cX10_nearest 54 = .ok (.aload_n 0, 1) := dk_42 (dk_at dksX10_nearest_2 8 rfl rfl)
theorem dX10_nearest_55 : decode cX10_nearest 55 = .ok (.getfield 177, 3) := dk_180 0 177 (dk_at dksX10_nearest_2 9 rfl rfl)
theorem dX10_nearest_58 : decode cX10_nearest 58 = .ok (.iload_n 2, 1) := dk_28 (dk_at dksX10_nearest_2 12 rfl rfl)
theorem dX10_nearest_59 : decode cX10_nearest 59 = .ok (.iaload, 1) := dk_46 (dk_at dksX10_nearest_2 13 rfl rfl)
theorem dX10_nearest_60 : decode cX10_nearest 60 = .ok (.invokestatic 589, 3) := dk_184 2 77 (dk_at dksX10_nearest_2 14 rfl rfl)
theorem dX10_nearest_63 : decode cX10_nearest 63 = .ok (.istore 6, 2) := dk_54 6 (dk_at dksX10_nearest_2 17 rfl rfl)
theorem dX10_nearest_65 : decode cX10_nearest 65 = .ok (.iload 5, 2) := dk_21 5 (dk_at dksX10_nearest_2 19 rfl rfl)
theorem dX10_nearest_67 : decode cX10_nearest 67 = .ok (.iload_n 3, 1) := dk_29 (dk_at dksX10_nearest_2 21 rfl rfl)
theorem dX10_nearest_68 : decode cX10_nearest 68 = .ok (.if_icmp .ge 8, 3) := dk_162 0 8 (dk_at dksX10_nearest_3 0 rfl rfl)
theorem dX10_nearest_71 : decode cX10_nearest 71 = .ok (.iload 5, 2) := dk_21 5 (dk_at dksX10_nearest_3 3 rfl rfl)
theorem dX10_nearest_73 : decode cX10_nearest 73 = .ok (.goto 4, 3) := dk_167 0 4 (dk_at dksX10_nearest_3 5 rfl rfl)
theorem dX10_nearest_76 : decode cX10_nearest 76 = .ok (.iload_n 3, 1) := dk_29 (dk_at dksX10_nearest_3 8 rfl rfl)
theorem dX10_nearest_77 : decode cX10_nearest 77 = .ok (.istore_n 3, 1) := dk_62 (dk_at dksX10_nearest_3 9 rfl rfl)
theorem dX10_nearest_78 : decode cX10_nearest 78 = .ok (.iload 6, 2) := dk_21 6 (dk_at dksX10_nearest_3 10 rfl rfl)
theorem dX10_nearest_80 : decode cX10_nearest 80 = .ok (.iload_n 3, 1) := dk_29 (dk_at dksX10_nearest_3 12 rfl rfl)
theorem dX10_nearest_81 : decode cX10_nearest 81 = .ok (.if_icmp .ge 8, 3) := dk_162 0 8 (dk_at dksX10_nearest_3 13 rfl rfl)
theorem dX10_nearest_84 : decode cX10_nearest 84 = .ok (.iload 6, 2) := dk_21 6 (dk_at dksX10_nearest_3 16 rfl rfl)
theorem dX10_nearest_86 : decode cX10_nearest 86 = .ok (.goto 4, 3) := dk_167 0 4 (dk_at dksX10_nearest_3 18 rfl rfl)
theorem dX10_nearest_89 : decode cX10_nearest 89 = .ok (.iload_n 3, 1) := dk_29 (dk_at dksX10_nearest_3 21 rfl rfl)
theorem dX10_nearest_90 : decode cX10_nearest 90 = .ok (.istore_n 3, 1) := dk_62 (dk_at dksX10_nearest_3 22 rfl rfl)
theorem dX10_nearest_91 : decode cX10_nearest 91 = .ok (.iinc 4 1, 3) := dk_132 4 1 (dk_at dksX10_nearest_4 0 rfl rfl)
theorem dX10_nearest_94 : decode cX10_nearest 94 = .ok (.goto (-87), 3) := dk_167 255 169 (dk_at dksX10_nearest_4 3 rfl rfl)
theorem dX10_nearest_97 : decode cX10_nearest 97 = .ok (.iload_n 3, 1) := dk_29 (dk_at dksX10_nearest_4 6 rfl rfl)
theorem dX10_nearest_98 : decode cX10_nearest 98 = .ok (.ireturn, 1) := dk_172 (dk_at dksX10_nearest_4 7 rfl rfl)
def dkwX10_apart_1 : List UInt8 := [96, 172]
abbrev dktX10_apart_1 : List UInt8 := dkwX10_apart_1 ++ []
def dkwX10_apart_0 : List UInt8 := [26, 16, 8, 112, 27, 16, 8, 112, 100, 184, 2, 74, 26, 16, 8, 108, 27, 16, 8, 108, 100, 184, 2, 74]
abbrev dktX10_apart_0 : List UInt8 := dkwX10_apart_0 ++ dktX10_apart_1
theorem dksX10_apart_0 : cX10_apart.data.toList.drop 0 = dktX10_apart_0 := by decide +kernel
theorem dksX10_apart_1 : cX10_apart.data.toList.drop 24 = dktX10_apart_1 := dk_seg dksX10_apart_0 24 rfl rfl
theorem dX10_apart_0 : decode cX10_apart 0 = .ok (.iload_n 0, 1) := dk_26 (dk_at dksX10_apart_0 0 rfl rfl)
theorem dX10_apart_1 : decode cX10_apart 1 = .ok (.bipush 8, 2) := dk_16 8 (dk_at dksX10_apart_0 1 rfl rfl)
theorem dX10_apart_3 : decode cX10_apart 3 = .ok (.irem, 1) := dk_112 (dk_at dksX10_apart_0 3 rfl rfl)
theorem dX10_apart_4 : decode cX10_apart 4 = .ok (.iload_n 1, 1) := dk_27 (dk_at dksX10_apart_0 4 rfl rfl)
theorem dX10_apart_5 : decode cX10_apart 5 = .ok (.bipush 8, 2) := dk_16 8 (dk_at dksX10_apart_0 5 rfl rfl)
theorem dX10_apart_7 : decode cX10_apart 7 = .ok (.irem, 1) := dk_112 (dk_at dksX10_apart_0 7 rfl rfl)
theorem dX10_apart_8 : decode cX10_apart 8 = .ok (.isub, 1) := dk_100 (dk_at dksX10_apart_0 8 rfl rfl)
theorem dX10_apart_9 : decode cX10_apart 9 = .ok (.invokestatic 586, 3) := dk_184 2 74 (dk_at dksX10_apart_0 9 rfl rfl)
theorem dX10_apart_12 : decode cX10_apart 12 = .ok (.iload_n 0, 1) := dk_26 (dk_at dksX10_apart_0 12 rfl rfl)
theorem dX10_apart_13 : decode cX10_apart 13 = .ok (.bipush 8, 2) := dk_16 8 (dk_at dksX10_apart_0 13 rfl rfl)
theorem dX10_apart_15 : decode cX10_apart 15 = .ok (.idiv, 1) := dk_108 (dk_at dksX10_apart_0 15 rfl rfl)
theorem dX10_apart_16 : decode cX10_apart 16 = .ok (.iload_n 1, 1) := dk_27 (dk_at dksX10_apart_0 16 rfl rfl)
theorem dX10_apart_17 : decode cX10_apart 17 = .ok (.bipush 8, 2) := dk_16 8 (dk_at dksX10_apart_0 17 rfl rfl)
theorem dX10_apart_19 : decode cX10_apart 19 = .ok (.idiv, 1) := dk_108 (dk_at dksX10_apart_0 19 rfl rfl)
theorem dX10_apart_20 : decode cX10_apart 20 = .ok (.isub, 1) := dk_100 (dk_at dksX10_apart_0 20 rfl rfl)
theorem dX10_apart_21 : decode cX10_apart 21 = .ok (.invokestatic 586, 3) := dk_184 2 74 (dk_at dksX10_apart_0 21 rfl rfl)
theorem dX10_apart_24 : decode cX10_apart 24 = .ok (.iadd, 1) := dk_96 (dk_at dksX10_apart_1 0 rfl rfl)
theorem dX10_apart_25 : decode cX10_apart 25 = .ok (.ireturn, 1) := dk_172 (dk_at dksX10_apart_1 1 rfl rfl)
def dkwX10_off_0 : List UInt8 := [26, 156, 0, 8, 26, 116, 167, 0, 4, 26, 172]
abbrev dktX10_off_0 : List UInt8 := dkwX10_off_0 ++ []
theorem dksX10_off_0 : cX10_off.data.toList.drop 0 = dktX10_off_0 := by decide +kernel
theorem dX10_off_0 : decode cX10_off 0 = .ok (.iload_n 0, 1) := dk_26 (dk_at dksX10_off_0 0 rfl rfl)
theorem dX10_off_1 : decode cX10_off 1 = .ok (.ifCond .ge 8, 3) := dk_156 0 8 (dk_at dksX10_off_0 1 rfl rfl)
theorem dX10_off_4 : decode cX10_off 4 = .ok (.iload_n 0, 1) := dk_26 (dk_at dksX10_off_0 4 rfl rfl)
theorem dX10_off_5 : decode cX10_off 5 = .ok (.ineg, 1) := dk_116 (dk_at dksX10_off_0 5 rfl rfl)
theorem dX10_off_6 : decode cX10_off 6 = .ok (.goto 4, 3) := dk_167 0 4 (dk_at dksX10_off_0 6 rfl rfl)
theorem dX10_off_9 : decode cX10_off 9 = .ok (.iload_n 0, 1) := dk_26 (dk_at dksX10_off_0 9 rfl rfl)
theorem dX10_off_10 : decode cX10_off 10 = .ok (.ireturn, 1) := dk_172 (dk_at dksX10_off_0 10 rfl rfl)
def dkwX10_dusk_14 : List UInt8 := [19, 1, 122, 160, 0, 7, 2, 167, 0, 9, 42, 180, 0, 165, 28, 46, 172]
abbrev dktX10_dusk_14 : List UInt8 := dkwX10_dusk_14 ++ []
def dkwX10_dusk_13 : List UInt8 := [132, 7, 1, 167, 255, 180, 132, 6, 1, 167, 255, 164, 132, 5, 1, 167, 255, 147, 42, 180, 0, 165, 28, 46]
abbrev dktX10_dusk_13 : List UInt8 := dkwX10_dusk_13 ++ dktX10_dusk_14
def dkwX10_dusk_12 : List UInt8 := [19, 1, 122, 159, 0, 6, 167, 0, 17, 42, 180, 0, 165, 21, 8, 21, 5, 4, 96, 79, 4, 54, 4]
abbrev dktX10_dusk_12 : List UInt8 := dkwX10_dusk_12 ++ dktX10_dusk_13
def dkwX10_dusk_11 : List UInt8 := [21, 8, 2, 159, 0, 43, 42, 180, 0, 195, 21, 8, 51, 154, 0, 33, 42, 180, 0, 165, 21, 8, 46]
abbrev dktX10_dusk_11 : List UInt8 := dkwX10_dusk_11 ++ dktX10_dusk_12
def dkwX10_dusk_10 : List UInt8 := [162, 0, 76, 42, 180, 0, 165, 21, 6, 46, 21, 5, 160, 0, 64, 21, 6, 21, 7, 184, 1, 123, 54, 8]
abbrev dktX10_dusk_10 : List UInt8 := dkwX10_dusk_10 ++ dktX10_dusk_11
def dkwX10_dusk_9 : List UInt8 := [21, 4, 153, 0, 110, 3, 54, 4, 3, 54, 6, 21, 6, 16, 64, 162, 0, 91, 3, 54, 7, 21, 7, 7]
abbrev dktX10_dusk_9 : List UInt8 := dkwX10_dusk_9 ++ dktX10_dusk_10
def dkwX10_dusk_8 : List UInt8 := [42, 180, 0, 195, 28, 51, 153, 0, 5, 2, 172, 42, 180, 0, 165, 27, 3, 79, 4, 54, 4, 3, 54, 5]
abbrev dktX10_dusk_8 : List UInt8 := dkwX10_dusk_8 ++ dktX10_dusk_9
def dkwX10_dusk_7 : List UInt8 := [180, 0, 165, 21, 4, 19, 1, 122, 79, 132, 4, 1, 167, 255, 236, 42, 180, 0, 195, 27, 51, 154, 0, 12]
abbrev dktX10_dusk_7 : List UInt8 := dkwX10_dusk_7 ++ dktX10_dusk_8
def dkwX10_dusk_6 : List UInt8 := [132, 5, 1, 167, 255, 214, 132, 4, 1, 167, 255, 189, 3, 54, 4, 21, 4, 16, 64, 162, 0, 19, 42]
abbrev dktX10_dusk_6 : List UInt8 := dkwX10_dusk_6 ++ dktX10_dusk_7
def dkwX10_dusk_5 : List UInt8 := [21, 5, 51, 154, 0, 13, 42, 180, 0, 171, 21, 5, 51, 153, 0, 7, 4, 167, 0, 4, 3, 84]
abbrev dktX10_dusk_5 : List UInt8 := dkwX10_dusk_5 ++ dktX10_dusk_6
def dkwX10_dusk_4 : List UInt8 := [182, 2, 56, 3, 54, 5, 21, 5, 16, 64, 162, 0, 41, 42, 180, 0, 195, 21, 5, 42, 180, 0, 195]
abbrev dktX10_dusk_4 : List UInt8 := dkwX10_dusk_4 ++ dktX10_dusk_5
def dkwX10_dusk_3 : List UInt8 := [132, 4, 1, 167, 255, 223, 3, 54, 4, 21, 4, 42, 180, 0, 225, 162, 0, 64, 42, 21, 4, 29]
abbrev dktX10_dusk_3 : List UInt8 := dkwX10_dusk_3 ++ dktX10_dusk_4
def dkwX10_dusk_2 : List UInt8 := [180, 0, 195, 21, 4, 42, 180, 0, 13, 21, 4, 46, 4, 160, 0, 7, 4, 167, 0, 4, 3, 84]
abbrev dktX10_dusk_2 : List UInt8 := dkwX10_dusk_2 ++ dktX10_dusk_3
def dkwX10_dusk_1 : List UInt8 := [182, 2, 49, 5, 182, 0, 214, 154, 0, 5, 3, 172, 3, 54, 4, 21, 4, 16, 64, 162, 0, 32, 42]
abbrev dktX10_dusk_1 : List UInt8 := dkwX10_dusk_1 ++ dktX10_dusk_2
def dkwX10_dusk_0 : List UInt8 := [42, 3, 181, 0, 1, 42, 27, 182, 0, 218, 153, 0, 24, 42, 28, 182, 0, 218, 153, 0, 16, 42, 42, 29]
abbrev dktX10_dusk_0 : List UInt8 := dkwX10_dusk_0 ++ dktX10_dusk_1
theorem dksX10_dusk_0 : cX10_dusk.data.toList.drop 0 = dktX10_dusk_0 := by decide +kernel
theorem dksX10_dusk_1 : cX10_dusk.data.toList.drop 24 = dktX10_dusk_1 := dk_seg dksX10_dusk_0 24 rfl rfl
theorem dksX10_dusk_2 : cX10_dusk.data.toList.drop 47 = dktX10_dusk_2 := dk_seg dksX10_dusk_1 23 rfl rfl
theorem dksX10_dusk_3 : cX10_dusk.data.toList.drop 69 = dktX10_dusk_3 := dk_seg dksX10_dusk_2 22 rfl rfl
theorem dksX10_dusk_4 : cX10_dusk.data.toList.drop 91 = dktX10_dusk_4 := dk_seg dksX10_dusk_3 22 rfl rfl
theorem dksX10_dusk_5 : cX10_dusk.data.toList.drop 114 = dktX10_dusk_5 := dk_seg dksX10_dusk_4 23 rfl rfl
theorem dksX10_dusk_6 : cX10_dusk.data.toList.drop 136 = dktX10_dusk_6 := dk_seg dksX10_dusk_5 22 rfl rfl
theorem dksX10_dusk_7 : cX10_dusk.data.toList.drop 159 = dktX10_dusk_7 := dk_seg dksX10_dusk_6 23 rfl rfl
theorem dksX10_dusk_8 : cX10_dusk.data.toList.drop 183 = dktX10_dusk_8 := dk_seg dksX10_dusk_7 24 rfl rfl
theorem dksX10_dusk_9 : cX10_dusk.data.toList.drop 207 = dktX10_dusk_9 := dk_seg dksX10_dusk_8 24 rfl rfl
theorem dksX10_dusk_10 : cX10_dusk.data.toList.drop 231 = dktX10_dusk_10 := dk_seg dksX10_dusk_9 24 rfl rfl
theorem dksX10_dusk_11 : cX10_dusk.data.toList.drop 255 = dktX10_dusk_11 := dk_seg dksX10_dusk_10 24 rfl rfl
theorem dksX10_dusk_12 : cX10_dusk.data.toList.drop 278 = dktX10_dusk_12 := dk_seg dksX10_dusk_11 23 rfl rfl
theorem dksX10_dusk_13 : cX10_dusk.data.toList.drop 301 = dktX10_dusk_13 := dk_seg dksX10_dusk_12 23 rfl rfl
theorem dksX10_dusk_14 : cX10_dusk.data.toList.drop 325 = dktX10_dusk_14 := dk_seg dksX10_dusk_13 24 rfl rfl
theorem dX10_dusk_0 : decode cX10_dusk 0 = .ok (.aload_n 0, 1) := dk_42 (dk_at dksX10_dusk_0 0 rfl rfl)
theorem dX10_dusk_1 : decode cX10_dusk 1 = .ok (.iconst 0, 1) := dk_3 (dk_at dksX10_dusk_0 1 rfl rfl)
theorem dX10_dusk_2 : decode cX10_dusk 2 = .ok (.putfield 1, 3) := dk_181 0 1 (dk_at dksX10_dusk_0 2 rfl rfl)
theorem dX10_dusk_5 : decode cX10_dusk 5 = .ok (.aload_n 0, 1) := dk_42 (dk_at dksX10_dusk_0 5 rfl rfl)
theorem dX10_dusk_6 : decode cX10_dusk 6 = .ok (.iload_n 1, 1) := dk_27 (dk_at dksX10_dusk_0 6 rfl rfl)
theorem dX10_dusk_7 : decode cX10_dusk 7 = .ok (.invokevirtual 218, 3) := dk_182 0 218 (dk_at dksX10_dusk_0 7 rfl rfl)
theorem dX10_dusk_10 : decode cX10_dusk 10 = .ok (.ifCond .eq 24, 3) := dk_153 0 24 (dk_at dksX10_dusk_0 10 rfl rfl)
theorem dX10_dusk_13 : decode cX10_dusk 13 = .ok (.aload_n 0, 1) := dk_42 (dk_at dksX10_dusk_0 13 rfl rfl)
theorem dX10_dusk_14 : decode cX10_dusk 14 = .ok (.iload_n 2, 1) := dk_28 (dk_at dksX10_dusk_0 14 rfl rfl)
theorem dX10_dusk_15 : decode cX10_dusk 15 = .ok (.invokevirtual 218, 3) := dk_182 0 218 (dk_at dksX10_dusk_0 15 rfl rfl)
theorem dX10_dusk_18 : decode cX10_dusk 18 = .ok (.ifCond .eq 16, 3) := dk_153 0 16 (dk_at dksX10_dusk_0 18 rfl rfl)
theorem dX10_dusk_21 : decode cX10_dusk 21 = .ok (.aload_n 0, 1) := dk_42 (dk_at dksX10_dusk_0 21 rfl rfl)
theorem dX10_dusk_22 : decode cX10_dusk 22 = .ok (.aload_n 0, 1) := dk_42 (dk_at dksX10_dusk_0 22 rfl rfl)
theorem dX10_dusk_23 : decode cX10_dusk 23 = .ok (.iload_n 3, 1) := dk_29 (dk_at dksX10_dusk_0 23 rfl rfl)
theorem dX10_dusk_24 : decode cX10_dusk 24 = .ok (.invokevirtual 561, 3) := dk_182 2 49 (dk_at dksX10_dusk_1 0 rfl rfl)
theorem dX10_dusk_27 : decode cX10_dusk 27 = .ok (.iconst 2, 1) := dk_5 (dk_at dksX10_dusk_1 3 rfl rfl)
theorem dX10_dusk_28 : decode cX10_dusk 28 = .ok (.invokevirtual 214, 3) := dk_182 0 214 (dk_at dksX10_dusk_1 4 rfl rfl)
theorem dX10_dusk_31 : decode cX10_dusk 31 = .ok (.ifCond .ne 5, 3) := dk_154 0 5 (dk_at dksX10_dusk_1 7 rfl rfl)
theorem dX10_dusk_34 : decode cX10_dusk 34 = .ok (.iconst 0, 1) := dk_3 (dk_at dksX10_dusk_1 10 rfl rfl)
theorem dX10_dusk_35 : decode cX10_dusk 35 = .ok (.ireturn, 1) := dk_172 (dk_at dksX10_dusk_1 11 rfl rfl)
theorem dX10_dusk_36 : decode cX10_dusk 36 = .ok (.iconst 0, 1) := dk_3 (dk_at dksX10_dusk_1 12 rfl rfl)
theorem dX10_dusk_37 : decode cX10_dusk 37 = .ok (.istore 4, 2) := dk_54 4 (dk_at dksX10_dusk_1 13 rfl rfl)
theorem dX10_dusk_39 : decode cX10_dusk 39 = .ok (.iload 4, 2) := dk_21 4 (dk_at dksX10_dusk_1 15 rfl rfl)
theorem dX10_dusk_41 : decode cX10_dusk 41 = .ok (.bipush 64, 2) := dk_16 64 (dk_at dksX10_dusk_1 17 rfl rfl)
theorem dX10_dusk_43 : decode cX10_dusk 43 = .ok (.if_icmp .ge 32, 3) := dk_162 0 32 (dk_at dksX10_dusk_1 19 rfl rfl)
theorem dX10_dusk_46 : decode cX10_dusk 46 = .ok (.aload_n 0, 1) := dk_42 (dk_at dksX10_dusk_1 22 rfl rfl)
theorem dX10_dusk_47 : decode cX10_dusk 47 = .ok (.getfield 195, 3) := dk_180 0 195 (dk_at dksX10_dusk_2 0 rfl rfl)
theorem dX10_dusk_50 : decode cX10_dusk 50 = .ok (.iload 4, 2) := dk_21 4 (dk_at dksX10_dusk_2 3 rfl rfl)
theorem dX10_dusk_52 : decode cX10_dusk 52 = .ok (.aload_n 0, 1) := dk_42 (dk_at dksX10_dusk_2 5 rfl rfl)
theorem dX10_dusk_53 : decode cX10_dusk 53 = .ok (.getfield 13, 3) := dk_180 0 13 (dk_at dksX10_dusk_2 6 rfl rfl)
theorem dX10_dusk_56 : decode cX10_dusk 56 = .ok (.iload 4, 2) := dk_21 4 (dk_at dksX10_dusk_2 9 rfl rfl)
theorem dX10_dusk_58 : decode cX10_dusk 58 = .ok (.iaload, 1) := dk_46 (dk_at dksX10_dusk_2 11 rfl rfl)
theorem dX10_dusk_59 : decode cX10_dusk 59 = .ok (.iconst 1, 1) := dk_4 (dk_at dksX10_dusk_2 12 rfl rfl)
theorem dX10_dusk_60 : decode cX10_dusk 60 = .ok (.if_icmp .ne 7, 3) := dk_160 0 7 (dk_at dksX10_dusk_2 13 rfl rfl)
theorem dX10_dusk_63 : decode cX10_dusk 63 = .ok (.iconst 1, 1) := dk_4 (dk_at dksX10_dusk_2 16 rfl rfl)
theorem dX10_dusk_64 : decode cX10_dusk 64 = .ok (.goto 4, 3) := dk_167 0 4 (dk_at dksX10_dusk_2 17 rfl rfl)
theorem dX10_dusk_67 : decode cX10_dusk 67 = .ok (.iconst 0, 1) := dk_3 (dk_at dksX10_dusk_2 20 rfl rfl)
theorem dX10_dusk_68 : decode cX10_dusk 68 = .ok (.bastore, 1) := dk_84 (dk_at dksX10_dusk_2 21 rfl rfl)
theorem dX10_dusk_69 : decode cX10_dusk 69 = .ok (.iinc 4 1, 3) := dk_132 4 1 (dk_at dksX10_dusk_3 0 rfl rfl)
theorem dX10_dusk_72 : decode cX10_dusk 72 = .ok (.goto (-33), 3) := dk_167 255 223 (dk_at dksX10_dusk_3 3 rfl rfl)
theorem dX10_dusk_75 : decode cX10_dusk 75 = .ok (.iconst 0, 1) := dk_3 (dk_at dksX10_dusk_3 6 rfl rfl)
theorem dX10_dusk_76 : decode cX10_dusk 76 = .ok (.istore 4, 2) := dk_54 4 (dk_at dksX10_dusk_3 7 rfl rfl)
theorem dX10_dusk_78 : decode cX10_dusk 78 = .ok (.iload 4, 2) := dk_21 4 (dk_at dksX10_dusk_3 9 rfl rfl)
theorem dX10_dusk_80 : decode cX10_dusk 80 = .ok (.aload_n 0, 1) := dk_42 (dk_at dksX10_dusk_3 11 rfl rfl)
theorem dX10_dusk_81 : decode cX10_dusk 81 = .ok (.getfield 225, 3) := dk_180 0 225 (dk_at dksX10_dusk_3 12 rfl rfl)
theorem dX10_dusk_84 : decode cX10_dusk 84 = .ok (.if_icmp .ge 64, 3) := dk_162 0 64 (dk_at dksX10_dusk_3 15 rfl rfl)
theorem dX10_dusk_87 : decode cX10_dusk 87 = .ok (.aload_n 0, 1) := dk_42 (dk_at dksX10_dusk_3 18 rfl rfl)
theorem dX10_dusk_88 : decode cX10_dusk 88 = .ok (.iload 4, 2) := dk_21 4 (dk_at dksX10_dusk_3 19 rfl rfl)
theorem dX10_dusk_90 : decode cX10_dusk 90 = .ok (.iload_n 3, 1) := dk_29 (dk_at dksX10_dusk_3 21 rfl rfl)
theorem dX10_dusk_91 : decode cX10_dusk 91 = .ok (.invokevirtual 568, 3) := dk_182 2 56 (dk_at dksX10_dusk_4 0 rfl rfl)
theorem dX10_dusk_94 : decode cX10_dusk 94 = .ok (.iconst 0, 1) := dk_3 (dk_at dksX10_dusk_4 3 rfl rfl)
theorem dX10_dusk_95 : decode cX10_dusk 95 = .ok (.istore 5, 2) := dk_54 5 (dk_at dksX10_dusk_4 4 rfl rfl)
theorem dX10_dusk_97 : decode cX10_dusk 97 = .ok (.iload 5, 2) := dk_21 5 (dk_at dksX10_dusk_4 6 rfl rfl)
theorem dX10_dusk_99 : decode cX10_dusk 99 = .ok (.bipush 64, 2) := dk_16 64 (dk_at dksX10_dusk_4 8 rfl rfl)
theorem dX10_dusk_101 : decode cX10_dusk 101 = .ok (.if_icmp .ge 41, 3) := dk_162 0 41 (dk_at dksX10_dusk_4 10 rfl rfl)
theorem dX10_dusk_104 : decode cX10_dusk 104 = .ok (.aload_n 0, 1) := dk_42 (dk_at dksX10_dusk_4 13 rfl rfl)
theorem dX10_dusk_105 : decode cX10_dusk 105 = .ok (.getfield 195, 3) := dk_180 0 195 (dk_at dksX10_dusk_4 14 rfl rfl)
theorem dX10_dusk_108 : decode cX10_dusk 108 = .ok (.iload 5, 2) := dk_21 5 (dk_at dksX10_dusk_4 17 rfl rfl)
theorem dX10_dusk_110 : decode cX10_dusk 110 = .ok (.aload_n 0, 1) := dk_42 (dk_at dksX10_dusk_4 19 rfl rfl)
theorem dX10_dusk_111 : decode cX10_dusk 111 = .ok (.getfield 195, 3) := dk_180 0 195 (dk_at dksX10_dusk_4 20 rfl rfl)
theorem dX10_dusk_114 : decode cX10_dusk 114 = .ok (.iload 5, 2) := dk_21 5 (dk_at dksX10_dusk_5 0 rfl rfl)
theorem dX10_dusk_116 : decode cX10_dusk 116 = .ok (.baload, 1) := dk_51 (dk_at dksX10_dusk_5 2 rfl rfl)
theorem dX10_dusk_117 : decode cX10_dusk 117 = .ok (.ifCond .ne 13, 3) := dk_154 0 13 (dk_at dksX10_dusk_5 3 rfl rfl)
theorem dX10_dusk_120 : decode cX10_dusk 120 = .ok (.aload_n 0, 1) := dk_42 (dk_at dksX10_dusk_5 6 rfl rfl)
theorem dX10_dusk_121 : decode cX10_dusk 121 = .ok (.getfield 171, 3) := dk_180 0 171 (dk_at dksX10_dusk_5 7 rfl rfl)
theorem dX10_dusk_124 : decode cX10_dusk 124 = .ok (.iload 5, 2) := dk_21 5 (dk_at dksX10_dusk_5 10 rfl rfl)
theorem dX10_dusk_126 : decode cX10_dusk 126 = .ok (.baload, 1) := dk_51 (dk_at dksX10_dusk_5 12 rfl rfl)
theorem dX10_dusk_127 : decode cX10_dusk 127 = .ok (.ifCond .eq 7, 3) := dk_153 0 7 (dk_at dksX10_dusk_5 13 rfl rfl)
theorem dX10_dusk_130 : decode cX10_dusk 130 = .ok (.iconst 1, 1) := dk_4 (dk_at dksX10_dusk_5 16 rfl rfl)
theorem dX10_dusk_131 : decode cX10_dusk 131 = .ok (.goto 4, 3) := dk_167 0 4 (dk_at dksX10_dusk_5 17 rfl rfl)
theorem dX10_dusk_134 : decode cX10_dusk 134 = .ok (.iconst 0, 1) := dk_3 (dk_at dksX10_dusk_5 20 rfl rfl)
theorem dX10_dusk_135 : decode cX10_dusk 135 = .ok (.bastore, 1) := dk_84 (dk_at dksX10_dusk_5 21 rfl rfl)
theorem dX10_dusk_136 : decode cX10_dusk 136 = .ok (.iinc 5 1, 3) := dk_132 5 1 (dk_at dksX10_dusk_6 0 rfl rfl)
theorem dX10_dusk_139 : decode cX10_dusk 139 = .ok (.goto (-42), 3) := dk_167 255 214 (dk_at dksX10_dusk_6 3 rfl rfl)
theorem dX10_dusk_142 : decode cX10_dusk 142 = .ok (.iinc 4 1, 3) := dk_132 4 1 (dk_at dksX10_dusk_6 6 rfl rfl)
theorem dX10_dusk_145 : decode cX10_dusk 145 = .ok (.goto (-67), 3) := dk_167 255 189 (dk_at dksX10_dusk_6 9 rfl rfl)
theorem dX10_dusk_148 : decode cX10_dusk 148 = .ok (.iconst 0, 1) := dk_3 (dk_at dksX10_dusk_6 12 rfl rfl)
theorem dX10_dusk_149 : decode cX10_dusk 149 = .ok (.istore 4, 2) := dk_54 4 (dk_at dksX10_dusk_6 13 rfl rfl)
theorem dX10_dusk_151 : decode cX10_dusk 151 = .ok (.iload 4, 2) := dk_21 4 (dk_at dksX10_dusk_6 15 rfl rfl)
theorem dX10_dusk_153 : decode cX10_dusk 153 = .ok (.bipush 64, 2) := dk_16 64 (dk_at dksX10_dusk_6 17 rfl rfl)
theorem dX10_dusk_155 : decode cX10_dusk 155 = .ok (.if_icmp .ge 19, 3) := dk_162 0 19 (dk_at dksX10_dusk_6 19 rfl rfl)
theorem dX10_dusk_158 : decode cX10_dusk 158 = .ok (.aload_n 0, 1) := dk_42 (dk_at dksX10_dusk_6 22 rfl rfl)
theorem dX10_dusk_159 : decode cX10_dusk 159 = .ok (.getfield 165, 3) := dk_180 0 165 (dk_at dksX10_dusk_7 0 rfl rfl)
theorem dX10_dusk_162 : decode cX10_dusk 162 = .ok (.iload 4, 2) := dk_21 4 (dk_at dksX10_dusk_7 3 rfl rfl)
theorem dX10_dusk_164 : decode cX10_dusk 164 = .ok (.ldc_w 378, 3) := dk_19 1 122 (dk_at dksX10_dusk_7 5 rfl rfl)
theorem dX10_dusk_167 : decode cX10_dusk 167 = .ok (.iastore, 1) := dk_79 (dk_at dksX10_dusk_7 8 rfl rfl)
theorem dX10_dusk_168 : decode cX10_dusk 168 = .ok (.iinc 4 1, 3) := dk_132 4 1 (dk_at dksX10_dusk_7 9 rfl rfl)
theorem dX10_dusk_171 : decode cX10_dusk 171 = .ok (.goto (-20), 3) := dk_167 255 236 (dk_at dksX10_dusk_7 12 rfl rfl)
theorem dX10_dusk_174 : decode cX10_dusk 174 = .ok (.aload_n 0, 1) := dk_42 (dk_at dksX10_dusk_7 15 rfl rfl)
theorem dX10_dusk_175 : decode cX10_dusk 175 = .ok (.getfield 195, 3) := dk_180 0 195 (dk_at dksX10_dusk_7 16 rfl rfl)
theorem dX10_dusk_178 : decode cX10_dusk 178 = .ok (.iload_n 1, 1) := dk_27 (dk_at dksX10_dusk_7 19 rfl rfl)
theorem dX10_dusk_179 : decode cX10_dusk 179 = .ok (.baload, 1) := dk_51 (dk_at dksX10_dusk_7 20 rfl rfl)
theorem dX10_dusk_180 : decode cX10_dusk 180 = .ok (.ifCond .ne 12, 3) := dk_154 0 12 (dk_at dksX10_dusk_7 21 rfl rfl)
theorem dX10_dusk_183 : decode cX10_dusk 183 = .ok (.aload_n 0, 1) := dk_42 (dk_at dksX10_dusk_8 0 rfl rfl)
theorem dX10_dusk_184 : decode cX10_dusk 184 = .ok (.getfield 195, 3) := dk_180 0 195 (dk_at dksX10_dusk_8 1 rfl rfl)
theorem dX10_dusk_187 : decode cX10_dusk 187 = .ok (.iload_n 2, 1) := dk_28 (dk_at dksX10_dusk_8 4 rfl rfl)
theorem dX10_dusk_188 : decode cX10_dusk 188 = .ok (.baload, 1) := dk_51 (dk_at dksX10_dusk_8 5 rfl rfl)
theorem dX10_dusk_189 : decode cX10_dusk 189 = .ok (.ifCond .eq 5, 3) := dk_153 0 5 (dk_at dksX10_dusk_8 6 rfl rfl)
theorem dX10_dusk_192 : decode cX10_dusk 192 = .ok (.iconst (-1), 1) := dk_2 (dk_at dksX10_dusk_8 9 rfl rfl)
theorem dX10_dusk_193 : decode cX10_dusk 193 = .ok (.ireturn, 1) := dk_172 (dk_at dksX10_dusk_8 10 rfl rfl)
theorem dX10_dusk_194 : decode cX10_dusk 194 = .ok (.aload_n 0, 1) := dk_42 (dk_at dksX10_dusk_8 11 rfl rfl)
theorem dX10_dusk_195 : decode cX10_dusk 195 = .ok (.getfield 165, 3) := dk_180 0 165 (dk_at dksX10_dusk_8 12 rfl rfl)
theorem dX10_dusk_198 : decode cX10_dusk 198 = .ok (.iload_n 1, 1) := dk_27 (dk_at dksX10_dusk_8 15 rfl rfl)
theorem dX10_dusk_199 : decode cX10_dusk 199 = .ok (.iconst 0, 1) := dk_3 (dk_at dksX10_dusk_8 16 rfl rfl)
theorem dX10_dusk_200 : decode cX10_dusk 200 = .ok (.iastore, 1) := dk_79 (dk_at dksX10_dusk_8 17 rfl rfl)
theorem dX10_dusk_201 : decode cX10_dusk 201 = .ok (.iconst 1, 1) := dk_4 (dk_at dksX10_dusk_8 18 rfl rfl)
theorem dX10_dusk_202 : decode cX10_dusk 202 = .ok (.istore 4, 2) := dk_54 4 (dk_at dksX10_dusk_8 19 rfl rfl)
theorem dX10_dusk_204 : decode cX10_dusk 204 = .ok (.iconst 0, 1) := dk_3 (dk_at dksX10_dusk_8 21 rfl rfl)
theorem dX10_dusk_205 : decode cX10_dusk 205 = .ok (.istore 5, 2) := dk_54 5 (dk_at dksX10_dusk_8 22 rfl rfl)
theorem dX10_dusk_207 : decode cX10_dusk 207 = .ok (.iload 4, 2) := dk_21 4 (dk_at dksX10_dusk_9 0 rfl rfl)
theorem dX10_dusk_209 : decode cX10_dusk 209 = .ok (.ifCond .eq 110, 3) := dk_153 0 110 (dk_at dksX10_dusk_9 2 rfl rfl)
theorem dX10_dusk_212 : decode cX10_dusk 212 = .ok (.iconst 0, 1) := dk_3 (dk_at dksX10_dusk_9 5 rfl rfl)
theorem dX10_dusk_213 : decode cX10_dusk 213 = .ok (.istore 4, 2) := dk_54 4 (dk_at dksX10_dusk_9 6 rfl rfl)
theorem dX10_dusk_215 : decode cX10_dusk 215 = .ok (.iconst 0, 1) := dk_3 (dk_at dksX10_dusk_9 8 rfl rfl)
theorem dX10_dusk_216 : decode cX10_dusk 216 = .ok (.istore 6, 2) := dk_54 6 (dk_at dksX10_dusk_9 9 rfl rfl)
theorem dX10_dusk_218 : decode cX10_dusk 218 = .ok (.iload 6, 2) := dk_21 6 (dk_at dksX10_dusk_9 11 rfl rfl)
theorem dX10_dusk_220 : decode cX10_dusk 220 = .ok (.bipush 64, 2) := dk_16 64 (dk_at dksX10_dusk_9 13 rfl rfl)
theorem dX10_dusk_222 : decode cX10_dusk 222 = .ok (.if_icmp .ge 91, 3) := dk_162 0 91 (dk_at dksX10_dusk_9 15 rfl rfl)
theorem dX10_dusk_225 : decode cX10_dusk 225 = .ok (.iconst 0, 1) := dk_3 (dk_at dksX10_dusk_9 18 rfl rfl)
theorem dX10_dusk_226 : decode cX10_dusk 226 = .ok (.istore 7, 2) := dk_54 7 (dk_at dksX10_dusk_9 19 rfl rfl)
theorem dX10_dusk_228 : decode cX10_dusk 228 = .ok (.iload 7, 2) := dk_21 7 (dk_at dksX10_dusk_9 21 rfl rfl)
theorem dX10_dusk_230 : decode cX10_dusk 230 = .ok (.iconst 4, 1) := dk_7 (dk_at dksX10_dusk_9 23 rfl rfl)
theorem dX10_dusk_231 : decode cX10_dusk 231 = .ok (.if_icmp .ge 76, 3) := dk_162 0 76 (dk_at dksX10_dusk_10 0 rfl rfl)
theorem dX10_dusk_234 : decode cX10_dusk 234 = .ok (.aload_n 0, 1) := dk_42 (dk_at dksX10_dusk_10 3 rfl rfl)
theorem dX10_dusk_235 : decode cX10_dusk 235 = .ok (.getfield 165, 3) := dk_180 0 165 (dk_at dksX10_dusk_10 4 rfl rfl)
theorem dX10_dusk_238 : decode cX10_dusk 238 = .ok (.iload 6, 2) := dk_21 6 (dk_at dksX10_dusk_10 7 rfl rfl)
theorem dX10_dusk_240 : decode cX10_dusk 240 = .ok (.iaload, 1) := dk_46 (dk_at dksX10_dusk_10 9 rfl rfl)
theorem dX10_dusk_241 : decode cX10_dusk 241 = .ok (.iload 5, 2) := dk_21 5 (dk_at dksX10_dusk_10 10 rfl rfl)
theorem dX10_dusk_243 : decode cX10_dusk 243 = .ok (.if_icmp .ne 64, 3) := dk_160 0 64 (dk_at dksX10_dusk_10 12 rfl rfl)
theorem dX10_dusk_246 : decode cX10_dusk 246 = .ok (.iload 6, 2) := dk_21 6 (dk_at dksX10_dusk_10 15 rfl rfl)
theorem dX10_dusk_248 : decode cX10_dusk 248 = .ok (.iload 7, 2) := dk_21 7 (dk_at dksX10_dusk_10 17 rfl rfl)
theorem dX10_dusk_250 : decode cX10_dusk 250 = .ok (.invokestatic 379, 3) := dk_184 1 123 (dk_at dksX10_dusk_10 19 rfl rfl)
theorem dX10_dusk_253 : decode cX10_dusk 253 = .ok (.istore 8, 2) := dk_54 8 (dk_at dksX10_dusk_10 22 rfl rfl)
theorem dX10_dusk_255 : decode cX10_dusk 255 = .ok (.iload 8, 2) := dk_21 8 (dk_at dksX10_dusk_11 0 rfl rfl)
theorem dX10_dusk_257 : decode cX10_dusk 257 = .ok (.iconst (-1), 1) := dk_2 (dk_at dksX10_dusk_11 2 rfl rfl)
theorem dX10_dusk_258 : decode cX10_dusk 258 = .ok (.if_icmp .eq 43, 3) := dk_159 0 43 (dk_at dksX10_dusk_11 3 rfl rfl)
theorem dX10_dusk_261 : decode cX10_dusk 261 = .ok (.aload_n 0, 1) := dk_42 (dk_at dksX10_dusk_11 6 rfl rfl)
theorem dX10_dusk_262 : decode cX10_dusk 262 = .ok (.getfield 195, 3) := dk_180 0 195 (dk_at dksX10_dusk_11 7 rfl rfl)
theorem dX10_dusk_265 : decode cX10_dusk 265 = .ok (.iload 8, 2) := dk_21 8 (dk_at dksX10_dusk_11 10 rfl rfl)
theorem dX10_dusk_267 : decode cX10_dusk 267 = .ok (.baload, 1) := dk_51 (dk_at dksX10_dusk_11 12 rfl rfl)
theorem dX10_dusk_268 : decode cX10_dusk 268 = .ok (.ifCond .ne 33, 3) := dk_154 0 33 (dk_at dksX10_dusk_11 13 rfl rfl)
theorem dX10_dusk_271 : decode cX10_dusk 271 = .ok (.aload_n 0, 1) := dk_42 (dk_at dksX10_dusk_11 16 rfl rfl)
theorem dX10_dusk_272 : decode cX10_dusk 272 = .ok (.getfield 165, 3) := dk_180 0 165 (dk_at dksX10_dusk_11 17 rfl rfl)
theorem dX10_dusk_275 : decode cX10_dusk 275 = .ok (.iload 8, 2) := dk_21 8 (dk_at dksX10_dusk_11 20 rfl rfl)
theorem dX10_dusk_277 : decode cX10_dusk 277 = .ok (.iaload, 1) := dk_46 (dk_at dksX10_dusk_11 22 rfl rfl)
theorem dX10_dusk_278 : decode cX10_dusk 278 = .ok (.ldc_w 378, 3) := dk_19 1 122 (dk_at dksX10_dusk_12 0 rfl rfl)
theorem dX10_dusk_281 : decode cX10_dusk 281 = .ok (.if_icmp .eq 6, 3) := dk_159 0 6 (dk_at dksX10_dusk_12 3 rfl rfl)
theorem dX10_dusk_284 : decode cX10_dusk 284 = .ok (.goto 17, 3) := dk_167 0 17 (dk_at dksX10_dusk_12 6 rfl rfl)
theorem dX10_dusk_287 : decode cX10_dusk 287 = .ok (.aload_n 0, 1) := dk_42 (dk_at dksX10_dusk_12 9 rfl rfl)
theorem dX10_dusk_288 : decode cX10_dusk 288 = .ok (.getfield 165, 3) := dk_180 0 165 (dk_at dksX10_dusk_12 10 rfl rfl)
theorem dX10_dusk_291 : decode cX10_dusk 291 = .ok (.iload 8, 2) := dk_21 8 (dk_at dksX10_dusk_12 13 rfl rfl)
theorem dX10_dusk_293 : decode cX10_dusk 293 = .ok (.iload 5, 2) := dk_21 5 (dk_at dksX10_dusk_12 15 rfl rfl)
theorem dX10_dusk_295 : decode cX10_dusk 295 = .ok (.iconst 1, 1) := dk_4 (dk_at dksX10_dusk_12 17 rfl rfl)
theorem dX10_dusk_296 : decode cX10_dusk 296 = .ok (.iadd, 1) := dk_96 (dk_at dksX10_dusk_12 18 rfl rfl)
theorem dX10_dusk_297 : decode cX10_dusk 297 = .ok (.iastore, 1) := dk_79 (dk_at dksX10_dusk_12 19 rfl rfl)
theorem dX10_dusk_298 : decode cX10_dusk 298 = .ok (.iconst 1, 1) := dk_4 (dk_at dksX10_dusk_12 20 rfl rfl)
theorem dX10_dusk_299 : decode cX10_dusk 299 = .ok (.istore 4, 2) := dk_54 4 (dk_at dksX10_dusk_12 21 rfl rfl)
theorem dX10_dusk_301 : decode cX10_dusk 301 = .ok (.iinc 7 1, 3) := dk_132 7 1 (dk_at dksX10_dusk_13 0 rfl rfl)
theorem dX10_dusk_304 : decode cX10_dusk 304 = .ok (.goto (-76), 3) := dk_167 255 180 (dk_at dksX10_dusk_13 3 rfl rfl)
theorem dX10_dusk_307 : decode cX10_dusk 307 = .ok (.iinc 6 1, 3) := dk_132 6 1 (dk_at dksX10_dusk_13 6 rfl rfl)
theorem dX10_dusk_310 : decode cX10_dusk 310 = .ok (.goto (-92), 3) := dk_167 255 164 (dk_at dksX10_dusk_13 9 rfl rfl)
theorem dX10_dusk_313 : decode cX10_dusk 313 = .ok (.iinc 5 1, 3) := dk_132 5 1 (dk_at dksX10_dusk_13 12 rfl rfl)
theorem dX10_dusk_316 : decode cX10_dusk 316 = .ok (.goto (-109), 3) := dk_167 255 147 (dk_at dksX10_dusk_13 15 rfl rfl)
theorem dX10_dusk_319 : decode cX10_dusk 319 = .ok (.aload_n 0, 1) := dk_42 (dk_at dksX10_dusk_13 18 rfl rfl)
theorem dX10_dusk_320 : decode cX10_dusk 320 = .ok (.getfield 165, 3) := dk_180 0 165 (dk_at dksX10_dusk_13 19 rfl rfl)
theorem dX10_dusk_323 : decode cX10_dusk 323 = .ok (.iload_n 2, 1) := dk_28 (dk_at dksX10_dusk_13 22 rfl rfl)
theorem dX10_dusk_324 : decode cX10_dusk 324 = .ok (.iaload, 1) := dk_46 (dk_at dksX10_dusk_13 23 rfl rfl)
theorem dX10_dusk_325 : decode cX10_dusk 325 = .ok (.ldc_w 378, 3) := dk_19 1 122 (dk_at dksX10_dusk_14 0 rfl rfl)
theorem dX10_dusk_328 : decode cX10_dusk 328 = .ok (.if_icmp .ne 7, 3) := dk_160 0 7 (dk_at dksX10_dusk_14 3 rfl rfl)
theorem dX10_dusk_331 : decode cX10_dusk 331 = .ok (.iconst (-1), 1) := dk_2 (dk_at dksX10_dusk_14 6 rfl rfl)
theorem dX10_dusk_332 : decode cX10_dusk 332 = .ok (.goto 9, 3) := dk_167 0 9 (dk_at dksX10_dusk_14 7 rfl rfl)
theorem dX10_dusk_335 : decode cX10_dusk 335 = .ok (.aload_n 0, 1) := dk_42 (dk_at dksX10_dusk_14 10 rfl rfl)
theorem dX10_dusk_336 : decode cX10_dusk 336 = .ok (.getfield 165, 3) := dk_180 0 165 (dk_at dksX10_dusk_14 11 rfl rfl)
theorem dX10_dusk_339 : decode cX10_dusk 339 = .ok (.iload_n 2, 1) := dk_28 (dk_at dksX10_dusk_14 14 rfl rfl)
theorem dX10_dusk_340 : decode cX10_dusk 340 = .ok (.iaload, 1) := dk_46 (dk_at dksX10_dusk_14 15 rfl rfl)
theorem dX10_dusk_341 : decode cX10_dusk 341 = .ok (.ireturn, 1) := dk_172 (dk_at dksX10_dusk_14 16 rfl rfl)
def dkwX10_lease_1 : List UInt8 := [180, 0, 198, 27, 28, 84, 29, 172]
abbrev dktX10_lease_1 : List UInt8 := dkwX10_lease_1 ++ []
def dkwX10_lease_0 : List UInt8 := [42, 3, 181, 0, 1, 42, 27, 182, 0, 218, 154, 0, 5, 3, 172, 42, 180, 0, 198, 27, 51, 62, 42]
abbrev dktX10_lease_0 : List UInt8 := dkwX10_lease_0 ++ dktX10_lease_1
theorem dksX10_lease_0 : cX10_lease.data.toList.drop 0 = dktX10_lease_0 := by decide +kernel
theorem dksX10_lease_1 : cX10_lease.data.toList.drop 23 = dktX10_lease_1 := dk_seg dksX10_lease_0 23 rfl rfl
theorem dX10_lease_0 : decode cX10_lease 0 = .ok (.aload_n 0, 1) := dk_42 (dk_at dksX10_lease_0 0 rfl rfl)
theorem dX10_lease_1 : decode cX10_lease 1 = .ok (.iconst 0, 1) := dk_3 (dk_at dksX10_lease_0 1 rfl rfl)
theorem dX10_lease_2 : decode cX10_lease 2 = .ok (.putfield 1, 3) := dk_181 0 1 (dk_at dksX10_lease_0 2 rfl rfl)
theorem dX10_lease_5 : decode cX10_lease 5 = .ok (.aload_n 0, 1) := dk_42 (dk_at dksX10_lease_0 5 rfl rfl)
theorem dX10_lease_6 : decode cX10_lease 6 = .ok (.iload_n 1, 1) := dk_27 (dk_at dksX10_lease_0 6 rfl rfl)
theorem dX10_lease_7 : decode cX10_lease 7 = .ok (.invokevirtual 218, 3) := dk_182 0 218 (dk_at dksX10_lease_0 7 rfl rfl)
theorem dX10_lease_10 : decode cX10_lease 10 = .ok (.ifCond .ne 5, 3) := dk_154 0 5 (dk_at dksX10_lease_0 10 rfl rfl)
theorem dX10_lease_13 : decode cX10_lease 13 = .ok (.iconst 0, 1) := dk_3 (dk_at dksX10_lease_0 13 rfl rfl)
theorem dX10_lease_14 : decode cX10_lease 14 = .ok (.ireturn, 1) := dk_172 (dk_at dksX10_lease_0 14 rfl rfl)
theorem dX10_lease_15 : decode cX10_lease 15 = .ok (.aload_n 0, 1) := dk_42 (dk_at dksX10_lease_0 15 rfl rfl)
theorem dX10_lease_16 : decode cX10_lease 16 = .ok (.getfield 198, 3) := dk_180 0 198 (dk_at dksX10_lease_0 16 rfl rfl)
theorem dX10_lease_19 : decode cX10_lease 19 = .ok (.iload_n 1, 1) := dk_27 (dk_at dksX10_lease_0 19 rfl rfl)
theorem dX10_lease_20 : decode cX10_lease 20 = .ok (.baload, 1) := dk_51 (dk_at dksX10_lease_0 20 rfl rfl)
theorem dX10_lease_21 : decode cX10_lease 21 = .ok (.istore_n 3, 1) := dk_62 (dk_at dksX10_lease_0 21 rfl rfl)
theorem dX10_lease_22 : decode cX10_lease 22 = .ok (.aload_n 0, 1) := dk_42 (dk_at dksX10_lease_0 22 rfl rfl)
theorem dX10_lease_23 : decode cX10_lease 23 = .ok (.getfield 198, 3) := dk_180 0 198 (dk_at dksX10_lease_1 0 rfl rfl)
theorem dX10_lease_26 : decode cX10_lease 26 = .ok (.iload_n 1, 1) := dk_27 (dk_at dksX10_lease_1 3 rfl rfl)
theorem dX10_lease_27 : decode cX10_lease 27 = .ok (.iload_n 2, 1) := dk_28 (dk_at dksX10_lease_1 4 rfl rfl)
theorem dX10_lease_28 : decode cX10_lease 28 = .ok (.bastore, 1) := dk_84 (dk_at dksX10_lease_1 5 rfl rfl)
theorem dX10_lease_29 : decode cX10_lease 29 = .ok (.iload_n 3, 1) := dk_29 (dk_at dksX10_lease_1 6 rfl rfl)
theorem dX10_lease_30 : decode cX10_lease 30 = .ok (.ireturn, 1) := dk_172 (dk_at dksX10_lease_1 7 rfl rfl)
def dkwX10_rent_1 : List UInt8 := [182, 0, 214, 154, 0, 5, 3, 172, 42, 180, 0, 201, 27, 46, 62, 42, 180, 0, 201, 27, 28, 79, 29, 172]
abbrev dktX10_rent_1 : List UInt8 := dkwX10_rent_1 ++ []
def dkwX10_rent_0 : List UInt8 := [42, 3, 181, 0, 1, 42, 27, 182, 0, 218, 153, 0, 19, 42, 28, 3, 17, 3, 232, 184, 0, 210, 5]
abbrev dktX10_rent_0 : List UInt8 := dkwX10_rent_0 ++ dktX10_rent_1
theorem dksX10_rent_0 : cX10_rent.data.toList.drop 0 = dktX10_rent_0 := by decide +kernel
theorem dksX10_rent_1 : cX10_rent.data.toList.drop 23 = dktX10_rent_1 := dk_seg dksX10_rent_0 23 rfl rfl
theorem dX10_rent_0 : decode cX10_rent 0 = .ok (.aload_n 0, 1) := dk_42 (dk_at dksX10_rent_0 0 rfl rfl)
theorem dX10_rent_1 : decode cX10_rent 1 = .ok (.iconst 0, 1) := dk_3 (dk_at dksX10_rent_0 1 rfl rfl)
theorem dX10_rent_2 : decode cX10_rent 2 = .ok (.putfield 1, 3) := dk_181 0 1 (dk_at dksX10_rent_0 2 rfl rfl)
theorem dX10_rent_5 : decode cX10_rent 5 = .ok (.aload_n 0, 1) := dk_42 (dk_at dksX10_rent_0 5 rfl rfl)
theorem dX10_rent_6 : decode cX10_rent 6 = .ok (.iload_n 1, 1) := dk_27 (dk_at dksX10_rent_0 6 rfl rfl)
theorem dX10_rent_7 : decode cX10_rent 7 = .ok (.invokevirtual 218, 3) := dk_182 0 218 (dk_at dksX10_rent_0 7 rfl rfl)
theorem dX10_rent_10 : decode cX10_rent 10 = .ok (.ifCond .eq 19, 3) := dk_153 0 19 (dk_at dksX10_rent_0 10 rfl rfl)
theorem dX10_rent_13 : decode cX10_rent 13 = .ok (.aload_n 0, 1) := dk_42 (dk_at dksX10_rent_0 13 rfl rfl)
theorem dX10_rent_14 : decode cX10_rent 14 = .ok (.iload_n 2, 1) := dk_28 (dk_at dksX10_rent_0 14 rfl rfl)
theorem dX10_rent_15 : decode cX10_rent 15 = .ok (.iconst 0, 1) := dk_3 (dk_at dksX10_rent_0 15 rfl rfl)
theorem dX10_rent_16 : decode cX10_rent 16 = .ok (.sipush 1000, 3) := dk_17 3 232 (dk_at dksX10_rent_0 16 rfl rfl)
theorem dX10_rent_19 : decode cX10_rent 19 = .ok (.invokestatic 210, 3) := dk_184 0 210 (dk_at dksX10_rent_0 19 rfl rfl)
theorem dX10_rent_22 : decode cX10_rent 22 = .ok (.iconst 2, 1) := dk_5 (dk_at dksX10_rent_0 22 rfl rfl)
theorem dX10_rent_23 : decode cX10_rent 23 = .ok (.invokevirtual 214, 3) := dk_182 0 214 (dk_at dksX10_rent_1 0 rfl rfl)
theorem dX10_rent_26 : decode cX10_rent 26 = .ok (.ifCond .ne 5, 3) := dk_154 0 5 (dk_at dksX10_rent_1 3 rfl rfl)
theorem dX10_rent_29 : decode cX10_rent 29 = .ok (.iconst 0, 1) := dk_3 (dk_at dksX10_rent_1 6 rfl rfl)
theorem dX10_rent_30 : decode cX10_rent 30 = .ok (.ireturn, 1) := dk_172 (dk_at dksX10_rent_1 7 rfl rfl)
theorem dX10_rent_31 : decode cX10_rent 31 = .ok (.aload_n 0, 1) := dk_42 (dk_at dksX10_rent_1 8 rfl rfl)
theorem dX10_rent_32 : decode cX10_rent 32 = .ok (.getfield 201, 3) := dk_180 0 201 (dk_at dksX10_rent_1 9 rfl rfl)
theorem dX10_rent_35 : decode cX10_rent 35 = .ok (.iload_n 1, 1) := dk_27 (dk_at dksX10_rent_1 12 rfl rfl)
theorem dX10_rent_36 : decode cX10_rent 36 = .ok (.iaload, 1) := dk_46 (dk_at dksX10_rent_1 13 rfl rfl)
theorem dX10_rent_37 : decode cX10_rent 37 = .ok (.istore_n 3, 1) := dk_62 (dk_at dksX10_rent_1 14 rfl rfl)
theorem dX10_rent_38 : decode cX10_rent 38 = .ok (.aload_n 0, 1) := dk_42 (dk_at dksX10_rent_1 15 rfl rfl)
theorem dX10_rent_39 : decode cX10_rent 39 = .ok (.getfield 201, 3) := dk_180 0 201 (dk_at dksX10_rent_1 16 rfl rfl)
theorem dX10_rent_42 : decode cX10_rent 42 = .ok (.iload_n 1, 1) := dk_27 (dk_at dksX10_rent_1 19 rfl rfl)
theorem dX10_rent_43 : decode cX10_rent 43 = .ok (.iload_n 2, 1) := dk_28 (dk_at dksX10_rent_1 20 rfl rfl)
theorem dX10_rent_44 : decode cX10_rent 44 = .ok (.iastore, 1) := dk_79 (dk_at dksX10_rent_1 21 rfl rfl)
theorem dX10_rent_45 : decode cX10_rent 45 = .ok (.iload_n 3, 1) := dk_29 (dk_at dksX10_rent_1 22 rfl rfl)
theorem dX10_rent_46 : decode cX10_rent 46 = .ok (.ireturn, 1) := dk_172 (dk_at dksX10_rent_1 23 rfl rfl)
def dkwX10_rents_2 : List UInt8 := [27, 46, 17, 39, 16, 108, 172]
abbrev dktX10_rents_2 : List UInt8 := dkwX10_rents_2 ++ []
def dkwX10_rents_1 : List UInt8 := [28, 182, 2, 86, 42, 180, 0, 204, 27, 46, 19, 1, 122, 160, 0, 7, 2, 167, 0, 13, 42, 180, 0, 204]
abbrev dktX10_rents_1 : List UInt8 := dkwX10_rents_1 ++ dktX10_rents_2
def dkwX10_rents_0 : List UInt8 := [42, 3, 181, 0, 1, 42, 27, 182, 0, 218, 153, 0, 11, 42, 28, 182, 0, 218, 154, 0, 5, 3, 172, 42]
abbrev dktX10_rents_0 : List UInt8 := dkwX10_rents_0 ++ dktX10_rents_1
theorem dksX10_rents_0 : cX10_rents.data.toList.drop 0 = dktX10_rents_0 := by decide +kernel
theorem dksX10_rents_1 : cX10_rents.data.toList.drop 24 = dktX10_rents_1 := dk_seg dksX10_rents_0 24 rfl rfl
theorem dksX10_rents_2 : cX10_rents.data.toList.drop 48 = dktX10_rents_2 := dk_seg dksX10_rents_1 24 rfl rfl
theorem dX10_rents_0 : decode cX10_rents 0 = .ok (.aload_n 0, 1) := dk_42 (dk_at dksX10_rents_0 0 rfl rfl)
theorem dX10_rents_1 : decode cX10_rents 1 = .ok (.iconst 0, 1) := dk_3 (dk_at dksX10_rents_0 1 rfl rfl)
theorem dX10_rents_2 : decode cX10_rents 2 = .ok (.putfield 1, 3) := dk_181 0 1 (dk_at dksX10_rents_0 2 rfl rfl)
theorem dX10_rents_5 : decode cX10_rents 5 = .ok (.aload_n 0, 1) := dk_42 (dk_at dksX10_rents_0 5 rfl rfl)
theorem dX10_rents_6 : decode cX10_rents 6 = .ok (.iload_n 1, 1) := dk_27 (dk_at dksX10_rents_0 6 rfl rfl)
theorem dX10_rents_7 : decode cX10_rents 7 = .ok (.invokevirtual 218, 3) := dk_182 0 218 (dk_at dksX10_rents_0 7 rfl rfl)
theorem dX10_rents_10 : decode cX10_rents 10 = .ok (.ifCond .eq 11, 3) := dk_153 0 11 (dk_at dksX10_rents_0 10 rfl rfl)
theorem dX10_rents_13 : decode cX10_rents 13 = .ok (.aload_n 0, 1) := dk_42 (dk_at dksX10_rents_0 13 rfl rfl)
theorem dX10_rents_14 : decode cX10_rents 14 = .ok (.iload_n 2, 1) := dk_28 (dk_at dksX10_rents_0 14 rfl rfl)
theorem dX10_rents_15 : decode cX10_rents 15 = .ok (.invokevirtual 218, 3) := dk_182 0 218 (dk_at dksX10_rents_0 15 rfl rfl)
theorem dX10_rents_18 : decode cX10_rents 18 = .ok (.ifCond .ne 5, 3) := dk_154 0 5 (dk_at dksX10_rents_0 18 rfl rfl)
theorem dX10_rents_21 : decode cX10_rents 21 = .ok (.iconst 0, 1) := dk_3 (dk_at dksX10_rents_0 21 rfl rfl)
theorem dX10_rents_22 : decode cX10_rents 22 = .ok (.ireturn, 1) := dk_172 (dk_at dksX10_rents_0 22 rfl rfl)
theorem dX10_rents_23 : decode cX10_rents 23 = .ok (.aload_n 0, 1) := dk_42 (dk_at dksX10_rents_0 23 rfl rfl)
theorem dX10_rents_24 : decode cX10_rents 24 = .ok (.iload_n 2, 1) := dk_28 (dk_at dksX10_rents_1 0 rfl rfl)
theorem dX10_rents_25 : decode cX10_rents 25 = .ok (.invokevirtual 598, 3) := dk_182 2 86 (dk_at dksX10_rents_1 1 rfl rfl)
theorem dX10_rents_28 : decode cX10_rents 28 = .ok (.aload_n 0, 1) := dk_42 (dk_at dksX10_rents_1 4 rfl rfl)
theorem dX10_rents_29 : decode cX10_rents 29 = .ok (.getfield 204, 3) := dk_180 0 204 (dk_at dksX10_rents_1 5 rfl rfl)
theorem dX10_rents_32 : decode cX10_rents 32 = .ok (.iload_n 1, 1) := dk_27 (dk_at dksX10_rents_1 8 rfl rfl)
theorem dX10_rents_33 : decode cX10_rents 33 = .ok (.iaload, 1) := dk_46 (dk_at dksX10_rents_1 9 rfl rfl)
theorem dX10_rents_34 : decode cX10_rents 34 = .ok (.ldc_w 378, 3) := dk_19 1 122 (dk_at dksX10_rents_1 10 rfl rfl)
theorem dX10_rents_37 : decode cX10_rents 37 = .ok (.if_icmp .ne 7, 3) := dk_160 0 7 (dk_at dksX10_rents_1 13 rfl rfl)
theorem dX10_rents_40 : decode cX10_rents 40 = .ok (.iconst (-1), 1) := dk_2 (dk_at dksX10_rents_1 16 rfl rfl)
theorem dX10_rents_41 : decode cX10_rents 41 = .ok (.goto 13, 3) := dk_167 0 13 (dk_at dksX10_rents_1 17 rfl rfl)
theorem dX10_rents_44 : decode cX10_rents 44 = .ok (.aload_n 0, 1) := dk_42 (dk_at dksX10_rents_1 20 rfl rfl)
theorem dX10_rents_45 : decode cX10_rents 45 = .ok (.getfield 204, 3) := dk_180 0 204 (dk_at dksX10_rents_1 21 rfl rfl)
theorem dX10_rents_48 : decode cX10_rents 48 = .ok (.iload_n 1, 1) := dk_27 (dk_at dksX10_rents_2 0 rfl rfl)
theorem dX10_rents_49 : decode cX10_rents 49 = .ok (.iaload, 1) := dk_46 (dk_at dksX10_rents_2 1 rfl rfl)
theorem dX10_rents_50 : decode cX10_rents 50 = .ok (.sipush 10000, 3) := dk_17 39 16 (dk_at dksX10_rents_2 2 rfl rfl)
theorem dX10_rents_53 : decode cX10_rents 53 = .ok (.idiv, 1) := dk_108 (dk_at dksX10_rents_2 5 rfl rfl)
theorem dX10_rents_54 : decode cX10_rents 54 = .ok (.ireturn, 1) := dk_172 (dk_at dksX10_rents_2 6 rfl rfl)
def dkwX10_findRest_7 : List UInt8 := [167, 255, 138, 177]
abbrev dktX10_findRest_7 : List UInt8 := dkwX10_findRest_7 ++ []
def dkwX10_findRest_6 : List UInt8 := [46, 42, 29, 182, 2, 83, 96, 79, 4, 61, 132, 4, 1, 167, 255, 164, 132, 3, 1, 167, 255, 149]
abbrev dktX10_findRest_6 : List UInt8 := dkwX10_findRest_6 ++ dktX10_findRest_7
def dkwX10_findRest_5 : List UInt8 := [96, 42, 180, 0, 204, 29, 46, 161, 0, 6, 167, 0, 24, 42, 180, 0, 204, 29, 42, 180, 0, 204, 21, 5]
abbrev dktX10_findRest_5 : List UInt8 := dkwX10_findRest_5 ++ dktX10_findRest_6
def dkwX10_findRest_4 : List UInt8 := [180, 0, 204, 21, 5, 46, 19, 1, 122, 159, 0, 49, 42, 180, 0, 204, 21, 5, 46, 42, 29, 182, 2, 83]
abbrev dktX10_findRest_4 : List UInt8 := dkwX10_findRest_4 ++ dktX10_findRest_5
def dkwX10_findRest_3 : List UInt8 := [180, 0, 13, 29, 46, 4, 159, 0, 82, 29, 21, 4, 184, 1, 123, 54, 5, 21, 5, 2, 159, 0, 62, 42]
abbrev dktX10_findRest_3 : List UInt8 := dkwX10_findRest_3 ++ dktX10_findRest_4
def dkwX10_findRest_2 : List UInt8 := [153, 0, 120, 3, 61, 3, 62, 29, 16, 64, 162, 0, 107, 3, 54, 4, 21, 4, 7, 162, 0, 92, 42]
abbrev dktX10_findRest_2 : List UInt8 := dkwX10_findRest_2 ++ dktX10_findRest_3
def dkwX10_findRest_1 : List UInt8 := [180, 0, 13, 27, 46, 4, 160, 0, 4, 177, 42, 180, 0, 204, 27, 42, 27, 182, 2, 83, 79, 4, 61, 28]
abbrev dktX10_findRest_1 : List UInt8 := dkwX10_findRest_1 ++ dktX10_findRest_2
def dkwX10_findRest_0 : List UInt8 := [3, 61, 28, 16, 64, 162, 0, 18, 42, 180, 0, 204, 28, 19, 1, 122, 79, 132, 2, 1, 167, 255, 238, 42]
abbrev dktX10_findRest_0 : List UInt8 := dkwX10_findRest_0 ++ dktX10_findRest_1
theorem dksX10_findRest_0 : cX10_findRest.data.toList.drop 0 = dktX10_findRest_0 := by decide +kernel
theorem dksX10_findRest_1 : cX10_findRest.data.toList.drop 24 = dktX10_findRest_1 := dk_seg dksX10_findRest_0 24 rfl rfl
theorem dksX10_findRest_2 : cX10_findRest.data.toList.drop 48 = dktX10_findRest_2 := dk_seg dksX10_findRest_1 24 rfl rfl
theorem dksX10_findRest_3 : cX10_findRest.data.toList.drop 71 = dktX10_findRest_3 := dk_seg dksX10_findRest_2 23 rfl rfl
theorem dksX10_findRest_4 : cX10_findRest.data.toList.drop 95 = dktX10_findRest_4 := dk_seg dksX10_findRest_3 24 rfl rfl
theorem dksX10_findRest_5 : cX10_findRest.data.toList.drop 119 = dktX10_findRest_5 := dk_seg dksX10_findRest_4 24 rfl rfl
theorem dksX10_findRest_6 : cX10_findRest.data.toList.drop 143 = dktX10_findRest_6 := dk_seg dksX10_findRest_5 24 rfl rfl
theorem dksX10_findRest_7 : cX10_findRest.data.toList.drop 165 = dktX10_findRest_7 := dk_seg dksX10_findRest_6 22 rfl rfl
theorem dX10_findRest_0 : decode cX10_findRest 0 = .ok (.iconst 0, 1) := dk_3 (dk_at dksX10_findRest_0 0 rfl rfl)
theorem dX10_findRest_1 : decode cX10_findRest 1 = .ok (.istore_n 2, 1) := dk_61 (dk_at dksX10_findRest_0 1 rfl rfl)
theorem dX10_findRest_2 : decode cX10_findRest 2 = .ok (.iload_n 2, 1) := dk_28 (dk_at dksX10_findRest_0 2 rfl rfl)
theorem dX10_findRest_3 : decode cX10_findRest 3 = .ok (.bipush 64, 2) := dk_16 64 (dk_at dksX10_findRest_0 3 rfl rfl)
theorem dX10_findRest_5 : decode cX10_findRest 5 = .ok (.if_icmp .ge 18, 3) := dk_162 0 18 (dk_at dksX10_findRest_0 5 rfl rfl)
theorem dX10_findRest_8 : decode cX10_findRest 8 = .ok (.aload_n 0, 1) := dk_42 (dk_at dksX10_findRest_0 8 rfl rfl)
theorem dX10_findRest_9 : decode cX10_findRest 9 = .ok (.getfield 204, 3) := dk_180 0 204 (dk_at dksX10_findRest_0 9 rfl rfl)
theorem dX10_findRest_12 : decode cX10_findRest 12 = .ok (.iload_n 2, 1) := dk_28 (dk_at dksX10_findRest_0 12 rfl rfl)
theorem dX10_findRest_13 : decode cX10_findRest 13 = .ok (.ldc_w 378, 3) := dk_19 1 122 (dk_at dksX10_findRest_0 13 rfl rfl)
theorem dX10_findRest_16 : decode cX10_findRest 16 = .ok (.iastore, 1) := dk_79 (dk_at dksX10_findRest_0 16 rfl rfl)
theorem dX10_findRest_17 : decode cX10_findRest 17 = .ok (.iinc 2 1, 3) := dk_132 2 1 (dk_at dksX10_findRest_0 17 rfl rfl)
theorem dX10_findRest_20 : decode cX10_findRest 20 = .ok (.goto (-18), 3) := dk_167 255 238 (dk_at dksX10_findRest_0 20 rfl rfl)
theorem dX10_findRest_23 : decode cX10_findRest 23 = .ok (.aload_n 0, 1) := dk_42 (dk_at dksX10_findRest_0 23 rfl rfl)
theorem dX10_findRest_24 : decode cX10_findRest 24 = .ok (.getfield 13, 3) := dk_180 0 13 (dk_at dksX10_findRest_1 0 rfl rfl)
theorem dX10_findRest_27 : decode cX10_findRest 27 = .ok (.iload_n 1, 1) := dk_27 (dk_at dksX10_findRest_1 3 rfl rfl)
theorem dX10_findRest_28 : decode cX10_findRest 28 = .ok (.iaload, 1) := dk_46 (dk_at dksX10_findRest_1 4 rfl rfl)
theorem dX10_findRest_29 : decode cX10_findRest 29 = .ok (.iconst 1, 1) := dk_4 (dk_at dksX10_findRest_1 5 rfl rfl)
theorem dX10_findRest_30 : decode cX10_findRest 30 = .ok (.if_icmp .ne 4, 3) := dk_160 0 4 (dk_at dksX10_findRest_1 6 rfl rfl)
theorem dX10_findRest_33 : decode cX10_findRest 33 = .ok (.return_, 1) := dk_177 (dk_at dksX10_findRest_1 9 rfl rfl)
theorem dX10_findRest_34 : decode cX10_findRest 34 = .ok (.aload_n 0, 1) := dk_42 (dk_at dksX10_findRest_1 10 rfl rfl)
theorem dX10_findRest_35 : decode cX10_findRest 35 = .ok (.getfield 204, 3) := dk_180 0 204 (dk_at dksX10_findRest_1 11 rfl rfl)
theorem dX10_findRest_38 : decode cX10_findRest 38 = .ok (.iload_n 1, 1) := dk_27 (dk_at dksX10_findRest_1 14 rfl rfl)
theorem dX10_findRest_39 : decode cX10_findRest 39 = .ok (.aload_n 0, 1) := dk_42 (dk_at dksX10_findRest_1 15 rfl rfl)
theorem dX10_findRest_40 : decode cX10_findRest 40 = .ok (.iload_n 1, 1) := dk_27 (dk_at dksX10_findRest_1 16 rfl rfl)
theorem dX10_findRest_41 : decode cX10_findRest 41 = .ok (.invokevirtual 595, 3) := dk_182 2 83 (dk_at dksX10_findRest_1 17 rfl rfl)
theorem dX10_findRest_44 : decode cX10_findRest 44 = .ok (.iastore, 1) := dk_79 (dk_at dksX10_findRest_1 20 rfl rfl)
theorem dX10_findRest_45 : decode cX10_findRest 45 = .ok (.iconst 1, 1) := dk_4 (dk_at dksX10_findRest_1 21 rfl rfl)
theorem dX10_findRest_46 : decode cX10_findRest 46 = .ok (.istore_n 2, 1) := dk_61 (dk_at dksX10_findRest_1 22 rfl rfl)
theorem dX10_findRest_47 : decode cX10_findRest 47 = .ok (.iload_n 2, 1) := dk_28 (dk_at dksX10_findRest_1 23 rfl rfl)
theorem dX10_findRest_48 : decode cX10_findRest 48 = .ok (.ifCond .eq 120, 3) := dk_153 0 120 (dk_at dksX10_findRest_2 0 rfl rfl)
theorem dX10_findRest_51 : decode cX10_findRest 51 = .ok (.iconst 0, 1) := dk_3 (dk_at dksX10_findRest_2 3 rfl rfl)
theorem dX10_findRest_52 : decode cX10_findRest 52 = .ok (.istore_n 2, 1) := dk_61 (dk_at dksX10_findRest_2 4 rfl rfl)
theorem dX10_findRest_53 : decode cX10_findRest 53 = .ok (.iconst 0, 1) := dk_3 (dk_at dksX10_findRest_2 5 rfl rfl)
theorem dX10_findRest_54 : decode cX10_findRest 54 = .ok (.istore_n 3, 1) := dk_62 (dk_at dksX10_findRest_2 6 rfl rfl)
theorem dX10_findRest_55 : decode cX10_findRest 55 = .ok (.iload_n 3, 1) := dk_29 (dk_at dksX10_findRest_2 7 rfl rfl)
theorem dX10_findRest_56 : decode cX10_findRest 56 = .ok (.bipush 64, 2) := dk_16 64 (dk_at dksX10_findRest_2 8 rfl rfl)
theorem dX10_findRest_58 : decode cX10_findRest 58 = .ok (.if_icmp .ge 107, 3) := dk_162 0 107 (dk_at dksX10_findRest_2 10 rfl rfl)
theorem dX10_findRest_61 : decode cX10_findRest 61 = .ok (.iconst 0, 1) := dk_3 (dk_at dksX10_findRest_2 13 rfl rfl)
theorem dX10_findRest_62 : decode cX10_findRest 62 = .ok (.istore 4, 2) := dk_54 4 (dk_at dksX10_findRest_2 14 rfl rfl)
theorem dX10_findRest_64 : decode cX10_findRest 64 = .ok (.iload 4, 2) := dk_21 4 (dk_at dksX10_findRest_2 16 rfl rfl)
theorem dX10_findRest_66 : decode cX10_findRest 66 = .ok (.iconst 4, 1) := dk_7 (dk_at dksX10_findRest_2 18 rfl rfl)
theorem dX10_findRest_67 : decode cX10_findRest 67 = .ok (.if_icmp .ge 92, 3) := dk_162 0 92 (dk_at dksX10_findRest_2 19 rfl rfl)
theorem dX10_findRest_70 : decode cX10_findRest 70 = .ok (.aload_n 0, 1) := dk_42 (dk_at dksX10_findRest_2 22 rfl rfl)
theorem dX10_findRest_71 : decode cX10_findRest 71 = .ok (.getfield 13, 3) := dk_180 0 13 (dk_at dksX10_findRest_3 0 rfl rfl)
theorem dX10_findRest_74 : decode cX10_findRest 74 = .ok (.iload_n 3, 1) := dk_29 (dk_at dksX10_findRest_3 3 rfl rfl)
theorem dX10_findRest_75 : decode cX10_findRest 75 = .ok (.iaload, 1) := dk_46 (dk_at dksX10_findRest_3 4 rfl rfl)
theorem dX10_findRest_76 : decode cX10_findRest 76 = .ok (.iconst 1, 1) := dk_4 (dk_at dksX10_findRest_3 5 rfl rfl)
theorem dX10_findRest_77 : decode cX10_findRest 77 = .ok (.if_icmp .eq 82, 3) := dk_159 0 82 (dk_at dksX10_findRest_3 6 rfl rfl)
theorem dX10_findRest_80 : decode cX10_findRest 80 = .ok (.iload_n 3, 1) := dk_29 (dk_at dksX10_findRest_3 9 rfl rfl)
theorem dX10_findRest_81 : decode cX10_findRest 81 = .ok (.iload 4, 2) := dk_21 4 (dk_at dksX10_findRest_3 10 rfl rfl)
theorem dX10_findRest_83 : decode cX10_findRest 83 = .ok (.invokestatic 379, 3) := dk_184 1 123 (dk_at dksX10_findRest_3 12 rfl rfl)
theorem dX10_findRest_86 : decode cX10_findRest 86 = .ok (.istore 5, 2) := dk_54 5 (dk_at dksX10_findRest_3 15 rfl rfl)
theorem dX10_findRest_88 : decode cX10_findRest 88 = .ok (.iload 5, 2) := dk_21 5 (dk_at dksX10_findRest_3 17 rfl rfl)
theorem dX10_findRest_90 : decode cX10_findRest 90 = .ok (.iconst (-1), 1) := dk_2 (dk_at dksX10_findRest_3 19 rfl rfl)
theorem dX10_findRest_91 : decode cX10_findRest 91 = .ok (.if_icmp .eq 62, 3) := dk_159 0 62 (dk_at dksX10_findRest_3 20 rfl rfl)
theorem dX10_findRest_94 : decode cX10_findRest 94 = .ok (.aload_n 0, 1) := dk_42 (dk_at dksX10_findRest_3 23 rfl rfl)
theorem dX10_findRest_95 : decode cX10_findRest 95 = .ok (.getfield 204, 3) := dk_180 0 204 (dk_at dksX10_findRest_4 0 rfl rfl)
theorem dX10_findRest_98 : decode cX10_findRest 98 = .ok (.iload 5, 2) := dk_21 5 (dk_at dksX10_findRest_4 3 rfl rfl)
theorem dX10_findRest_100 : decode cX10_findRest 100 = .ok (.iaload, 1) := dk_46 (dk_at dksX10_findRest_4 5 rfl rfl)
theorem dX10_findRest_101 : decode cX10_findRest 101 = .ok (.ldc_w 378, 3) := dk_19 1 122 (dk_at dksX10_findRest_4 6 rfl rfl)
theorem dX10_findRest_104 : decode cX10_findRest 104 = .ok (.if_icmp .eq 49, 3) := dk_159 0 49 (dk_at dksX10_findRest_4 9 rfl rfl)
theorem dX10_findRest_107 : decode cX10_findRest 107 = .ok (.aload_n 0, 1) := dk_42 (dk_at dksX10_findRest_4 12 rfl rfl)
theorem dX10_findRest_108 : decode cX10_findRest 108 = .ok (.getfield 204, 3) := dk_180 0 204 (dk_at dksX10_findRest_4 13 rfl rfl)
theorem dX10_findRest_111 : decode cX10_findRest 111 = .ok (.iload 5, 2) := dk_21 5 (dk_at dksX10_findRest_4 16 rfl rfl)
theorem dX10_findRest_113 : decode cX10_findRest 113 = .ok (.iaload, 1) := dk_46 (dk_at dksX10_findRest_4 18 rfl rfl)
theorem dX10_findRest_114 : decode cX10_findRest 114 = .ok (.aload_n 0, 1) := dk_42 (dk_at dksX10_findRest_4 19 rfl rfl)
theorem dX10_findRest_115 : decode cX10_findRest 115 = .ok (.iload_n 3, 1) := dk_29 (dk_at dksX10_findRest_4 20 rfl rfl)
theorem dX10_findRest_116 : decode cX10_findRest 116 = .ok (.invokevirtual 595, 3) := dk_182 2 83 (dk_at dksX10_findRest_4 21 rfl rfl)
theorem dX10_findRest_119 : decode cX10_findRest 119 = .ok (.iadd, 1) := dk_96 (dk_at dksX10_findRest_5 0 rfl rfl)
theorem dX10_findRest_120 : decode cX10_findRest 120 = .ok (.aload_n 0, 1) := dk_42 (dk_at dksX10_findRest_5 1 rfl rfl)
theorem dX10_findRest_121 : decode cX10_findRest 121 = .ok (.getfield 204, 3) := dk_180 0 204 (dk_at dksX10_findRest_5 2 rfl rfl)
theorem dX10_findRest_124 : decode cX10_findRest 124 = .ok (.iload_n 3, 1) := dk_29 (dk_at dksX10_findRest_5 5 rfl rfl)
theorem dX10_findRest_125 : decode cX10_findRest 125 = .ok (.iaload, 1) := dk_46 (dk_at dksX10_findRest_5 6 rfl rfl)
theorem dX10_findRest_126 : decode cX10_findRest 126 = .ok (.if_icmp .lt 6, 3) := dk_161 0 6 (dk_at dksX10_findRest_5 7 rfl rfl)
theorem dX10_findRest_129 : decode cX10_findRest 129 = .ok (.goto 24, 3) := dk_167 0 24 (dk_at dksX10_findRest_5 10 rfl rfl)
theorem dX10_findRest_132 : decode cX10_findRest 132 = .ok (.aload_n 0, 1) := dk_42 (dk_at dksX10_findRest_5 13 rfl rfl)
theorem dX10_findRest_133 : decode cX10_findRest 133 = .ok (.getfield 204, 3) := dk_180 0 204 (dk_at dksX10_findRest_5 14 rfl rfl)
theorem dX10_findRest_136 : decode cX10_findRest 136 = .ok (.iload_n 3, 1) := dk_29 (dk_at dksX10_findRest_5 17 rfl rfl)
theorem dX10_findRest_137 : decode cX10_findRest 137 = .ok (.aload_n 0, 1) := dk_42 (dk_at dksX10_findRest_5 18 rfl rfl)
theorem dX10_findRest_138 : decode cX10_findRest 138 = .ok (.getfield 204, 3) := dk_180 0 204 (dk_at dksX10_findRest_5 19 rfl rfl)
theorem dX10_findRest_141 : decode cX10_findRest 141 = .ok (.iload 5, 2) := dk_21 5 (dk_at dksX10_findRest_5 22 rfl rfl)
theorem dX10_findRest_143 : decode cX10_findRest 143 = .ok (.iaload, 1) := dk_46 (dk_at dksX10_findRest_6 0 rfl rfl)
theorem dX10_findRest_144 : decode cX10_findRest 144 = .ok (.aload_n 0, 1) := dk_42 (dk_at dksX10_findRest_6 1 rfl rfl)
theorem dX10_findRest_145 : decode cX10_findRest 145 = .ok (.iload_n 3, 1) := dk_29 (dk_at dksX10_findRest_6 2 rfl rfl)
theorem dX10_findRest_146 : decode cX10_findRest 146 = .ok (.invokevirtual 595, 3) := dk_182 2 83 (dk_at dksX10_findRest_6 3 rfl rfl)
theorem dX10_findRest_149 : decode cX10_findRest 149 = .ok (.iadd, 1) := dk_96 (dk_at dksX10_findRest_6 6 rfl rfl)
theorem dX10_findRest_150 : decode cX10_findRest 150 = .ok (.iastore, 1) := dk_79 (dk_at dksX10_findRest_6 7 rfl rfl)
theorem dX10_findRest_151 : decode cX10_findRest 151 = .ok (.iconst 1, 1) := dk_4 (dk_at dksX10_findRest_6 8 rfl rfl)
theorem dX10_findRest_152 : decode cX10_findRest 152 = .ok (.istore_n 2, 1) := dk_61 (dk_at dksX10_findRest_6 9 rfl rfl)
theorem dX10_findRest_153 : decode cX10_findRest 153 = .ok (.iinc 4 1, 3) := dk_132 4 1 (dk_at dksX10_findRest_6 10 rfl rfl)
theorem dX10_findRest_156 : decode cX10_findRest 156 = .ok (.goto (-92), 3) := dk_167 255 164 (dk_at dksX10_findRest_6 13 rfl rfl)
theorem dX10_findRest_159 : decode cX10_findRest 159 = .ok (.iinc 3 1, 3) := dk_132 3 1 (dk_at dksX10_findRest_6 16 rfl rfl)
theorem dX10_findRest_162 : decode cX10_findRest 162 = .ok (.goto (-107), 3) := dk_167 255 149 (dk_at dksX10_findRest_6 19 rfl rfl)
theorem dX10_findRest_165 : decode cX10_findRest 165 = .ok (.goto (-118), 3) := dk_167 255 138 (dk_at dksX10_findRest_7 0 rfl rfl)
theorem dX10_findRest_168 : decode cX10_findRest 168 = .ok (.return_, 1) := dk_177 (dk_at dksX10_findRest_7 3 rfl rfl)
def dkwX10_weight_1 : List UInt8 := [16, 101, 96, 172]
abbrev dktX10_weight_1 : List UInt8 := dkwX10_weight_1 ++ []
def dkwX10_weight_0 : List UInt8 := [42, 180, 0, 198, 27, 51, 153, 0, 7, 4, 167, 0, 16, 17, 39, 16, 42, 180, 0, 201, 27, 46, 104]
abbrev dktX10_weight_0 : List UInt8 := dkwX10_weight_0 ++ dktX10_weight_1
theorem dksX10_weight_0 : cX10_weight.data.toList.drop 0 = dktX10_weight_0 := by decide +kernel
theorem dksX10_weight_1 : cX10_weight.data.toList.drop 23 = dktX10_weight_1 := dk_seg dksX10_weight_0 23 rfl rfl
theorem dX10_weight_0 : decode cX10_weight 0 = .ok (.aload_n 0, 1) := dk_42 (dk_at dksX10_weight_0 0 rfl rfl)
theorem dX10_weight_1 : decode cX10_weight 1 = .ok (.getfield 198, 3) := dk_180 0 198 (dk_at dksX10_weight_0 1 rfl rfl)
theorem dX10_weight_4 : decode cX10_weight 4 = .ok (.iload_n 1, 1) := dk_27 (dk_at dksX10_weight_0 4 rfl rfl)
theorem dX10_weight_5 : decode cX10_weight 5 = .ok (.baload, 1) := dk_51 (dk_at dksX10_weight_0 5 rfl rfl)
theorem dX10_weight_6 : decode cX10_weight 6 = .ok (.ifCond .eq 7, 3) := dk_153 0 7 (dk_at dksX10_weight_0 6 rfl rfl)
theorem dX10_weight_9 : decode cX10_weight 9 = .ok (.iconst 1, 1) := dk_4 (dk_at dksX10_weight_0 9 rfl rfl)
theorem dX10_weight_10 : decode cX10_weight 10 = .ok (.goto 16, 3) := dk_167 0 16 (dk_at dksX10_weight_0 10 rfl rfl)
theorem dX10_weight_13 : decode cX10_weight 13 = .ok (.sipush 10000, 3) := dk_17 39 16 (dk_at dksX10_weight_0 13 rfl rfl)
theorem dX10_weight_16 : decode cX10_weight 16 = .ok (.aload_n 0, 1) := dk_42 (dk_at dksX10_weight_0 16 rfl rfl)
theorem dX10_weight_17 : decode cX10_weight 17 = .ok (.getfield 201, 3) := dk_180 0 201 (dk_at dksX10_weight_0 17 rfl rfl)
theorem dX10_weight_20 : decode cX10_weight 20 = .ok (.iload_n 1, 1) := dk_27 (dk_at dksX10_weight_0 20 rfl rfl)
theorem dX10_weight_21 : decode cX10_weight 21 = .ok (.iaload, 1) := dk_46 (dk_at dksX10_weight_0 21 rfl rfl)
theorem dX10_weight_22 : decode cX10_weight 22 = .ok (.imul, 1) := dk_104 (dk_at dksX10_weight_0 22 rfl rfl)
theorem dX10_weight_23 : decode cX10_weight 23 = .ok (.bipush 101, 2) := dk_16 101 (dk_at dksX10_weight_1 0 rfl rfl)
theorem dX10_weight_25 : decode cX10_weight 25 = .ok (.iadd, 1) := dk_96 (dk_at dksX10_weight_1 2 rfl rfl)
theorem dX10_weight_26 : decode cX10_weight 26 = .ok (.ireturn, 1) := dk_172 (dk_at dksX10_weight_1 3 rfl rfl)
def dkwX10_gap_4 : List UInt8 := [154, 0, 9, 132, 6, 1, 167, 255, 237, 21, 5, 21, 6, 184, 1, 123, 54, 5, 167, 255, 192]
abbrev dktX10_gap_4 : List UInt8 := dkwX10_gap_4 ++ []
def dkwX10_gap_3 : List UInt8 := [28, 160, 0, 5, 2, 172, 3, 54, 6, 42, 21, 5, 21, 5, 21, 6, 184, 1, 123, 182, 2, 89]
abbrev dktX10_gap_3 : List UInt8 := dkwX10_gap_3 ++ dktX10_gap_4
def dkwX10_gap_2 : List UInt8 := [42, 180, 0, 198, 21, 5, 51, 154, 0, 15, 21, 4, 29, 160, 0, 6, 21, 5, 172, 132, 4, 1, 21, 5]
abbrev dktX10_gap_2 : List UInt8 := dkwX10_gap_2 ++ dktX10_gap_3
def dkwX10_gap_1 : List UInt8 := [28, 182, 2, 86, 42, 180, 0, 204, 27, 46, 19, 1, 122, 160, 0, 5, 2, 172, 3, 54, 4, 27, 54, 5]
abbrev dktX10_gap_1 : List UInt8 := dkwX10_gap_1 ++ dktX10_gap_2
def dkwX10_gap_0 : List UInt8 := [42, 3, 181, 0, 1, 42, 27, 182, 0, 218, 153, 0, 11, 42, 28, 182, 0, 218, 154, 0, 5, 3, 172, 42]
abbrev dktX10_gap_0 : List UInt8 := dkwX10_gap_0 ++ dktX10_gap_1
theorem dksX10_gap_0 : cX10_gap.data.toList.drop 0 = dktX10_gap_0 := by decide +kernel
theorem dksX10_gap_1 : cX10_gap.data.toList.drop 24 = dktX10_gap_1 := dk_seg dksX10_gap_0 24 rfl rfl
theorem dksX10_gap_2 : cX10_gap.data.toList.drop 48 = dktX10_gap_2 := dk_seg dksX10_gap_1 24 rfl rfl
theorem dksX10_gap_3 : cX10_gap.data.toList.drop 72 = dktX10_gap_3 := dk_seg dksX10_gap_2 24 rfl rfl
theorem dksX10_gap_4 : cX10_gap.data.toList.drop 94 = dktX10_gap_4 := dk_seg dksX10_gap_3 22 rfl rfl
theorem dX10_gap_0 : decode cX10_gap 0 = .ok (.aload_n 0, 1) := dk_42 (dk_at dksX10_gap_0 0 rfl rfl)
theorem dX10_gap_1 : decode cX10_gap 1 = .ok (.iconst 0, 1) := dk_3 (dk_at dksX10_gap_0 1 rfl rfl)
theorem dX10_gap_2 : decode cX10_gap 2 = .ok (.putfield 1, 3) := dk_181 0 1 (dk_at dksX10_gap_0 2 rfl rfl)
theorem dX10_gap_5 : decode cX10_gap 5 = .ok (.aload_n 0, 1) := dk_42 (dk_at dksX10_gap_0 5 rfl rfl)
theorem dX10_gap_6 : decode cX10_gap 6 = .ok (.iload_n 1, 1) := dk_27 (dk_at dksX10_gap_0 6 rfl rfl)
theorem dX10_gap_7 : decode cX10_gap 7 = .ok (.invokevirtual 218, 3) := dk_182 0 218 (dk_at dksX10_gap_0 7 rfl rfl)
theorem dX10_gap_10 : decode cX10_gap 10 = .ok (.ifCond .eq 11, 3) := dk_153 0 11 (dk_at dksX10_gap_0 10 rfl rfl)
theorem dX10_gap_13 : decode cX10_gap 13 = .ok (.aload_n 0, 1) := dk_42 (dk_at dksX10_gap_0 13 rfl rfl)
theorem dX10_gap_14 : decode cX10_gap 14 = .ok (.iload_n 2, 1) := dk_28 (dk_at dksX10_gap_0 14 rfl rfl)
theorem dX10_gap_15 : decode cX10_gap 15 = .ok (.invokevirtual 218, 3) := dk_182 0 218 (dk_at dksX10_gap_0 15 rfl rfl)
theorem dX10_gap_18 : decode cX10_gap 18 = .ok (.ifCond .ne 5, 3) := dk_154 0 5 (dk_at dksX10_gap_0 18 rfl rfl)
theorem dX10_gap_21 : decode cX10_gap 21 = .ok (.iconst 0, 1) := dk_3 (dk_at dksX10_gap_0 21 rfl rfl)
theorem dX10_gap_22 : decode cX10_gap 22 = .ok (.ireturn, 1) := dk_172 (dk_at dksX10_gap_0 22 rfl rfl)
theorem dX10_gap_23 : decode cX10_gap 23 = .ok (.aload_n 0, 1) := dk_42 (dk_at dksX10_gap_0 23 rfl rfl)
theorem dX10_gap_24 : decode cX10_gap 24 = .ok (.iload_n 2, 1) := dk_28 (dk_at dksX10_gap_1 0 rfl rfl)
theorem dX10_gap_25 : decode cX10_gap 25 = .ok (.invokevirtual 598, 3) := dk_182 2 86 (dk_at dksX10_gap_1 1 rfl rfl)
theorem dX10_gap_28 : decode cX10_gap 28 = .ok (.aload_n 0, 1) := dk_42 (dk_at dksX10_gap_1 4 rfl rfl)
theorem dX10_gap_29 : decode cX10_gap 29 = .ok (.getfield 204, 3) := dk_180 0 204 (dk_at dksX10_gap_1 5 rfl rfl)
theorem dX10_gap_32 : decode cX10_gap 32 = .ok (.iload_n 1, 1) := dk_27 (dk_at dksX10_gap_1 8 rfl rfl)
theorem dX10_gap_33 : decode cX10_gap 33 = .ok (.iaload, 1) := dk_46 (dk_at dksX10_gap_1 9 rfl rfl)
theorem dX10_gap_34 : decode cX10_gap 34 = .ok (.ldc_w 378, 3) := dk_19 1 122 (dk_at dksX10_gap_1 10 rfl rfl)
theorem dX10_gap_37 : decode cX10_gap 37 = .ok (.if_icmp .ne 5, 3) := dk_160 0 5 (dk_at dksX10_gap_1 13 rfl rfl)
theorem dX10_gap_40 : decode cX10_gap 40 = .ok (.iconst (-1), 1) := dk_2 (dk_at dksX10_gap_1 16 rfl rfl)
theorem dX10_gap_41 : decode cX10_gap 41 = .ok (.ireturn, 1) := dk_172 (dk_at dksX10_gap_1 17 rfl rfl)
theorem dX10_gap_42 : decode cX10_gap 42 = .ok (.iconst 0, 1) := dk_3 (dk_at dksX10_gap_1 18 rfl rfl)
theorem dX10_gap_43 : decode cX10_gap 43 = .ok (.istore 4, 2) := dk_54 4 (dk_at dksX10_gap_1 19 rfl rfl)
theorem dX10_gap_45 : decode cX10_gap 45 = .ok (.iload_n 1, 1) := dk_27 (dk_at dksX10_gap_1 21 rfl rfl)
theorem dX10_gap_46 : decode cX10_gap 46 = .ok (.istore 5, 2) := dk_54 5 (dk_at dksX10_gap_1 22 rfl rfl)
theorem dX10_gap_48 : decode cX10_gap 48 = .ok (.aload_n 0, 1) := dk_42 (dk_at dksX10_gap_2 0 rfl rfl)
theorem dX10_gap_49 : decode cX10_gap 49 = .ok (.getfield 198, 3) := dk_180 0 198 (dk_at dksX10_gap_2 1 rfl rfl)
theorem dX10_gap_52 : decode cX10_gap 52 = .ok (.iload 5, 2) := dk_21 5 (dk_at dksX10_gap_2 4 rfl rfl)
theorem dX10_gap_54 : decode cX10_gap 54 = .ok (.baload, 1) := dk_51 (dk_at dksX10_gap_2 6 rfl rfl)
theorem dX10_gap_55 : decode cX10_gap 55 = .ok (.ifCond .ne 15, 3) := dk_154 0 15 (dk_at dksX10_gap_2 7 rfl rfl)
theorem dX10_gap_58 : decode cX10_gap 58 = .ok (.iload 4, 2) := dk_21 4 (dk_at dksX10_gap_2 10 rfl rfl)
theorem dX10_gap_60 : decode cX10_gap 60 = .ok (.iload_n 3, 1) := dk_29 (dk_at dksX10_gap_2 12 rfl rfl)
theorem dX10_gap_61 : decode cX10_gap 61 = .ok (.if_icmp .ne 6, 3) := dk_160 0 6 (dk_at dksX10_gap_2 13 rfl rfl)
theorem dX10_gap_64 : decode cX10_gap 64 = .ok (.iload 5, 2) := dk_21 5 (dk_at dksX10_gap_2 16 rfl rfl)
theorem dX10_gap_66 : decode cX10_gap 66 = .ok (.ireturn, 1) := dk_172 (dk_at dksX10_gap_2 18 rfl rfl)
theorem dX10_gap_67 : decode cX10_gap 67 = .ok (.iinc 4 1, 3) := dk_132 4 1 (dk_at dksX10_gap_2 19 rfl rfl)
theorem dX10_gap_70 : decode cX10_gap 70 = .ok (.iload 5, 2) := dk_21 5 (dk_at dksX10_gap_2 22 rfl rfl)
theorem dX10_gap_72 : decode cX10_gap 72 = .ok (.iload_n 2, 1) := dk_28 (dk_at dksX10_gap_3 0 rfl rfl)
theorem dX10_gap_73 : decode cX10_gap 73 = .ok (.if_icmp .ne 5, 3) := dk_160 0 5 (dk_at dksX10_gap_3 1 rfl rfl)
theorem dX10_gap_76 : decode cX10_gap 76 = .ok (.iconst (-1), 1) := dk_2 (dk_at dksX10_gap_3 4 rfl rfl)
theorem dX10_gap_77 : decode cX10_gap 77 = .ok (.ireturn, 1) := dk_172 (dk_at dksX10_gap_3 5 rfl rfl)
theorem dX10_gap_78 : decode cX10_gap 78 = .ok (.iconst 0, 1) := dk_3 (dk_at dksX10_gap_3 6 rfl rfl)
theorem dX10_gap_79 : decode cX10_gap 79 = .ok (.istore 6, 2) := dk_54 6 (dk_at dksX10_gap_3 7 rfl rfl)
theorem dX10_gap_81 : decode cX10_gap 81 = .ok (.aload_n 0, 1) := dk_42 (dk_at dksX10_gap_3 9 rfl rfl)
theorem dX10_gap_82 : decode cX10_gap 82 = .ok (.iload 5, 2) := dk_21 5 (dk_at dksX10_gap_3 10 rfl rfl)
theorem dX10_gap_84 : decode cX10_gap 84 = .ok (.iload 5, 2) := dk_21 5 (dk_at dksX10_gap_3 12 rfl rfl)
theorem dX10_gap_86 : decode cX10_gap 86 = .ok (.iload 6, 2) := dk_21 6 (dk_at dksX10_gap_3 14 rfl rfl)
theorem dX10_gap_88 : decode cX10_gap 88 = .ok (.invokestatic 379, 3) := dk_184 1 123 (dk_at dksX10_gap_3 16 rfl rfl)
theorem dX10_gap_91 : decode cX10_gap 91 = .ok (.invokevirtual 601, 3) := dk_182 2 89 (dk_at dksX10_gap_3 19 rfl rfl)
theorem dX10_gap_94 : decode cX10_gap 94 = .ok (.ifCond .ne 9, 3) := dk_154 0 9 (dk_at dksX10_gap_4 0 rfl rfl)
theorem dX10_gap_97 : decode cX10_gap 97 = .ok (.iinc 6 1, 3) := dk_132 6 1 (dk_at dksX10_gap_4 3 rfl rfl)
theorem dX10_gap_100 : decode cX10_gap 100 = .ok (.goto (-19), 3) := dk_167 255 237 (dk_at dksX10_gap_4 6 rfl rfl)
theorem dX10_gap_103 : decode cX10_gap 103 = .ok (.iload 5, 2) := dk_21 5 (dk_at dksX10_gap_4 9 rfl rfl)
theorem dX10_gap_105 : decode cX10_gap 105 = .ok (.iload 6, 2) := dk_21 6 (dk_at dksX10_gap_4 11 rfl rfl)
theorem dX10_gap_107 : decode cX10_gap 107 = .ok (.invokestatic 379, 3) := dk_184 1 123 (dk_at dksX10_gap_4 13 rfl rfl)
theorem dX10_gap_110 : decode cX10_gap 110 = .ok (.istore 5, 2) := dk_54 5 (dk_at dksX10_gap_4 16 rfl rfl)
theorem dX10_gap_112 : decode cX10_gap 112 = .ok (.goto (-64), 3) := dk_167 255 192 (dk_at dksX10_gap_4 18 rfl rfl)
def dkwX10_isNext_1 : List UInt8 := [180, 0, 204, 28, 46, 42, 27, 182, 2, 83, 96, 160, 0, 7, 4, 167, 0, 4, 3, 172]
abbrev dktX10_isNext_1 : List UInt8 := dkwX10_isNext_1 ++ []
def dkwX10_isNext_0 : List UInt8 := [28, 2, 159, 0, 40, 42, 180, 0, 204, 28, 46, 19, 1, 122, 159, 0, 28, 42, 180, 0, 204, 27, 46, 42]
abbrev dktX10_isNext_0 : List UInt8 := dkwX10_isNext_0 ++ dktX10_isNext_1
theorem dksX10_isNext_0 : cX10_isNext.data.toList.drop 0 = dktX10_isNext_0 := by decide +kernel
theorem dksX10_isNext_1 : cX10_isNext.data.toList.drop 24 = dktX10_isNext_1 := dk_seg dksX10_isNext_0 24 rfl rfl
theorem dX10_isNext_0 : decode cX10_isNext 0 = .ok (.iload_n 2, 1) := dk_28 (dk_at dksX10_isNext_0 0 rfl rfl)
theorem dX10_isNext_1 : decode cX10_isNext 1 = .ok (.iconst (-1), 1) := dk_2 (dk_at dksX10_isNext_0 1 rfl rfl)
theorem dX10_isNext_2 : decode cX10_isNext 2 = .ok (.if_icmp .eq 40, 3) := dk_159 0 40 (dk_at dksX10_isNext_0 2 rfl rfl)
theorem dX10_isNext_5 : decode cX10_isNext 5 = .ok (.aload_n 0, 1) := dk_42 (dk_at dksX10_isNext_0 5 rfl rfl)
theorem dX10_isNext_6 : decode cX10_isNext 6 = .ok (.getfield 204, 3) := dk_180 0 204 (dk_at dksX10_isNext_0 6 rfl rfl)
theorem dX10_isNext_9 : decode cX10_isNext 9 = .ok (.iload_n 2, 1) := dk_28 (dk_at dksX10_isNext_0 9 rfl rfl)
theorem dX10_isNext_10 : decode cX10_isNext 10 = .ok (.iaload, 1) := dk_46 (dk_at dksX10_isNext_0 10 rfl rfl)
theorem dX10_isNext_11 : decode cX10_isNext 11 = .ok (.ldc_w 378, 3) := dk_19 1 122 (dk_at dksX10_isNext_0 11 rfl rfl)
theorem dX10_isNext_14 : decode cX10_isNext 14 = .ok (.if_icmp .eq 28, 3) := dk_159 0 28 (dk_at dksX10_isNext_0 14 rfl rfl)
theorem dX10_isNext_17 : decode cX10_isNext 17 = .ok (.aload_n 0, 1) := dk_42 (dk_at dksX10_isNext_0 17 rfl rfl)
theorem dX10_isNext_18 : decode cX10_isNext 18 = .ok (.getfield 204, 3) := dk_180 0 204 (dk_at dksX10_isNext_0 18 rfl rfl)
theorem dX10_isNext_21 : decode cX10_isNext 21 = .ok (.iload_n 1, 1) := dk_27 (dk_at dksX10_isNext_0 21 rfl rfl)
theorem dX10_isNext_22 : decode cX10_isNext 22 = .ok (.iaload, 1) := dk_46 (dk_at dksX10_isNext_0 22 rfl rfl)
theorem dX10_isNext_23 : decode cX10_isNext 23 = .ok (.aload_n 0, 1) := dk_42 (dk_at dksX10_isNext_0 23 rfl rfl)
theorem dX10_isNext_24 : decode cX10_isNext 24 = .ok (.getfield 204, 3) := dk_180 0 204 (dk_at dksX10_isNext_1 0 rfl rfl)
theorem dX10_isNext_27 : decode cX10_isNext 27 = .ok (.iload_n 2, 1) := dk_28 (dk_at dksX10_isNext_1 3 rfl rfl)
theorem dX10_isNext_28 : decode cX10_isNext 28 = .ok (.iaload, 1) := dk_46 (dk_at dksX10_isNext_1 4 rfl rfl)
theorem dX10_isNext_29 : decode cX10_isNext 29 = .ok (.aload_n 0, 1) := dk_42 (dk_at dksX10_isNext_1 5 rfl rfl)
theorem dX10_isNext_30 : decode cX10_isNext 30 = .ok (.iload_n 1, 1) := dk_27 (dk_at dksX10_isNext_1 6 rfl rfl)
theorem dX10_isNext_31 : decode cX10_isNext 31 = .ok (.invokevirtual 595, 3) := dk_182 2 83 (dk_at dksX10_isNext_1 7 rfl rfl)
theorem dX10_isNext_34 : decode cX10_isNext 34 = .ok (.iadd, 1) := dk_96 (dk_at dksX10_isNext_1 10 rfl rfl)
theorem dX10_isNext_35 : decode cX10_isNext 35 = .ok (.if_icmp .ne 7, 3) := dk_160 0 7 (dk_at dksX10_isNext_1 11 rfl rfl)
theorem dX10_isNext_38 : decode cX10_isNext 38 = .ok (.iconst 1, 1) := dk_4 (dk_at dksX10_isNext_1 14 rfl rfl)
theorem dX10_isNext_39 : decode cX10_isNext 39 = .ok (.goto 4, 3) := dk_167 0 4 (dk_at dksX10_isNext_1 15 rfl rfl)
theorem dX10_isNext_42 : decode cX10_isNext 42 = .ok (.iconst 0, 1) := dk_3 (dk_at dksX10_isNext_1 18 rfl rfl)
theorem dX10_isNext_43 : decode cX10_isNext 43 = .ok (.ireturn, 1) := dk_172 (dk_at dksX10_isNext_1 19 rfl rfl)
def dkwX10_count_6 : List UInt8 := [180, 2, 25, 172, 2, 172]
abbrev dktX10_count_6 : List UInt8 := dkwX10_count_6 ++ []
def dkwX10_count_5 : List UInt8 := [42, 180, 1, 4, 172, 42, 180, 2, 59, 172, 42, 180, 2, 68, 172, 42, 180, 1, 240, 184, 1, 243, 172, 42]
abbrev dktX10_count_5 : List UInt8 := dkwX10_count_5 ++ dktX10_count_6
def dkwX10_count_4 : List UInt8 := [180, 0, 23, 29, 46, 167, 0, 4, 3, 96, 61, 132, 3, 1, 167, 255, 224, 28, 172, 42, 180, 1, 22, 172]
abbrev dktX10_count_4 : List UInt8 := dkwX10_count_4 ++ dktX10_count_5
def dkwX10_count_3 : List UInt8 := [172, 3, 61, 3, 62, 29, 16, 64, 162, 0, 32, 28, 42, 180, 0, 13, 29, 46, 5, 160, 0, 12, 42]
abbrev dktX10_count_3 : List UInt8 := dkwX10_count_3 ++ dktX10_count_4
def dkwX10_count_2 : List UInt8 := [42, 180, 1, 168, 172, 42, 180, 0, 225, 172, 42, 180, 1, 150, 172, 42, 180, 1, 213, 172, 42, 180, 2, 35]
abbrev dktX10_count_2 : List UInt8 := dkwX10_count_2 ++ dktX10_count_3
def dkwX10_count_1 : List UInt8 := [170, 0, 0, 0, 0, 161, 0, 0, 0, 0, 0, 0, 0, 11, 0, 0, 0, 62, 0, 0, 0, 67, 0, 0, 0, 72, 0, 0, 0, 77, 0, 0, 0, 82, 0, 0, 0, 87, 0, 0, 0, 128, 0, 0, 0, 133, 0, 0, 0, 138, 0, 0, 0, 143, 0, 0, 0, 148, 0, 0, 0, 156]
abbrev dktX10_count_1 : List UInt8 := dkwX10_count_1 ++ dktX10_count_2
def dkwX10_count_0 : List UInt8 := [42, 3, 181, 0, 1, 27]
abbrev dktX10_count_0 : List UInt8 := dkwX10_count_0 ++ dktX10_count_1
theorem dksX10_count_0 : cX10_count.data.toList.drop 0 = dktX10_count_0 := by decide +kernel
theorem dksX10_count_1 : cX10_count.data.toList.drop 6 = dktX10_count_1 := dk_seg dksX10_count_0 6 rfl rfl
theorem dksX10_count_2 : cX10_count.data.toList.drop 68 = dktX10_count_2 := dk_seg dksX10_count_1 62 rfl rfl
theorem dksX10_count_3 : cX10_count.data.toList.drop 92 = dktX10_count_3 := dk_seg dksX10_count_2 24 rfl rfl
theorem dksX10_count_4 : cX10_count.data.toList.drop 115 = dktX10_count_4 := dk_seg dksX10_count_3 23 rfl rfl
theorem dksX10_count_5 : cX10_count.data.toList.drop 139 = dktX10_count_5 := dk_seg dksX10_count_4 24 rfl rfl
theorem dksX10_count_6 : cX10_count.data.toList.drop 163 = dktX10_count_6 := dk_seg dksX10_count_5 24 rfl rfl
theorem dX10_count_0 : decode cX10_count 0 = .ok (.aload_n 0, 1) := dk_42 (dk_at dksX10_count_0 0 rfl rfl)
theorem dX10_count_1 : decode cX10_count 1 = .ok (.iconst 0, 1) := dk_3 (dk_at dksX10_count_0 1 rfl rfl)
theorem dX10_count_2 : decode cX10_count 2 = .ok (.putfield 1, 3) := dk_181 0 1 (dk_at dksX10_count_0 2 rfl rfl)
theorem dX10_count_5 : decode cX10_count 5 = .ok (.iload_n 1, 1) := dk_27 (dk_at dksX10_count_0 5 rfl rfl)
theorem dX10_count_6 : decode cX10_count 6 = .ok (.tableswitch 161 0 11 #[62, 67, 72, 77, 82, 87, 128, 133, 138, 143, 148, 156], 62) := by decide +kernel
theorem dX10_count_68 : decode cX10_count 68 = .ok (.aload_n 0, 1) := dk_42 (dk_at dksX10_count_2 0 rfl rfl)
theorem dX10_count_69 : decode cX10_count 69 = .ok (.getfield 424, 3) := dk_180 1 168 (dk_at dksX10_count_2 1 rfl rfl)
theorem dX10_count_72 : decode cX10_count 72 = .ok (.ireturn, 1) := dk_172 (dk_at dksX10_count_2 4 rfl rfl)
theorem dX10_count_73 : decode cX10_count 73 = .ok (.aload_n 0, 1) := dk_42 (dk_at dksX10_count_2 5 rfl rfl)
theorem dX10_count_74 : decode cX10_count 74 = .ok (.getfield 225, 3) := dk_180 0 225 (dk_at dksX10_count_2 6 rfl rfl)
theorem dX10_count_77 : decode cX10_count 77 = .ok (.ireturn, 1) := dk_172 (dk_at dksX10_count_2 9 rfl rfl)
theorem dX10_count_78 : decode cX10_count 78 = .ok (.aload_n 0, 1) := dk_42 (dk_at dksX10_count_2 10 rfl rfl)
theorem dX10_count_79 : decode cX10_count 79 = .ok (.getfield 406, 3) := dk_180 1 150 (dk_at dksX10_count_2 11 rfl rfl)
theorem dX10_count_82 : decode cX10_count 82 = .ok (.ireturn, 1) := dk_172 (dk_at dksX10_count_2 14 rfl rfl)
theorem dX10_count_83 : decode cX10_count 83 = .ok (.aload_n 0, 1) := dk_42 (dk_at dksX10_count_2 15 rfl rfl)
theorem dX10_count_84 : decode cX10_count 84 = .ok (.getfield 469, 3) := dk_180 1 213 (dk_at dksX10_count_2 16 rfl rfl)
theorem dX10_count_87 : decode cX10_count 87 = .ok (.ireturn, 1) := dk_172 (dk_at dksX10_count_2 19 rfl rfl)
theorem dX10_count_88 : decode cX10_count 88 = .ok (.aload_n 0, 1) := dk_42 (dk_at dksX10_count_2 20 rfl rfl)
theorem dX10_count_89 : decode cX10_count 89 = .ok (.getfield 547, 3) := dk_180 2 35 (dk_at dksX10_count_2 21 rfl rfl)
theorem dX10_count_92 : decode cX10_count 92 = .ok (.ireturn, 1) := dk_172 (dk_at dksX10_count_3 0 rfl rfl)
theorem dX10_count_93 : decode cX10_count 93 = .ok (.iconst 0, 1) := dk_3 (dk_at dksX10_count_3 1 rfl rfl)
theorem dX10_count_94 : decode cX10_count 94 = .ok (.istore_n 2, 1) := dk_61 (dk_at dksX10_count_3 2 rfl rfl)
theorem dX10_count_95 : decode cX10_count 95 = .ok (.iconst 0, 1) := dk_3 (dk_at dksX10_count_3 3 rfl rfl)
theorem dX10_count_96 : decode cX10_count 96 = .ok (.istore_n 3, 1) := dk_62 (dk_at dksX10_count_3 4 rfl rfl)
theorem dX10_count_97 : decode cX10_count 97 = .ok (.iload_n 3, 1) := dk_29 (dk_at dksX10_count_3 5 rfl rfl)
theorem dX10_count_98 : decode cX10_count 98 = .ok (.bipush 64, 2) := dk_16 64 (dk_at dksX10_count_3 6 rfl rfl)
theorem dX10_count_100 : decode cX10_count 100 = .ok (.if_icmp .ge 32, 3) := dk_162 0 32 (dk_at dksX10_count_3 8 rfl rfl)
theorem dX10_count_103 : decode cX10_count 103 = .ok (.iload_n 2, 1) := dk_28 (dk_at dksX10_count_3 11 rfl rfl)
theorem dX10_count_104 : decode cX10_count 104 = .ok (.aload_n 0, 1) := dk_42 (dk_at dksX10_count_3 12 rfl rfl)
theorem dX10_count_105 : decode cX10_count 105 = .ok (.getfield 13, 3) := dk_180 0 13 (dk_at dksX10_count_3 13 rfl rfl)
theorem dX10_count_108 : decode cX10_count 108 = .ok (.iload_n 3, 1) := dk_29 (dk_at dksX10_count_3 16 rfl rfl)
theorem dX10_count_109 : decode cX10_count 109 = .ok (.iaload, 1) := dk_46 (dk_at dksX10_count_3 17 rfl rfl)
theorem dX10_count_110 : decode cX10_count 110 = .ok (.iconst 2, 1) := dk_5 (dk_at dksX10_count_3 18 rfl rfl)
theorem dX10_count_111 : decode cX10_count 111 = .ok (.if_icmp .ne 12, 3) := dk_160 0 12 (dk_at dksX10_count_3 19 rfl rfl)
theorem dX10_count_114 : decode cX10_count 114 = .ok (.aload_n 0, 1) := dk_42 (dk_at dksX10_count_3 22 rfl rfl)
theorem dX10_count_115 : decode cX10_count 115 = .ok (.getfield 23, 3) := dk_180 0 23 (dk_at dksX10_count_4 0 rfl rfl)
theorem dX10_count_118 : decode cX10_count 118 = .ok (.iload_n 3, 1) := dk_29 (dk_at dksX10_count_4 3 rfl rfl)
theorem dX10_count_119 : decode cX10_count 119 = .ok (.iaload, 1) := dk_46 (dk_at dksX10_count_4 4 rfl rfl)
theorem dX10_count_120 : decode cX10_count 120 = .ok (.goto 4, 3) := dk_167 0 4 (dk_at dksX10_count_4 5 rfl rfl)
theorem dX10_count_123 : decode cX10_count 123 = .ok (.iconst 0, 1) := dk_3 (dk_at dksX10_count_4 8 rfl rfl)
theorem dX10_count_124 : decode cX10_count 124 = .ok (.iadd, 1) := dk_96 (dk_at dksX10_count_4 9 rfl rfl)
theorem dX10_count_125 : decode cX10_count 125 = .ok (.istore_n 2, 1) := dk_61 (dk_at dksX10_count_4 10 rfl rfl)
theorem dX10_count_126 : decode cX10_count 126 = .ok (.iinc 3 1, 3) := dk_132 3 1 (dk_at dksX10_count_4 11 rfl rfl)
theorem dX10_count_129 : decode cX10_count 129 = .ok (.goto (-32), 3) := dk_167 255 224 (dk_at dksX10_count_4 14 rfl rfl)
theorem dX10_count_132 : decode cX10_count 132 = .ok (.iload_n 2, 1) := dk_28 (dk_at dksX10_count_4 17 rfl rfl)
theorem dX10_count_133 : decode cX10_count 133 = .ok (.ireturn, 1) := dk_172 (dk_at dksX10_count_4 18 rfl rfl)
theorem dX10_count_134 : decode cX10_count 134 = .ok (.aload_n 0, 1) := dk_42 (dk_at dksX10_count_4 19 rfl rfl)
theorem dX10_count_135 : decode cX10_count 135 = .ok (.getfield 278, 3) := dk_180 1 22 (dk_at dksX10_count_4 20 rfl rfl)
theorem dX10_count_138 : decode cX10_count 138 = .ok (.ireturn, 1) := dk_172 (dk_at dksX10_count_4 23 rfl rfl)
theorem dX10_count_139 : decode cX10_count 139 = .ok (.aload_n 0, 1) := dk_42 (dk_at dksX10_count_5 0 rfl rfl)
theorem dX10_count_140 : decode cX10_count 140 = .ok (.getfield 260, 3) := dk_180 1 4 (dk_at dksX10_count_5 1 rfl rfl)
theorem dX10_count_143 : decode cX10_count 143 = .ok (.ireturn, 1) := dk_172 (dk_at dksX10_count_5 4 rfl rfl)
theorem dX10_count_144 : decode cX10_count 144 = .ok (.aload_n 0, 1) := dk_42 (dk_at dksX10_count_5 5 rfl rfl)
theorem dX10_count_145 : decode cX10_count 145 = .ok (.getfield 571, 3) := dk_180 2 59 (dk_at dksX10_count_5 6 rfl rfl)
theorem dX10_count_148 : decode cX10_count 148 = .ok (.ireturn, 1) := dk_172 (dk_at dksX10_count_5 9 rfl rfl)
theorem dX10_count_149 : decode cX10_count 149 = .ok (.aload_n 0, 1) := dk_42 (dk_at dksX10_count_5 10 rfl rfl)
theorem dX10_count_150 : decode cX10_count 150 = .ok (.getfield 580, 3) := dk_180 2 68 (dk_at dksX10_count_5 11 rfl rfl)
theorem dX10_count_153 : decode cX10_count 153 = .ok (.ireturn, 1) := dk_172 (dk_at dksX10_count_5 14 rfl rfl)
theorem dX10_count_154 : decode cX10_count 154 = .ok (.aload_n 0, 1) := dk_42 (dk_at dksX10_count_5 15 rfl rfl)
theorem dX10_count_155 : decode cX10_count 155 = .ok (.getfield 496, 3) := dk_180 1 240 (dk_at dksX10_count_5 16 rfl rfl)
theorem dX10_count_158 : decode cX10_count 158 = .ok (.invokestatic 499, 3) := dk_184 1 243 (dk_at dksX10_count_5 19 rfl rfl)
theorem dX10_count_161 : decode cX10_count 161 = .ok (.ireturn, 1) := dk_172 (dk_at dksX10_count_5 22 rfl rfl)
theorem dX10_count_162 : decode cX10_count 162 = .ok (.aload_n 0, 1) := dk_42 (dk_at dksX10_count_5 23 rfl rfl)
theorem dX10_count_163 : decode cX10_count 163 = .ok (.getfield 537, 3) := dk_180 2 25 (dk_at dksX10_count_6 0 rfl rfl)
theorem dX10_count_166 : decode cX10_count 166 = .ok (.ireturn, 1) := dk_172 (dk_at dksX10_count_6 3 rfl rfl)
theorem dX10_count_167 : decode cX10_count 167 = .ok (.iconst (-1), 1) := dk_2 (dk_at dksX10_count_6 4 rfl rfl)
theorem dX10_count_168 : decode cX10_count 168 = .ok (.ireturn, 1) := dk_172 (dk_at dksX10_count_6 5 rfl rfl)
