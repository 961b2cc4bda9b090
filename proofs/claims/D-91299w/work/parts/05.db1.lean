set_option maxRecDepth 100000
abbrev dktX1_watch_2_1 : List UInt8 := dkwX1_watch_2_1 ++ dktX1_watch_2_2
def dkwX1_watch_2_0 : List UInt8 := [28, 184, 0, 170, 27, 184, 0, 219, 42, 180, 1, 40, 16, 10, 160, 0, 5, 2, 172, 42, 27, 182, 1, 105]
abbrev dktX1_watch_2_0 : List UInt8 := dkwX1_watch_2_0 ++ dktX1_watch_2_1
theorem dksX1_watch_2_0 : cX1_watch_2.data.toList.drop 0 = dktX1_watch_2_0 := by decide +kernel
theorem dksX1_watch_2_1 : cX1_watch_2.data.toList.drop 24 = dktX1_watch_2_1 := dk_seg dksX1_watch_2_0 24 rfl rfl
theorem dksX1_watch_2_2 : cX1_watch_2.data.toList.drop 47 = dktX1_watch_2_2 := dk_seg dksX1_watch_2_1 23 rfl rfl
theorem dksX1_watch_2_3 : cX1_watch_2.data.toList.drop 69 = dktX1_watch_2_3 := dk_seg dksX1_watch_2_2 22 rfl rfl
theorem dX1_watch_2_0 : decode cX1_watch_2 0 = .ok (.iload_n 2, 1) := dk_28 (dk_at dksX1_watch_2_0 0 rfl rfl)
theorem dX1_watch_2_1 : decode cX1_watch_2 1 = .ok (.invokestatic 170, 3) := dk_184 0 170 (dk_at dksX1_watch_2_0 1 rfl rfl)
theorem dX1_watch_2_4 : decode cX1_watch_2 4 = .ok (.iload_n 1, 1) := dk_27 (dk_at dksX1_watch_2_0 4 rfl rfl)
theorem dX1_watch_2_5 : decode cX1_watch_2 5 = .ok (.invokestatic 219, 3) := dk_184 0 219 (dk_at dksX1_watch_2_0 5 rfl rfl)
theorem dX1_watch_2_8 : decode cX1_watch_2 8 = .ok (.aload_n 0, 1) := dk_42 (dk_at dksX1_watch_2_0 8 rfl rfl)
theorem dX1_watch_2_9 : decode cX1_watch_2 9 = .ok (.getfield 296, 3) := dk_180 1 40 (dk_at dksX1_watch_2_0 9 rfl rfl)
theorem dX1_watch_2_12 : decode cX1_watch_2 12 = .ok (.bipush 10, 2) := dk_16 10 (dk_at dksX1_watch_2_0 12 rfl rfl)
theorem dX1_watch_2_14 : decode cX1_watch_2 14 = .ok (.if_icmp .ne 5, 3) := dk_160 0 5 (dk_at dksX1_watch_2_0 14 rfl rfl)
theorem dX1_watch_2_17 : decode cX1_watch_2 17 = .ok (.iconst (-1), 1) := dk_2 (dk_at dksX1_watch_2_0 17 rfl rfl)
theorem dX1_watch_2_18 : decode cX1_watch_2 18 = .ok (.ireturn, 1) := dk_172 (dk_at dksX1_watch_2_0 18 rfl rfl)
theorem dX1_watch_2_19 : decode cX1_watch_2 19 = .ok (.aload_n 0, 1) := dk_42 (dk_at dksX1_watch_2_0 19 rfl rfl)
theorem dX1_watch_2_20 : decode cX1_watch_2 20 = .ok (.iload_n 1, 1) := dk_27 (dk_at dksX1_watch_2_0 20 rfl rfl)
theorem dX1_watch_2_21 : decode cX1_watch_2 21 = .ok (.invokevirtual 361, 3) := dk_182 1 105 (dk_at dksX1_watch_2_0 21 rfl rfl)
theorem dX1_watch_2_24 : decode cX1_watch_2 24 = .ok (.ifCond .eq 6, 3) := dk_153 0 6 (dk_at dksX1_watch_2_1 0 rfl rfl)
theorem dX1_watch_2_27 : decode cX1_watch_2 27 = .ok (.bipush (-2), 2) := dk_16 254 (dk_at dksX1_watch_2_1 3 rfl rfl)
theorem dX1_watch_2_29 : decode cX1_watch_2 29 = .ok (.ireturn, 1) := dk_172 (dk_at dksX1_watch_2_1 5 rfl rfl)
theorem dX1_watch_2_30 : decode cX1_watch_2 30 = .ok (.aload_n 0, 1) := dk_42 (dk_at dksX1_watch_2_1 6 rfl rfl)
theorem dX1_watch_2_31 : decode cX1_watch_2 31 = .ok (.getfield 130, 3) := dk_180 0 130 (dk_at dksX1_watch_2_1 7 rfl rfl)
theorem dX1_watch_2_34 : decode cX1_watch_2 34 = .ok (.iload_n 1, 1) := dk_27 (dk_at dksX1_watch_2_1 10 rfl rfl)
theorem dX1_watch_2_35 : decode cX1_watch_2 35 = .ok (.baload, 1) := dk_51 (dk_at dksX1_watch_2_1 11 rfl rfl)
theorem dX1_watch_2_36 : decode cX1_watch_2 36 = .ok (.ifCond .eq 6, 3) := dk_153 0 6 (dk_at dksX1_watch_2_1 12 rfl rfl)
theorem dX1_watch_2_39 : decode cX1_watch_2 39 = .ok (.bipush (-3), 2) := dk_16 253 (dk_at dksX1_watch_2_1 15 rfl rfl)
theorem dX1_watch_2_41 : decode cX1_watch_2 41 = .ok (.ireturn, 1) := dk_172 (dk_at dksX1_watch_2_1 17 rfl rfl)
theorem dX1_watch_2_42 : decode cX1_watch_2 42 = .ok (.aload_n 0, 1) := dk_42 (dk_at dksX1_watch_2_1 18 rfl rfl)
theorem dX1_watch_2_43 : decode cX1_watch_2 43 = .ok (.getfield 88, 3) := dk_180 0 88 (dk_at dksX1_watch_2_1 19 rfl rfl)
theorem dX1_watch_2_46 : decode cX1_watch_2 46 = .ok (.aload_n 0, 1) := dk_42 (dk_at dksX1_watch_2_1 22 rfl rfl)
theorem dX1_watch_2_47 : decode cX1_watch_2 47 = .ok (.getfield 296, 3) := dk_180 1 40 (dk_at dksX1_watch_2_2 0 rfl rfl)
theorem dX1_watch_2_50 : decode cX1_watch_2 50 = .ok (.iload_n 1, 1) := dk_27 (dk_at dksX1_watch_2_2 3 rfl rfl)
theorem dX1_watch_2_51 : decode cX1_watch_2 51 = .ok (.iastore, 1) := dk_79 (dk_at dksX1_watch_2_2 4 rfl rfl)
theorem dX1_watch_2_52 : decode cX1_watch_2 52 = .ok (.aload_n 0, 1) := dk_42 (dk_at dksX1_watch_2_2 5 rfl rfl)
theorem dX1_watch_2_53 : decode cX1_watch_2 53 = .ok (.getfield 91, 3) := dk_180 0 91 (dk_at dksX1_watch_2_2 6 rfl rfl)
theorem dX1_watch_2_56 : decode cX1_watch_2 56 = .ok (.aload_n 0, 1) := dk_42 (dk_at dksX1_watch_2_2 9 rfl rfl)
theorem dX1_watch_2_57 : decode cX1_watch_2 57 = .ok (.getfield 296, 3) := dk_180 1 40 (dk_at dksX1_watch_2_2 10 rfl rfl)
theorem dX1_watch_2_60 : decode cX1_watch_2 60 = .ok (.iload_n 2, 1) := dk_28 (dk_at dksX1_watch_2_2 13 rfl rfl)
theorem dX1_watch_2_61 : decode cX1_watch_2 61 = .ok (.iastore, 1) := dk_79 (dk_at dksX1_watch_2_2 14 rfl rfl)
theorem dX1_watch_2_62 : decode cX1_watch_2 62 = .ok (.aload_n 0, 1) := dk_42 (dk_at dksX1_watch_2_2 15 rfl rfl)
theorem dX1_watch_2_63 : decode cX1_watch_2 63 = .ok (.dup, 1) := dk_89 (dk_at dksX1_watch_2_2 16 rfl rfl)
theorem dX1_watch_2_64 : decode cX1_watch_2 64 = .ok (.getfield 296, 3) := dk_180 1 40 (dk_at dksX1_watch_2_2 17 rfl rfl)
theorem dX1_watch_2_67 : decode cX1_watch_2 67 = .ok (.iconst 1, 1) := dk_4 (dk_at dksX1_watch_2_2 20 rfl rfl)
theorem dX1_watch_2_68 : decode cX1_watch_2 68 = .ok (.iadd, 1) := dk_96 (dk_at dksX1_watch_2_2 21 rfl rfl)
theorem dX1_watch_2_69 : decode cX1_watch_2 69 = .ok (.putfield 296, 3) := dk_181 1 40 (dk_at dksX1_watch_2_3 0 rfl rfl)
theorem dX1_watch_2_72 : decode cX1_watch_2 72 = .ok (.aload_n 0, 1) := dk_42 (dk_at dksX1_watch_2_3 3 rfl rfl)
theorem dX1_watch_2_73 : decode cX1_watch_2 73 = .ok (.getfield 296, 3) := dk_180 1 40 (dk_at dksX1_watch_2_3 4 rfl rfl)
theorem dX1_watch_2_76 : decode cX1_watch_2 76 = .ok (.ireturn, 1) := dk_172 (dk_at dksX1_watch_2_3 7 rfl rfl)
def dkwX1_watched_0 : List UInt8 := [27, 184, 0, 219, 42, 180, 0, 94, 27, 46, 172]
abbrev dktX1_watched_0 : List UInt8 := dkwX1_watched_0 ++ []
theorem dksX1_watched_0 : cX1_watched.data.toList.drop 0 = dktX1_watched_0 := by decide +kernel
theorem dX1_watched_0 : decode cX1_watched 0 = .ok (.iload_n 1, 1) := dk_27 (dk_at dksX1_watched_0 0 rfl rfl)
theorem dX1_watched_1 : decode cX1_watched 1 = .ok (.invokestatic 219, 3) := dk_184 0 219 (dk_at dksX1_watched_0 1 rfl rfl)
theorem dX1_watched_4 : decode cX1_watched 4 = .ok (.aload_n 0, 1) := dk_42 (dk_at dksX1_watched_0 4 rfl rfl)
theorem dX1_watched_5 : decode cX1_watched 5 = .ok (.getfield 94, 3) := dk_180 0 94 (dk_at dksX1_watched_0 5 rfl rfl)
theorem dX1_watched_8 : decode cX1_watched 8 = .ok (.iload_n 1, 1) := dk_27 (dk_at dksX1_watched_0 8 rfl rfl)
theorem dX1_watched_9 : decode cX1_watched 9 = .ok (.iaload, 1) := dk_46 (dk_at dksX1_watched_0 9 rfl rfl)
theorem dX1_watched_10 : decode cX1_watched 10 = .ok (.ireturn, 1) := dk_172 (dk_at dksX1_watched_0 10 rfl rfl)
def dkwX1_post_10 : List UInt8 := [167, 255, 214, 2, 172]
abbrev dktX1_post_10 : List UInt8 := dkwX1_post_10 ++ []
def dkwX1_post_9 : List UInt8 := [167, 0, 19, 21, 7, 154, 0, 11, 42, 180, 0, 97, 21, 8, 46, 172, 132, 7, 255, 132, 8, 1]
abbrev dktX1_post_9 : List UInt8 := dkwX1_post_9 ++ dktX1_post_10
def dkwX1_post_8 : List UInt8 := [54, 8, 21, 8, 29, 162, 0, 42, 28, 155, 0, 38, 21, 5, 21, 8, 122, 4, 126, 154, 0, 6]
abbrev dktX1_post_8 : List UInt8 := dkwX1_post_8 ++ dktX1_post_9
def dkwX1_post_7 : List UInt8 := [154, 0, 6, 167, 0, 11, 21, 8, 54, 6, 21, 7, 54, 5, 132, 7, 1, 167, 255, 123, 28, 54, 7, 3]
abbrev dktX1_post_7 : List UInt8 := dkwX1_post_7 ++ dktX1_post_8
def dkwX1_post_6 : List UInt8 := [21, 8, 21, 6, 163, 0, 33, 21, 8, 21, 6, 160, 0, 18, 21, 7, 21, 9, 126, 21, 9, 116, 126]
abbrev dktX1_post_6 : List UInt8 := dkwX1_post_6 ++ dktX1_post_7
def dkwX1_post_5 : List UInt8 := [182, 1, 46, 132, 8, 1, 167, 255, 215, 42, 4, 182, 1, 87, 54, 8, 21, 7, 21, 5, 130, 54, 9]
abbrev dktX1_post_5 : List UInt8 := dkwX1_post_5 ++ dktX1_post_6
def dkwX1_post_4 : List UInt8 := [4, 126, 4, 160, 0, 24, 42, 180, 0, 48, 42, 180, 0, 97, 21, 8, 46, 42, 180, 0, 156, 180, 1, 43]
abbrev dktX1_post_4 : List UInt8 := dkwX1_post_4 ++ dktX1_post_5
def dkwX1_post_3 : List UInt8 := [180, 0, 48, 42, 180, 0, 44, 182, 1, 85, 3, 54, 8, 21, 8, 29, 162, 0, 41, 21, 7, 21, 8, 122]
abbrev dktX1_post_3 : List UInt8 := dkwX1_post_3 ++ dktX1_post_4
def dkwX1_post_2 : List UInt8 := [54, 7, 21, 7, 4, 29, 120, 162, 0, 131, 21, 7, 184, 1, 111, 21, 4, 159, 0, 6, 167, 0, 112, 42]
abbrev dktX1_post_2 : List UInt8 := dkwX1_post_2 ++ dktX1_post_3
def dkwX1_post_1 : List UInt8 := [180, 0, 97, 182, 1, 90, 62, 27, 29, 184, 1, 55, 54, 4, 3, 54, 5, 19, 1, 26, 54, 6, 3]
abbrev dktX1_post_1 : List UInt8 := dkwX1_post_1 ++ dktX1_post_2
def dkwX1_post_0 : List UInt8 := [27, 4, 6, 184, 0, 163, 154, 0, 7, 4, 167, 0, 4, 3, 184, 0, 178, 42, 180, 0, 44, 42]
abbrev dktX1_post_0 : List UInt8 := dkwX1_post_0 ++ dktX1_post_1
theorem dksX1_post_0 : cX1_post.data.toList.drop 0 = dktX1_post_0 := by decide +kernel
theorem dksX1_post_1 : cX1_post.data.toList.drop 22 = dktX1_post_1 := dk_seg dksX1_post_0 22 rfl rfl
theorem dksX1_post_2 : cX1_post.data.toList.drop 45 = dktX1_post_2 := dk_seg dksX1_post_1 23 rfl rfl
theorem dksX1_post_3 : cX1_post.data.toList.drop 69 = dktX1_post_3 := dk_seg dksX1_post_2 24 rfl rfl
theorem dksX1_post_4 : cX1_post.data.toList.drop 93 = dktX1_post_4 := dk_seg dksX1_post_3 24 rfl rfl
theorem dksX1_post_5 : cX1_post.data.toList.drop 117 = dktX1_post_5 := dk_seg dksX1_post_4 24 rfl rfl
theorem dksX1_post_6 : cX1_post.data.toList.drop 140 = dktX1_post_6 := dk_seg dksX1_post_5 23 rfl rfl
theorem dksX1_post_7 : cX1_post.data.toList.drop 163 = dktX1_post_7 := dk_seg dksX1_post_6 23 rfl rfl
theorem dksX1_post_8 : cX1_post.data.toList.drop 187 = dktX1_post_8 := dk_seg dksX1_post_7 24 rfl rfl
theorem dksX1_post_9 : cX1_post.data.toList.drop 209 = dktX1_post_9 := dk_seg dksX1_post_8 22 rfl rfl
theorem dksX1_post_10 : cX1_post.data.toList.drop 231 = dktX1_post_10 := dk_seg dksX1_post_9 22 rfl rfl
theorem dX1_post_0 : decode cX1_post 0 = .ok (.iload_n 1, 1) := dk_27 (dk_at dksX1_post_0 0 rfl rfl)
theorem dX1_post_1 : decode cX1_post 1 = .ok (.iconst 1, 1) := dk_4 (dk_at dksX1_post_0 1 rfl rfl)
theorem dX1_post_2 : decode cX1_post 2 = .ok (.iconst 3, 1) := dk_6 (dk_at dksX1_post_0 2 rfl rfl)
theorem dX1_post_3 : decode cX1_post 3 = .ok (.invokestatic 163, 3) := dk_184 0 163 (dk_at dksX1_post_0 3 rfl rfl)
theorem dX1_post_6 : decode cX1_post 6 = .ok (.ifCond .ne 7, 3) := dk_154 0 7 (dk_at dksX1_post_0 6 rfl rfl)
theorem dX1_post_9 : decode cX1_post 9 = .ok (.iconst 1, 1) := dk_4 (dk_at dksX1_post_0 9 rfl rfl)
theorem dX1_post_10 : decode cX1_post 10 = .ok (.goto 4, 3) := dk_167 0 4 (dk_at dksX1_post_0 10 rfl rfl)
theorem dX1_post_13 : decode cX1_post 13 = .ok (.iconst 0, 1) := dk_3 (dk_at dksX1_post_0 13 rfl rfl)
theorem dX1_post_14 : decode cX1_post 14 = .ok (.invokestatic 178, 3) := dk_184 0 178 (dk_at dksX1_post_0 14 rfl rfl)
theorem dX1_post_17 : decode cX1_post 17 = .ok (.aload_n 0, 1) := dk_42 (dk_at dksX1_post_0 17 rfl rfl)
theorem dX1_post_18 : decode cX1_post 18 = .ok (.getfield 44, 3) := dk_180 0 44 (dk_at dksX1_post_0 18 rfl rfl)
theorem dX1_post_21 : decode cX1_post 21 = .ok (.aload_n 0, 1) := dk_42 (dk_at dksX1_post_0 21 rfl rfl)
theorem dX1_post_22 : decode cX1_post 22 = .ok (.getfield 97, 3) := dk_180 0 97 (dk_at dksX1_post_1 0 rfl rfl)
theorem dX1_post_25 : decode cX1_post 25 = .ok (.invokevirtual 346, 3) := dk_182 1 90 (dk_at dksX1_post_1 3 rfl rfl)
theorem dX1_post_28 : decode cX1_post 28 = .ok (.istore_n 3, 1) := dk_62 (dk_at dksX1_post_1 6 rfl rfl)
theorem dX1_post_29 : decode cX1_post 29 = .ok (.iload_n 1, 1) := dk_27 (dk_at dksX1_post_1 7 rfl rfl)
theorem dX1_post_30 : decode cX1_post 30 = .ok (.iload_n 3, 1) := dk_29 (dk_at dksX1_post_1 8 rfl rfl)
theorem dX1_post_31 : decode cX1_post 31 = .ok (.invokestatic 311, 3) := dk_184 1 55 (dk_at dksX1_post_1 9 rfl rfl)
theorem dX1_post_34 : decode cX1_post 34 = .ok (.istore 4, 2) := dk_54 4 (dk_at dksX1_post_1 12 rfl rfl)
theorem dX1_post_36 : decode cX1_post 36 = .ok (.iconst 0, 1) := dk_3 (dk_at dksX1_post_1 14 rfl rfl)
theorem dX1_post_37 : decode cX1_post 37 = .ok (.istore 5, 2) := dk_54 5 (dk_at dksX1_post_1 15 rfl rfl)
theorem dX1_post_39 : decode cX1_post 39 = .ok (.ldc_w 282, 3) := dk_19 1 26 (dk_at dksX1_post_1 17 rfl rfl)
theorem dX1_post_42 : decode cX1_post 42 = .ok (.istore 6, 2) := dk_54 6 (dk_at dksX1_post_1 20 rfl rfl)
theorem dX1_post_44 : decode cX1_post 44 = .ok (.iconst 0, 1) := dk_3 (dk_at dksX1_post_1 22 rfl rfl)
theorem dX1_post_45 : decode cX1_post 45 = .ok (.istore 7, 2) := dk_54 7 (dk_at dksX1_post_2 0 rfl rfl)
theorem dX1_post_47 : decode cX1_post 47 = .ok (.iload 7, 2) := dk_21 7 (dk_at dksX1_post_2 2 rfl rfl)
theorem dX1_post_49 : decode cX1_post 49 = .ok (.iconst 1, 1) := dk_4 (dk_at dksX1_post_2 4 rfl rfl)
theorem dX1_post_50 : decode cX1_post 50 = .ok (.iload_n 3, 1) := dk_29 (dk_at dksX1_post_2 5 rfl rfl)
theorem dX1_post_51 : decode cX1_post 51 = .ok (.ishl, 1) := dk_120 (dk_at dksX1_post_2 6 rfl rfl)
theorem dX1_post_52 : decode cX1_post 52 = .ok (.if_icmp .ge 131, 3) := dk_162 0 131 (dk_at dksX1_post_2 7 rfl rfl)
theorem dX1_post_55 : decode cX1_post 55 = .ok (.iload 7, 2) := dk_21 7 (dk_at dksX1_post_2 10 rfl rfl)
theorem dX1_post_57 : decode cX1_post 57 = .ok (.invokestatic 367, 3) := dk_184 1 111 (dk_at dksX1_post_2 12 rfl rfl)
theorem dX1_post_60 : decode cX1_post 60 = .ok (.iload 4, 2) := dk_21 4 (dk_at dksX1_post_2 15 rfl rfl)
theorem dX1_post_62 : decode cX1_post 62 = .ok (.if_icmp .eq 6, 3) := dk_159 0 6 (dk_at dksX1_post_2 17 rfl rfl)
theorem dX1_post_65 : decode cX1_post 65 = .ok (.goto 112, 3) := dk_167 0 112 (dk_at dksX1_post_2 20 rfl rfl)
theorem dX1_post_68 : decode cX1_post 68 = .ok (.aload_n 0, 1) := dk_42 (dk_at dksX1_post_2 23 rfl rfl)
theorem dX1_post_69 : decode cX1_post 69 = .ok (.getfield 48, 3) := dk_180 0 48 (dk_at dksX1_post_3 0 rfl rfl)
theorem dX1_post_72 : decode cX1_post 72 = .ok (.aload_n 0, 1) := dk_42 (dk_at dksX1_post_3 3 rfl rfl)
theorem dX1_post_73 : decode cX1_post 73 = .ok (.getfield 44, 3) := dk_180 0 44 (dk_at dksX1_post_3 4 rfl rfl)
theorem dX1_post_76 : decode cX1_post 76 = .ok (.invokevirtual 341, 3) := dk_182 1 85 (dk_at dksX1_post_3 7 rfl rfl)
theorem dX1_post_79 : decode cX1_post 79 = .ok (.iconst 0, 1) := dk_3 (dk_at dksX1_post_3 10 rfl rfl)
theorem dX1_post_80 : decode cX1_post 80 = .ok (.istore 8, 2) := dk_54 8 (dk_at dksX1_post_3 11 rfl rfl)
theorem dX1_post_82 : decode cX1_post 82 = .ok (.iload 8, 2) := dk_21 8 (dk_at dksX1_post_3 13 rfl rfl)
theorem dX1_post_84 : decode cX1_post 84 = .ok (.iload_n 3, 1) := dk_29 (dk_at dksX1_post_3 15 rfl rfl)
theorem dX1_post_85 : decode cX1_post 85 = .ok (.if_icmp .ge 41, 3) := dk_162 0 41 (dk_at dksX1_post_3 16 rfl rfl)
theorem dX1_post_88 : decode cX1_post 88 = .ok (.iload 7, 2) := dk_21 7 (dk_at dksX1_post_3 19 rfl rfl)
theorem dX1_post_90 : decode cX1_post 90 = .ok (.iload 8, 2) := dk_21 8 (dk_at dksX1_post_3 21 rfl rfl)
theorem dX1_post_92 : decode cX1_post 92 = .ok (.ishr, 1) := dk_122 (dk_at dksX1_post_3 23 rfl rfl)
theorem dX1_post_93 : decode cX1_post 93 = .ok (.iconst 1, 1) := dk_4 (dk_at dksX1_post_4 0 rfl rfl)
theorem dX1_post_94 : decode cX1_post 94 = .ok (.iand, 1) := dk_126 (dk_at dksX1_post_4 1 rfl rfl)
theorem dX1_post_95 : decode cX1_post 95 = .ok (.iconst 1, 1) := dk_4 (dk_at dksX1_post_4 2 rfl rfl)
theorem dX1_post_96 : decode cX1_post 96 = .ok (.if_icmp .ne 24, 3) := dk_160 0 24 (dk_at dksX1_post_4 3 rfl rfl)
theorem dX1_post_99 : decode cX1_post 99 = .ok (.aload_n 0, 1) := dk_42 (dk_at dksX1_post_4 6 rfl rfl)
theorem dX1_post_100 : decode cX1_post 100 = .ok (.getfield 48, 3) := dk_180 0 48 (dk_at dksX1_post_4 7 rfl rfl)
theorem dX1_post_103 : decode cX1_post 103 = .ok (.aload_n 0, 1) := dk_42 (dk_at dksX1_post_4 10 rfl rfl)
theorem dX1_post_104 : decode cX1_post 104 = .ok (.getfield 97, 3) := dk_180 0 97 (dk_at dksX1_post_4 11 rfl rfl)
theorem dX1_post_107 : decode cX1_post 107 = .ok (.iload 8, 2) := dk_21 8 (dk_at dksX1_post_4 14 rfl rfl)
theorem dX1_post_109 : decode cX1_post 109 = .ok (.iaload, 1) := dk_46 (dk_at dksX1_post_4 16 rfl rfl)
theorem dX1_post_110 : decode cX1_post 110 = .ok (.aload_n 0, 1) := dk_42 (dk_at dksX1_post_4 17 rfl rfl)
theorem dX1_post_111 : decode cX1_post 111 = .ok (.getfield 156, 3) := dk_180 0 156 (dk_at dksX1_post_4 18 rfl rfl)
theorem dX1_post_114 : decode cX1_post 114 = .ok (.getfield 299, 3) := dk_180 1 43 (dk_at dksX1_post_4 21 rfl rfl)
theorem dX1_post_117 : decode cX1_post 117 = .ok (.invokevirtual 302, 3) := dk_182 1 46 (dk_at dksX1_post_5 0 rfl rfl)
theorem dX1_post_120 : decode cX1_post 120 = .ok (.iinc 8 1, 3) := dk_132 8 1 (dk_at dksX1_post_5 3 rfl rfl)
theorem dX1_post_123 : decode cX1_post 123 = .ok (.goto (-41), 3) := dk_167 255 215 (dk_at dksX1_post_5 6 rfl rfl)
theorem dX1_post_126 : decode cX1_post 126 = .ok (.aload_n 0, 1) := dk_42 (dk_at dksX1_post_5 9 rfl rfl)
theorem dX1_post_127 : decode cX1_post 127 = .ok (.iconst 1, 1) := dk_4 (dk_at dksX1_post_5 10 rfl rfl)
theorem dX1_post_128 : decode cX1_post 128 = .ok (.invokevirtual 343, 3) := dk_182 1 87 (dk_at dksX1_post_5 11 rfl rfl)
theorem dX1_post_131 : decode cX1_post 131 = .ok (.istore 8, 2) := dk_54 8 (dk_at dksX1_post_5 14 rfl rfl)
theorem dX1_post_133 : decode cX1_post 133 = .ok (.iload 7, 2) := dk_21 7 (dk_at dksX1_post_5 16 rfl rfl)
theorem dX1_post_135 : decode cX1_post 135 = .ok (.iload 5, 2) := dk_21 5 (dk_at dksX1_post_5 18 rfl rfl)
theorem dX1_post_137 : decode cX1_post 137 = .ok (.ixor, 1) := dk_130 (dk_at dksX1_post_5 20 rfl rfl)
theorem dX1_post_138 : decode cX1_post 138 = .ok (.istore 9, 2) := dk_54 9 (dk_at dksX1_post_5 21 rfl rfl)
theorem dX1_post_140 : decode cX1_post 140 = .ok (.iload 8, 2) := dk_21 8 (dk_at dksX1_post_6 0 rfl rfl)
theorem dX1_post_142 : decode cX1_post 142 = .ok (.iload 6, 2) := dk_21 6 (dk_at dksX1_post_6 2 rfl rfl)
theorem dX1_post_144 : decode cX1_post 144 = .ok (.if_icmp .gt 33, 3) := dk_163 0 33 (dk_at dksX1_post_6 4 rfl rfl)
theorem dX1_post_147 : decode cX1_post 147 = .ok (.iload 8, 2) := dk_21 8 (dk_at dksX1_post_6 7 rfl rfl)
theorem dX1_post_149 : decode cX1_post 149 = .ok (.iload 6, 2) := dk_21 6 (dk_at dksX1_post_6 9 rfl rfl)
theorem dX1_post_151 : decode cX1_post 151 = .ok (.if_icmp .ne 18, 3) := dk_160 0 18 (dk_at dksX1_post_6 11 rfl rfl)
theorem dX1_post_154 : decode cX1_post 154 = .ok (.iload 7, 2) := dk_21 7 (dk_at dksX1_post_6 14 rfl rfl)
theorem dX1_post_156 : decode cX1_post 156 = .ok (.iload 9, 2) := dk_21 9 (dk_at dksX1_post_6 16 rfl rfl)
theorem dX1_post_158 : decode cX1_post 158 = .ok (.iand, 1) := dk_126 (dk_at dksX1_post_6 18 rfl rfl)
theorem dX1_post_159 : decode cX1_post 159 = .ok (.iload 9, 2) := dk_21 9 (dk_at dksX1_post_6 19 rfl rfl)
theorem dX1_post_161 : decode cX1_post 161 = .ok (.ineg, 1) := dk_116 (dk_at dksX1_post_6 21 rfl rfl)
theorem dX1_post_162 : decode cX1_post 162 = .ok (.iand, 1) := dk_126 (dk_at dksX1_post_6 22 rfl rfl)
theorem dX1_post_163 : decode cX1_post 163 = .ok (.ifCond .ne 6, 3) := dk_154 0 6 (dk_at dksX1_post_7 0 rfl rfl)
theorem dX1_post_166 : decode cX1_post 166 = .ok (.goto 11, 3) := dk_167 0 11 (dk_at dksX1_post_7 3 rfl rfl)
theorem dX1_post_169 : decode cX1_post 169 = .ok (.iload 8, 2) := dk_21 8 (dk_at dksX1_post_7 6 rfl rfl)
theorem dX1_post_171 : decode cX1_post 171 = .ok (.istore 6, 2) := dk_54 6 (dk_at dksX1_post_7 8 rfl rfl)
theorem dX1_post_173 : decode cX1_post 173 = .ok (.iload 7, 2) := dk_21 7 (dk_at dksX1_post_7 10 rfl rfl)
theorem dX1_post_175 : decode cX1_post 175 = .ok (.istore 5, 2) := dk_54 5 (dk_at dksX1_post_7 12 rfl rfl)
theorem dX1_post_177 : decode cX1_post 177 = .ok (.iinc 7 1, 3) := dk_132 7 1 (dk_at dksX1_post_7 14 rfl rfl)
theorem dX1_post_180 : decode cX1_post 180 = .ok (.goto (-133), 3) := dk_167 255 123 (dk_at dksX1_post_7 17 rfl rfl)
theorem dX1_post_183 : decode cX1_post 183 = .ok (.iload_n 2, 1) := dk_28 (dk_at dksX1_post_7 20 rfl rfl)
theorem dX1_post_184 : decode cX1_post 184 = .ok (.istore 7, 2) := dk_54 7 (dk_at dksX1_post_7 21 rfl rfl)
theorem dX1_post_186 : decode cX1_post 186 = .ok (.iconst 0, 1) := dk_3 (dk_at dksX1_post_7 23 rfl rfl)
theorem dX1_post_187 : decode cX1_post 187 = .ok (.istore 8, 2) := dk_54 8 (dk_at dksX1_post_8 0 rfl rfl)
theorem dX1_post_189 : decode cX1_post 189 = .ok (.iload 8, 2) := dk_21 8 (dk_at dksX1_post_8 2 rfl rfl)
theorem dX1_post_191 : decode cX1_post 191 = .ok (.iload_n 3, 1) := dk_29 (dk_at dksX1_post_8 4 rfl rfl)
theorem dX1_post_192 : decode cX1_post 192 = .ok (.if_icmp .ge 42, 3) := dk_162 0 42 (dk_at dksX1_post_8 5 rfl rfl)
theorem dX1_post_195 : decode cX1_post 195 = .ok (.iload_n 2, 1) := dk_28 (dk_at dksX1_post_8 8 rfl rfl)
theorem dX1_post_196 : decode cX1_post 196 = .ok (.ifCond .lt 38, 3) := dk_155 0 38 (dk_at dksX1_post_8 9 rfl rfl)
theorem dX1_post_199 : decode cX1_post 199 = .ok (.iload 5, 2) := dk_21 5 (dk_at dksX1_post_8 12 rfl rfl)
theorem dX1_post_201 : decode cX1_post 201 = .ok (.iload 8, 2) := dk_21 8 (dk_at dksX1_post_8 14 rfl rfl)
theorem dX1_post_203 : decode cX1_post 203 = .ok (.ishr, 1) := dk_122 (dk_at dksX1_post_8 16 rfl rfl)
theorem dX1_post_204 : decode cX1_post 204 = .ok (.iconst 1, 1) := dk_4 (dk_at dksX1_post_8 17 rfl rfl)
theorem dX1_post_205 : decode cX1_post 205 = .ok (.iand, 1) := dk_126 (dk_at dksX1_post_8 18 rfl rfl)
theorem dX1_post_206 : decode cX1_post 206 = .ok (.ifCond .ne 6, 3) := dk_154 0 6 (dk_at dksX1_post_8 19 rfl rfl)
theorem dX1_post_209 : decode cX1_post 209 = .ok (.goto 19, 3) := dk_167 0 19 (dk_at dksX1_post_9 0 rfl rfl)
theorem dX1_post_212 : decode cX1_post 212 = .ok (.iload 7, 2) := dk_21 7 (dk_at dksX1_post_9 3 rfl rfl)
theorem dX1_post_214 : decode cX1_post 214 = .ok (.ifCond .ne 11, 3) := dk_154 0 11 (dk_at dksX1_post_9 5 rfl rfl)
theorem dX1_post_217 : decode cX1_post 217 = .ok (.aload_n 0, 1) := dk_42 (dk_at dksX1_post_9 8 rfl rfl)
theorem dX1_post_218 : decode cX1_post 218 = .ok (.getfield 97, 3) := dk_180 0 97 (dk_at dksX1_post_9 9 rfl rfl)
theorem dX1_post_221 : decode cX1_post 221 = .ok (.iload 8, 2) := dk_21 8 (dk_at dksX1_post_9 12 rfl rfl)
theorem dX1_post_223 : decode cX1_post 223 = .ok (.iaload, 1) := dk_46 (dk_at dksX1_post_9 14 rfl rfl)
theorem dX1_post_224 : decode cX1_post 224 = .ok (.ireturn, 1) := dk_172 (dk_at dksX1_post_9 15 rfl rfl)
theorem dX1_post_225 : decode cX1_post 225 = .ok (.iinc 7 (-1), 3) := dk_132 7 255 (dk_at dksX1_post_9 16 rfl rfl)
theorem dX1_post_228 : decode cX1_post 228 = .ok (.iinc 8 1, 3) := dk_132 8 1 (dk_at dksX1_post_9 19 rfl rfl)
theorem dX1_post_231 : decode cX1_post 231 = .ok (.goto (-42), 3) := dk_167 255 214 (dk_at dksX1_post_10 0 rfl rfl)
theorem dX1_post_234 : decode cX1_post 234 = .ok (.iconst (-1), 1) := dk_2 (dk_at dksX1_post_10 3 rfl rfl)
theorem dX1_post_235 : decode cX1_post 235 = .ok (.ireturn, 1) := dk_172 (dk_at dksX1_post_10 4 rfl rfl)
def dkwX1_join_1 : List UInt8 := [160, 0, 5, 2, 172, 42, 180, 0, 134, 27, 28, 84, 42, 182, 1, 116, 172]
abbrev dktX1_join_1 : List UInt8 := dkwX1_join_1 ++ []
def dkwX1_join_0 : List UInt8 := [27, 184, 0, 219, 28, 153, 0, 23, 42, 180, 0, 134, 27, 51, 154, 0, 14, 42, 182, 1, 116, 16, 6]
abbrev dktX1_join_0 : List UInt8 := dkwX1_join_0 ++ dktX1_join_1
theorem dksX1_join_0 : cX1_join.data.toList.drop 0 = dktX1_join_0 := by decide +kernel
theorem dksX1_join_1 : cX1_join.data.toList.drop 23 = dktX1_join_1 := dk_seg dksX1_join_0 23 rfl rfl
theorem dX1_join_0 : decode cX1_join 0 = .ok (.iload_n 1, 1) := dk_27 (dk_at dksX1_join_0 0 rfl rfl)
theorem dX1_join_1 : decode cX1_join 1 = .ok (.invokestatic 219, 3) := dk_184 0 219 (dk_at dksX1_join_0 1 rfl rfl)
theorem dX1_join_4 : decode cX1_join 4 = .ok (.iload_n 2, 1) := dk_28 (dk_at dksX1_join_0 4 rfl rfl)
theorem dX1_join_5 : decode cX1_join 5 = .ok (.ifCond .eq 23, 3) := dk_153 0 23 (dk_at dksX1_join_0 5 rfl rfl)
theorem dX1_join_8 : decode cX1_join 8 = .ok (.aload_n 0, 1) := dk_42 (dk_at dksX1_join_0 8 rfl rfl)
theorem dX1_join_9 : decode cX1_join 9 = .ok (.getfield 134, 3) := dk_180 0 134 (dk_at dksX1_join_0 9 rfl rfl)
theorem dX1_join_12 : decode cX1_join 12 = .ok (.iload_n 1, 1) := dk_27 (dk_at dksX1_join_0 12 rfl rfl)
theorem dX1_join_13 : decode cX1_join 13 = .ok (.baload, 1) := dk_51 (dk_at dksX1_join_0 13 rfl rfl)
theorem dX1_join_14 : decode cX1_join 14 = .ok (.ifCond .ne 14, 3) := dk_154 0 14 (dk_at dksX1_join_0 14 rfl rfl)
theorem dX1_join_17 : decode cX1_join 17 = .ok (.aload_n 0, 1) := dk_42 (dk_at dksX1_join_0 17 rfl rfl)
theorem dX1_join_18 : decode cX1_join 18 = .ok (.invokevirtual 372, 3) := dk_182 1 116 (dk_at dksX1_join_0 18 rfl rfl)
theorem dX1_join_21 : decode cX1_join 21 = .ok (.bipush 6, 2) := dk_16 6 (dk_at dksX1_join_0 21 rfl rfl)
theorem dX1_join_23 : decode cX1_join 23 = .ok (.if_icmp .ne 5, 3) := dk_160 0 5 (dk_at dksX1_join_1 0 rfl rfl)
theorem dX1_join_26 : decode cX1_join 26 = .ok (.iconst (-1), 1) := dk_2 (dk_at dksX1_join_1 3 rfl rfl)
theorem dX1_join_27 : decode cX1_join 27 = .ok (.ireturn, 1) := dk_172 (dk_at dksX1_join_1 4 rfl rfl)
theorem dX1_join_28 : decode cX1_join 28 = .ok (.aload_n 0, 1) := dk_42 (dk_at dksX1_join_1 5 rfl rfl)
theorem dX1_join_29 : decode cX1_join 29 = .ok (.getfield 134, 3) := dk_180 0 134 (dk_at dksX1_join_1 6 rfl rfl)
theorem dX1_join_32 : decode cX1_join 32 = .ok (.iload_n 1, 1) := dk_27 (dk_at dksX1_join_1 9 rfl rfl)
theorem dX1_join_33 : decode cX1_join 33 = .ok (.iload_n 2, 1) := dk_28 (dk_at dksX1_join_1 10 rfl rfl)
theorem dX1_join_34 : decode cX1_join 34 = .ok (.bastore, 1) := dk_84 (dk_at dksX1_join_1 11 rfl rfl)
theorem dX1_join_35 : decode cX1_join 35 = .ok (.aload_n 0, 1) := dk_42 (dk_at dksX1_join_1 12 rfl rfl)
theorem dX1_join_36 : decode cX1_join 36 = .ok (.invokevirtual 372, 3) := dk_182 1 116 (dk_at dksX1_join_1 13 rfl rfl)
theorem dX1_join_39 : decode cX1_join 39 = .ok (.ireturn, 1) := dk_172 (dk_at dksX1_join_1 16 rfl rfl)
def dkwX1_away_1 : List UInt8 := [180, 0, 148, 27, 50, 28, 51, 54, 4, 42, 180, 0, 148, 27, 50, 28, 29, 84, 21, 4, 172]
abbrev dktX1_away_1 : List UInt8 := dkwX1_away_1 ++ []
def dkwX1_away_0 : List UInt8 := [27, 184, 0, 219, 28, 3, 17, 3, 231, 184, 0, 163, 154, 0, 7, 4, 167, 0, 4, 3, 184, 0, 178, 42]
abbrev dktX1_away_0 : List UInt8 := dkwX1_away_0 ++ dktX1_away_1
theorem dksX1_away_0 : cX1_away.data.toList.drop 0 = dktX1_away_0 := by decide +kernel
theorem dksX1_away_1 : cX1_away.data.toList.drop 24 = dktX1_away_1 := dk_seg dksX1_away_0 24 rfl rfl
theorem dX1_away_0 : decode cX1_away 0 = .ok (.iload_n 1, 1) := dk_27 (dk_at dksX1_away_0 0 rfl rfl)
theorem dX1_away_1 : decode cX1_away 1 = .ok (.invokestatic 219, 3) := dk_184 0 219 (dk_at dksX1_away_0 1 rfl rfl)
theorem dX1_away_4 : decode cX1_away 4 = .ok (.iload_n 2, 1) := dk_28 (dk_at dksX1_away_0 4 rfl rfl)
theorem dX1_away_5 : decode cX1_away 5 = .ok (.iconst 0, 1) := dk_3 (dk_at dksX1_away_0 5 rfl rfl)
theorem dX1_away_6 : decode cX1_away 6 = .ok (.sipush 999, 3) := dk_17 3 231 (dk_at dksX1_away_0 6 rfl rfl)
theorem dX1_away_9 : decode cX1_away 9 = .ok (.invokestatic 163, 3) := dk_184 0 163 (dk_at dksX1_away_0 9 rfl rfl)
theorem dX1_away_12 : decode cX1_away 12 = .ok (.ifCond .ne 7, 3) := dk_154 0 7 (dk_at dksX1_away_0 12 rfl rfl)
theorem dX1_away_15 : decode cX1_away 15 = .ok (.iconst 1, 1) := dk_4 (dk_at dksX1_away_0 15 rfl rfl)
theorem dX1_away_16 : decode cX1_away 16 = .ok (.goto 4, 3) := dk_167 0 4 (dk_at dksX1_away_0 16 rfl rfl)
theorem dX1_away_19 : decode cX1_away 19 = .ok (.iconst 0, 1) := dk_3 (dk_at dksX1_away_0 19 rfl rfl)
theorem dX1_away_20 : decode cX1_away 20 = .ok (.invokestatic 178, 3) := dk_184 0 178 (dk_at dksX1_away_0 20 rfl rfl)
theorem dX1_away_23 : decode cX1_away 23 = .ok (.aload_n 0, 1) := dk_42 (dk_at dksX1_away_0 23 rfl rfl)
theorem dX1_away_24 : decode cX1_away 24 = .ok (.getfield 148, 3) := dk_180 0 148 (dk_at dksX1_away_1 0 rfl rfl)
theorem dX1_away_27 : decode cX1_away 27 = .ok (.iload_n 1, 1) := dk_27 (dk_at dksX1_away_1 3 rfl rfl)
theorem dX1_away_28 : decode cX1_away 28 = .ok (.aaload, 1) := dk_50 (dk_at dksX1_away_1 4 rfl rfl)
theorem dX1_away_29 : decode cX1_away 29 = .ok (.iload_n 2, 1) := dk_28 (dk_at dksX1_away_1 5 rfl rfl)
theorem dX1_away_30 : decode cX1_away 30 = .ok (.baload, 1) := dk_51 (dk_at dksX1_away_1 6 rfl rfl)
theorem dX1_away_31 : decode cX1_away 31 = .ok (.istore 4, 2) := dk_54 4 (dk_at dksX1_away_1 7 rfl rfl)
theorem dX1_away_33 : decode cX1_away 33 = .ok (.aload_n 0, 1) := dk_42 (dk_at dksX1_away_1 9 rfl rfl)
theorem dX1_away_34 : decode cX1_away 34 = .ok (.getfield 148, 3) := dk_180 0 148 (dk_at dksX1_away_1 10 rfl rfl)
theorem dX1_away_37 : decode cX1_away 37 = .ok (.iload_n 1, 1) := dk_27 (dk_at dksX1_away_1 13 rfl rfl)
theorem dX1_away_38 : decode cX1_away 38 = .ok (.aaload, 1) := dk_50 (dk_at dksX1_away_1 14 rfl rfl)
theorem dX1_away_39 : decode cX1_away 39 = .ok (.iload_n 2, 1) := dk_28 (dk_at dksX1_away_1 15 rfl rfl)
theorem dX1_away_40 : decode cX1_away 40 = .ok (.iload_n 3, 1) := dk_29 (dk_at dksX1_away_1 16 rfl rfl)
theorem dX1_away_41 : decode cX1_away 41 = .ok (.bastore, 1) := dk_84 (dk_at dksX1_away_1 17 rfl rfl)
theorem dX1_away_42 : decode cX1_away 42 = .ok (.iload 4, 2) := dk_21 4 (dk_at dksX1_away_1 18 rfl rfl)
theorem dX1_away_44 : decode cX1_away 44 = .ok (.ireturn, 1) := dk_172 (dk_at dksX1_away_1 20 rfl rfl)
def dkwX1_rota_4 : List UInt8 := [132, 7, 1, 167, 255, 204, 2, 172]
abbrev dktX1_rota_4 : List UInt8 := dkwX1_rota_4 ++ []
def dkwX1_rota_3 : List UInt8 := [21, 7, 122, 4, 126, 154, 0, 6, 167, 0, 14, 21, 6, 154, 0, 6, 21, 7, 172, 132, 6, 255]
abbrev dktX1_rota_3 : List UInt8 := dkwX1_rota_3 ++ dktX1_rota_4
def dkwX1_rota_2 : List UInt8 := [162, 0, 51, 21, 4, 155, 0, 46, 25, 5, 180, 1, 127, 153, 0, 38, 25, 5, 180, 1, 131, 29, 46]
abbrev dktX1_rota_2 : List UInt8 := dkwX1_rota_2 ++ dktX1_rota_3
def dkwX1_rota_1 : List UInt8 := [187, 1, 122, 89, 42, 27, 28, 183, 1, 124, 58, 5, 21, 4, 54, 6, 3, 54, 7, 21, 7, 16, 10]
abbrev dktX1_rota_1 : List UInt8 := dkwX1_rota_1 ++ dktX1_rota_2
def dkwX1_rota_0 : List UInt8 := [27, 28, 184, 1, 119, 29, 3, 27, 4, 100, 184, 0, 163, 154, 0, 7, 4, 167, 0, 4, 3, 184, 0, 178]
abbrev dktX1_rota_0 : List UInt8 := dkwX1_rota_0 ++ dktX1_rota_1
theorem dksX1_rota_0 : cX1_rota.data.toList.drop 0 = dktX1_rota_0 := by decide +kernel
theorem dksX1_rota_1 : cX1_rota.data.toList.drop 24 = dktX1_rota_1 := dk_seg dksX1_rota_0 24 rfl rfl
theorem dksX1_rota_2 : cX1_rota.data.toList.drop 47 = dktX1_rota_2 := dk_seg dksX1_rota_1 23 rfl rfl
theorem dksX1_rota_3 : cX1_rota.data.toList.drop 70 = dktX1_rota_3 := dk_seg dksX1_rota_2 23 rfl rfl
theorem dksX1_rota_4 : cX1_rota.data.toList.drop 92 = dktX1_rota_4 := dk_seg dksX1_rota_3 22 rfl rfl
theorem dX1_rota_0 : decode cX1_rota 0 = .ok (.iload_n 1, 1) := dk_27 (dk_at dksX1_rota_0 0 rfl rfl)
theorem dX1_rota_1 : decode cX1_rota 1 = .ok (.iload_n 2, 1) := dk_28 (dk_at dksX1_rota_0 1 rfl rfl)
theorem dX1_rota_2 : decode cX1_rota 2 = .ok (.invokestatic 375, 3) := dk_184 1 119 (dk_at dksX1_rota_0 2 rfl rfl)
theorem dX1_rota_5 : decode cX1_rota 5 = .ok (.iload_n 3, 1) := dk_29 (dk_at dksX1_rota_0 5 rfl rfl)
theorem dX1_rota_6 : decode cX1_rota 6 = .ok (.iconst 0, 1) := dk_3 (dk_at dksX1_rota_0 6 rfl rfl)
theorem dX1_rota_7 : decode cX1_rota 7 = .ok (.iload_n 1, 1) := dk_27 (dk_at dksX1_rota_0 7 rfl rfl)
theorem dX1_rota_8 : decode cX1_rota 8 = .ok (.iconst 1, 1) := dk_4 (dk_at dksX1_rota_0 8 rfl rfl)
theorem dX1_rota_9 : decode cX1_rota 9 = .ok (.isub, 1) := dk_100 (dk_at dksX1_rota_0 9 rfl rfl)
theorem dX1_rota_10 : decode cX1_rota 10 = .ok (.invokestatic 163, 3) := dk_184 0 163 (dk_at dksX1_rota_0 10 rfl rfl)
theorem dX1_rota_13 : decode cX1_rota 13 = .ok (.ifCond .ne 7, 3) := dk_154 0 7 (dk_at dksX1_rota_0 13 rfl rfl)
theorem dX1_rota_16 : decode cX1_rota 16 = .ok (.iconst 1, 1) := dk_4 (dk_at dksX1_rota_0 16 rfl rfl)
theorem dX1_rota_17 : decode cX1_rota 17 = .ok (.goto 4, 3) := dk_167 0 4 (dk_at dksX1_rota_0 17 rfl rfl)
theorem dX1_rota_20 : decode cX1_rota 20 = .ok (.iconst 0, 1) := dk_3 (dk_at dksX1_rota_0 20 rfl rfl)
theorem dX1_rota_21 : decode cX1_rota 21 = .ok (.invokestatic 178, 3) := dk_184 0 178 (dk_at dksX1_rota_0 21 rfl rfl)
theorem dX1_rota_24 : decode cX1_rota 24 = .ok (.new 378, 3) := dk_187 1 122 (dk_at dksX1_rota_1 0 rfl rfl)
theorem dX1_rota_27 : decode cX1_rota 27 = .ok (.dup, 1) := dk_89 (dk_at dksX1_rota_1 3 rfl rfl)
theorem dX1_rota_28 : decode cX1_rota 28 = .ok (.aload_n 0, 1) := dk_42 (dk_at dksX1_rota_1 4 rfl rfl)
theorem dX1_rota_29 : decode cX1_rota 29 = .ok (.iload_n 1, 1) := dk_27 (dk_at dksX1_rota_1 5 rfl rfl)
theorem dX1_rota_30 : decode cX1_rota 30 = .ok (.iload_n 2, 1) := dk_28 (dk_at dksX1_rota_1 6 rfl rfl)
theorem dX1_rota_31 : decode cX1_rota 31 = .ok (.invokespecial 380, 3) := dk_183 1 124 (dk_at dksX1_rota_1 7 rfl rfl)
theorem dX1_rota_34 : decode cX1_rota 34 = .ok (.astore 5, 2) := dk_58 5 (dk_at dksX1_rota_1 10 rfl rfl)
theorem dX1_rota_36 : decode cX1_rota 36 = .ok (.iload 4, 2) := dk_21 4 (dk_at dksX1_rota_1 12 rfl rfl)
theorem dX1_rota_38 : decode cX1_rota 38 = .ok (.istore 6, 2) := dk_54 6 (dk_at dksX1_rota_1 14 rfl rfl)
theorem dX1_rota_40 : decode cX1_rota 40 = .ok (.iconst 0, 1) := dk_3 (dk_at dksX1_rota_1 16 rfl rfl)
theorem dX1_rota_41 : decode cX1_rota 41 = .ok (.istore 7, 2) := dk_54 7 (dk_at dksX1_rota_1 17 rfl rfl)
theorem dX1_rota_43 : decode cX1_rota 43 = .ok (.iload 7, 2) := dk_21 7 (dk_at dksX1_rota_1 19 rfl rfl)
theorem dX1_rota_45 : decode cX1_rota 45 = .ok (.bipush 10, 2) := dk_16 10 (dk_at dksX1_rota_1 21 rfl rfl)
theorem dX1_rota_47 : decode cX1_rota 47 = .ok (.if_icmp .ge 51, 3) := dk_162 0 51 (dk_at dksX1_rota_2 0 rfl rfl)
theorem dX1_rota_50 : decode cX1_rota 50 = .ok (.iload 4, 2) := dk_21 4 (dk_at dksX1_rota_2 3 rfl rfl)
theorem dX1_rota_52 : decode cX1_rota 52 = .ok (.ifCond .lt 46, 3) := dk_155 0 46 (dk_at dksX1_rota_2 5 rfl rfl)
theorem dX1_rota_55 : decode cX1_rota 55 = .ok (.aload 5, 2) := dk_25 5 (dk_at dksX1_rota_2 8 rfl rfl)
theorem dX1_rota_57 : decode cX1_rota 57 = .ok (.getfield 383, 3) := dk_180 1 127 (dk_at dksX1_rota_2 10 rfl rfl)
theorem dX1_rota_60 : decode cX1_rota 60 = .ok (.ifCond .eq 38, 3) := dk_153 0 38 (dk_at dksX1_rota_2 13 rfl rfl)
theorem dX1_rota_63 : decode cX1_rota 63 = .ok (.aload 5, 2) := dk_25 5 (dk_at dksX1_rota_2 16 rfl rfl)
theorem dX1_rota_65 : decode cX1_rota 65 = .ok (.getfield 387, 3) := dk_180 1 131 (dk_at dksX1_rota_2 18 rfl rfl)
theorem dX1_rota_68 : decode cX1_rota 68 = .ok (.iload_n 3, 1) := dk_29 (dk_at dksX1_rota_2 21 rfl rfl)
theorem dX1_rota_69 : decode cX1_rota 69 = .ok (.iaload, 1) := dk_46 (dk_at dksX1_rota_2 22 rfl rfl)
theorem dX1_rota_70 : decode cX1_rota 70 = .ok (.iload 7, 2) := dk_21 7 (dk_at dksX1_rota_3 0 rfl rfl)
theorem dX1_rota_72 : decode cX1_rota 72 = .ok (.ishr, 1) := dk_122 (dk_at dksX1_rota_3 2 rfl rfl)
theorem dX1_rota_73 : decode cX1_rota 73 = .ok (.iconst 1, 1) := dk_4 (dk_at dksX1_rota_3 3 rfl rfl)
theorem dX1_rota_74 : decode cX1_rota 74 = .ok (.iand, 1) := dk_126 (dk_at dksX1_rota_3 4 rfl rfl)
theorem dX1_rota_75 : decode cX1_rota 75 = .ok (.ifCond .ne 6, 3) := dk_154 0 6 (dk_at dksX1_rota_3 5 rfl rfl)
theorem dX1_rota_78 : decode cX1_rota 78 = .ok (.goto 14, 3) := dk_167 0 14 (dk_at dksX1_rota_3 8 rfl rfl)
theorem dX1_rota_81 : decode cX1_rota 81 = .ok (.iload 6, 2) := dk_21 6 (dk_at dksX1_rota_3 11 rfl rfl)
theorem dX1_rota_83 : decode cX1_rota 83 = .ok (.ifCond .ne 6, 3) := dk_154 0 6 (dk_at dksX1_rota_3 13 rfl rfl)
theorem dX1_rota_86 : decode cX1_rota 86 = .ok (.iload 7, 2) := dk_21 7 (dk_at dksX1_rota_3 16 rfl rfl)
theorem dX1_rota_88 : decode cX1_rota 88 = .ok (.ireturn, 1) := dk_172 (dk_at dksX1_rota_3 18 rfl rfl)
theorem dX1_rota_89 : decode cX1_rota 89 = .ok (.iinc 6 (-1), 3) := dk_132 6 255 (dk_at dksX1_rota_3 19 rfl rfl)
theorem dX1_rota_92 : decode cX1_rota 92 = .ok (.iinc 7 1, 3) := dk_132 7 1 (dk_at dksX1_rota_4 0 rfl rfl)
theorem dX1_rota_95 : decode cX1_rota 95 = .ok (.goto (-52), 3) := dk_167 255 204 (dk_at dksX1_rota_4 3 rfl rfl)
theorem dX1_rota_98 : decode cX1_rota 98 = .ok (.iconst (-1), 1) := dk_2 (dk_at dksX1_rota_4 6 rfl rfl)
theorem dX1_rota_99 : decode cX1_rota 99 = .ok (.ireturn, 1) := dk_172 (dk_at dksX1_rota_4 7 rfl rfl)
def dkwX1_nights_1 : List UInt8 := [184, 0, 178, 177]
abbrev dktX1_nights_1 : List UInt8 := dkwX1_nights_1 ++ []
def dkwX1_nights_0 : List UInt8 := [26, 4, 16, 6, 184, 0, 163, 153, 0, 12, 27, 4, 5, 184, 0, 163, 154, 0, 7, 4, 167, 0, 4, 3]
abbrev dktX1_nights_0 : List UInt8 := dkwX1_nights_0 ++ dktX1_nights_1
theorem dksX1_nights_0 : cX1_nights.data.toList.drop 0 = dktX1_nights_0 := by decide +kernel
theorem dksX1_nights_1 : cX1_nights.data.toList.drop 24 = dktX1_nights_1 := dk_seg dksX1_nights_0 24 rfl rfl
theorem dX1_nights_0 : decode cX1_nights 0 = .ok (.iload_n 0, 1) := dk_26 (dk_at dksX1_nights_0 0 rfl rfl)
theorem dX1_nights_1 : decode cX1_nights 1 = .ok (.iconst 1, 1) := dk_4 (dk_at dksX1_nights_0 1 rfl rfl)
theorem dX1_nights_2 : decode cX1_nights 2 = .ok (.bipush 6, 2) := dk_16 6 (dk_at dksX1_nights_0 2 rfl rfl)
theorem dX1_nights_4 : decode cX1_nights 4 = .ok (.invokestatic 163, 3) := dk_184 0 163 (dk_at dksX1_nights_0 4 rfl rfl)
theorem dX1_nights_7 : decode cX1_nights 7 = .ok (.ifCond .eq 12, 3) := dk_153 0 12 (dk_at dksX1_nights_0 7 rfl rfl)
theorem dX1_nights_10 : decode cX1_nights 10 = .ok (.iload_n 1, 1) := dk_27 (dk_at dksX1_nights_0 10 rfl rfl)
theorem dX1_nights_11 : decode cX1_nights 11 = .ok (.iconst 1, 1) := dk_4 (dk_at dksX1_nights_0 11 rfl rfl)
theorem dX1_nights_12 : decode cX1_nights 12 = .ok (.iconst 2, 1) := dk_5 (dk_at dksX1_nights_0 12 rfl rfl)
theorem dX1_nights_13 : decode cX1_nights 13 = .ok (.invokestatic 163, 3) := dk_184 0 163 (dk_at dksX1_nights_0 13 rfl rfl)
theorem dX1_nights_16 : decode cX1_nights 16 = .ok (.ifCond .ne 7, 3) := dk_154 0 7 (dk_at dksX1_nights_0 16 rfl rfl)
theorem dX1_nights_19 : decode cX1_nights 19 = .ok (.iconst 1, 1) := dk_4 (dk_at dksX1_nights_0 19 rfl rfl)
theorem dX1_nights_20 : decode cX1_nights 20 = .ok (.goto 4, 3) := dk_167 0 4 (dk_at dksX1_nights_0 20 rfl rfl)
theorem dX1_nights_23 : decode cX1_nights 23 = .ok (.iconst 0, 1) := dk_3 (dk_at dksX1_nights_0 23 rfl rfl)
theorem dX1_nights_24 : decode cX1_nights 24 = .ok (.invokestatic 178, 3) := dk_184 0 178 (dk_at dksX1_nights_1 0 rfl rfl)
theorem dX1_nights_27 : decode cX1_nights 27 = .ok (.return_, 1) := dk_177 (dk_at dksX1_nights_1 3 rfl rfl)
def dkwX1_isAway_0 : List UInt8 := [28, 17, 3, 232, 162, 0, 18, 42, 180, 0, 148, 27, 50, 28, 51, 153, 0, 7, 4, 167, 0, 4, 3, 172]
abbrev dktX1_isAway_0 : List UInt8 := dkwX1_isAway_0 ++ []
theorem dksX1_isAway_0 : cX1_isAway.data.toList.drop 0 = dktX1_isAway_0 := by decide +kernel
theorem dX1_isAway_0 : decode cX1_isAway 0 = .ok (.iload_n 2, 1) := dk_28 (dk_at dksX1_isAway_0 0 rfl rfl)
theorem dX1_isAway_1 : decode cX1_isAway 1 = .ok (.sipush 1000, 3) := dk_17 3 232 (dk_at dksX1_isAway_0 1 rfl rfl)
theorem dX1_isAway_4 : decode cX1_isAway 4 = .ok (.if_icmp .ge 18, 3) := dk_162 0 18 (dk_at dksX1_isAway_0 4 rfl rfl)
theorem dX1_isAway_7 : decode cX1_isAway 7 = .ok (.aload_n 0, 1) := dk_42 (dk_at dksX1_isAway_0 7 rfl rfl)
theorem dX1_isAway_8 : decode cX1_isAway 8 = .ok (.getfield 148, 3) := dk_180 0 148 (dk_at dksX1_isAway_0 8 rfl rfl)
theorem dX1_isAway_11 : decode cX1_isAway 11 = .ok (.iload_n 1, 1) := dk_27 (dk_at dksX1_isAway_0 11 rfl rfl)
theorem dX1_isAway_12 : decode cX1_isAway 12 = .ok (.aaload, 1) := dk_50 (dk_at dksX1_isAway_0 12 rfl rfl)
theorem dX1_isAway_13 : decode cX1_isAway 13 = .ok (.iload_n 2, 1) := dk_28 (dk_at dksX1_isAway_0 13 rfl rfl)
theorem dX1_isAway_14 : decode cX1_isAway 14 = .ok (.baload, 1) := dk_51 (dk_at dksX1_isAway_0 14 rfl rfl)
theorem dX1_isAway_15 : decode cX1_isAway 15 = .ok (.ifCond .eq 7, 3) := dk_153 0 7 (dk_at dksX1_isAway_0 15 rfl rfl)
theorem dX1_isAway_18 : decode cX1_isAway 18 = .ok (.iconst 1, 1) := dk_4 (dk_at dksX1_isAway_0 18 rfl rfl)
theorem dX1_isAway_19 : decode cX1_isAway 19 = .ok (.goto 4, 3) := dk_167 0 4 (dk_at dksX1_isAway_0 19 rfl rfl)
theorem dX1_isAway_22 : decode cX1_isAway 22 = .ok (.iconst 0, 1) := dk_3 (dk_at dksX1_isAway_0 22 rfl rfl)
theorem dX1_isAway_23 : decode cX1_isAway 23 = .ok (.ireturn, 1) := dk_172 (dk_at dksX1_isAway_0 23 rfl rfl)
def dkwX1_loads_1 : List UInt8 := [180, 1, 134, 167, 0, 4, 2, 172]
abbrev dktX1_loads_1 : List UInt8 := dkwX1_loads_1 ++ []
def dkwX1_loads_0 : List UInt8 := [27, 28, 184, 1, 119, 187, 1, 122, 89, 42, 27, 28, 183, 1, 124, 78, 45, 180, 1, 127, 153, 0, 10, 45]
abbrev dktX1_loads_0 : List UInt8 := dkwX1_loads_0 ++ dktX1_loads_1
theorem dksX1_loads_0 : cX1_loads.data.toList.drop 0 = dktX1_loads_0 := by decide +kernel
theorem dksX1_loads_1 : cX1_loads.data.toList.drop 24 = dktX1_loads_1 := dk_seg dksX1_loads_0 24 rfl rfl
theorem dX1_loads_0 : decode cX1_loads 0 = .ok (.iload_n 1, 1) := dk_27 (dk_at dksX1_loads_0 0 rfl rfl)
theorem dX1_loads_1 : decode cX1_loads 1 = .ok (.iload_n 2, 1) := dk_28 (dk_at dksX1_loads_0 1 rfl rfl)
theorem dX1_loads_2 : decode cX1_loads 2 = .ok (.invokestatic 375, 3) := dk_184 1 119 (dk_at dksX1_loads_0 2 rfl rfl)
theorem dX1_loads_5 : decode cX1_loads 5 = .ok (.new 378, 3) := dk_187 1 122 (dk_at dksX1_loads_0 5 rfl rfl)
theorem dX1_loads_8 : decode cX1_loads 8 = .ok (.dup, 1) := dk_89 (dk_at dksX1_loads_0 8 rfl rfl)
theorem dX1_loads_9 : decode cX1_loads 9 = .ok (.aload_n 0, 1) := dk_42 (dk_at dksX1_loads_0 9 rfl rfl)
theorem dX1_loads_10 : decode cX1_loads 10 = .ok (.iload_n 1, 1) := dk_27 (dk_at dksX1_loads_0 10 rfl rfl)
theorem dX1_loads_11 : decode cX1_loads 11 = .ok (.iload_n 2, 1) := dk_28 (dk_at dksX1_loads_0 11 rfl rfl)
theorem dX1_loads_12 : decode cX1_loads 12 = .ok (.invokespecial 380, 3) := dk_183 1 124 (dk_at dksX1_loads_0 12 rfl rfl)
theorem dX1_loads_15 : decode cX1_loads 15 = .ok (.astore_n 3, 1) := dk_78 (dk_at dksX1_loads_0 15 rfl rfl)
theorem dX1_loads_16 : decode cX1_loads 16 = .ok (.aload_n 3, 1) := dk_45 (dk_at dksX1_loads_0 16 rfl rfl)
theorem dX1_loads_17 : decode cX1_loads 17 = .ok (.getfield 383, 3) := dk_180 1 127 (dk_at dksX1_loads_0 17 rfl rfl)
theorem dX1_loads_20 : decode cX1_loads 20 = .ok (.ifCond .eq 10, 3) := dk_153 0 10 (dk_at dksX1_loads_0 20 rfl rfl)
theorem dX1_loads_23 : decode cX1_loads 23 = .ok (.aload_n 3, 1) := dk_45 (dk_at dksX1_loads_0 23 rfl rfl)
theorem dX1_loads_24 : decode cX1_loads 24 = .ok (.getfield 390, 3) := dk_180 1 134 (dk_at dksX1_loads_1 0 rfl rfl)
theorem dX1_loads_27 : decode cX1_loads 27 = .ok (.goto 4, 3) := dk_167 0 4 (dk_at dksX1_loads_1 3 rfl rfl)
theorem dX1_loads_30 : decode cX1_loads 30 = .ok (.iconst (-1), 1) := dk_2 (dk_at dksX1_loads_1 6 rfl rfl)
theorem dX1_loads_31 : decode cX1_loads 31 = .ok (.ireturn, 1) := dk_172 (dk_at dksX1_loads_1 7 rfl rfl)
def dkwX1_find_3 : List UInt8 := [182, 0, 189, 172]
abbrev dktX1_find_3 : List UInt8 := dkwX1_find_3 ++ []
def dkwX1_find_2 : List UInt8 := [180, 1, 144, 187, 1, 147, 89, 42, 180, 1, 69, 28, 183, 1, 149, 182, 1, 5, 87, 45, 180, 1, 144]
abbrev dktX1_find_2 : List UInt8 := dkwX1_find_2 ++ dktX1_find_3
def dkwX1_find_1 : List UInt8 := [42, 180, 1, 141, 16, 100, 160, 0, 5, 2, 172, 42, 89, 180, 1, 141, 4, 96, 181, 1, 141, 45]
abbrev dktX1_find_1 : List UInt8 := dkwX1_find_1 ++ dktX1_find_2
def dkwX1_find_0 : List UInt8 := [42, 27, 182, 1, 137, 78, 28, 3, 18, 182, 184, 0, 163, 154, 0, 7, 4, 167, 0, 4, 3, 184, 0, 178]
abbrev dktX1_find_0 : List UInt8 := dkwX1_find_0 ++ dktX1_find_1
theorem dksX1_find_0 : cX1_find.data.toList.drop 0 = dktX1_find_0 := by decide +kernel
theorem dksX1_find_1 : cX1_find.data.toList.drop 24 = dktX1_find_1 := dk_seg dksX1_find_0 24 rfl rfl
theorem dksX1_find_2 : cX1_find.data.toList.drop 46 = dktX1_find_2 := dk_seg dksX1_find_1 22 rfl rfl
theorem dksX1_find_3 : cX1_find.data.toList.drop 69 = dktX1_find_3 := dk_seg dksX1_find_2 23 rfl rfl
theorem dX1_find_0 : decode cX1_find 0 = .ok (.aload_n 0, 1) := dk_42 (dk_at dksX1_find_0 0 rfl rfl)
theorem dX1_find_1 : decode cX1_find 1 = .ok (.iload_n 1, 1) := dk_27 (dk_at dksX1_find_0 1 rfl rfl)
theorem dX1_find_2 : decode cX1_find 2 = .ok (.invokevirtual 393, 3) := dk_182 1 137 (dk_at dksX1_find_0 2 rfl rfl)
theorem dX1_find_5 : decode cX1_find 5 = .ok (.astore_n 3, 1) := dk_78 (dk_at dksX1_find_0 5 rfl rfl)
theorem dX1_find_6 : decode cX1_find 6 = .ok (.iload_n 2, 1) := dk_28 (dk_at dksX1_find_0 6 rfl rfl)
theorem dX1_find_7 : decode cX1_find 7 = .ok (.iconst 0, 1) := dk_3 (dk_at dksX1_find_0 7 rfl rfl)
theorem dX1_find_8 : decode cX1_find 8 = .ok (.ldc 182, 2) := dk_18 182 (dk_at dksX1_find_0 8 rfl rfl)
theorem dX1_find_10 : decode cX1_find 10 = .ok (.invokestatic 163, 3) := dk_184 0 163 (dk_at dksX1_find_0 10 rfl rfl)
theorem dX1_find_13 : decode cX1_find 13 = .ok (.ifCond .ne 7, 3) := dk_154 0 7 (dk_at dksX1_find_0 13 rfl rfl)
theorem dX1_find_16 : decode cX1_find 16 = .ok (.iconst 1, 1) := dk_4 (dk_at dksX1_find_0 16 rfl rfl)
theorem dX1_find_17 : decode cX1_find 17 = .ok (.goto 4, 3) := dk_167 0 4 (dk_at dksX1_find_0 17 rfl rfl)
theorem dX1_find_20 : decode cX1_find 20 = .ok (.iconst 0, 1) := dk_3 (dk_at dksX1_find_0 20 rfl rfl)
theorem dX1_find_21 : decode cX1_find 21 = .ok (.invokestatic 178, 3) := dk_184 0 178 (dk_at dksX1_find_0 21 rfl rfl)
theorem dX1_find_24 : decode cX1_find 24 = .ok (.aload_n 0, 1) := dk_42 (dk_at dksX1_find_1 0 rfl rfl)
theorem dX1_find_25 : decode cX1_find 25 = .ok (.getfield 397, 3) := dk_180 1 141 (dk_at dksX1_find_1 1 rfl rfl)
theorem dX1_find_28 : decode cX1_find 28 = .ok (.bipush 100, 2) := dk_16 100 (dk_at dksX1_find_1 4 rfl rfl)
theorem dX1_find_30 : decode cX1_find 30 = .ok (.if_icmp .ne 5, 3) := dk_160 0 5 (dk_at dksX1_find_1 6 rfl rfl)
theorem dX1_find_33 : decode cX1_find 33 = .ok (.iconst (-1), 1) := dk_2 (dk_at dksX1_find_1 9 rfl rfl)
theorem dX1_find_34 : decode cX1_find 34 = .ok (.ireturn, 1) := dk_172 (dk_at dksX1_find_1 10 rfl rfl)
theorem dX1_find_35 : decode cX1_find 35 = .ok (.aload_n 0, 1) := dk_42 (dk_at dksX1_find_1 11 rfl rfl)
theorem dX1_find_36 : decode cX1_find 36 = .ok (.dup, 1) := dk_89 (dk_at dksX1_find_1 12 rfl rfl)
theorem dX1_find_37 : decode cX1_find 37 = .ok (.getfield 397, 3) := dk_180 1 141 (dk_at dksX1_find_1 13 rfl rfl)
theorem dX1_find_40 : decode cX1_find 40 = .ok (.iconst 1, 1) := dk_4 (dk_at dksX1_find_1 16 rfl rfl)
theorem dX1_find_41 : decode cX1_find 41 = .ok (.iadd, 1) := dk_96 (dk_at dksX1_find_1 17 rfl rfl)
theorem dX1_find_42 : decode cX1_find 42 = .ok (.putfield 397, 3) := dk_181 1 141 (dk_at dksX1_find_1 18 rfl rfl)
theorem dX1_find_45 : decode cX1_find 45 = .ok (.aload_n 3, 1) := dk_45 (dk_at dksX1_find_1 21 rfl rfl)
theorem dX1_find_46 : decode cX1_find 46 = .ok (.getfield 400, 3) := dk_180 1 144 (dk_at dksX1_find_2 0 rfl rfl)
theorem dX1_find_49 : decode cX1_find 49 = .ok (.new 403, 3) := dk_187 1 147 (dk_at dksX1_find_2 3 rfl rfl)
theorem dX1_find_52 : decode cX1_find 52 = .ok (.dup, 1) := dk_89 (dk_at dksX1_find_2 6 rfl rfl)
theorem dX1_find_53 : decode cX1_find 53 = .ok (.aload_n 0, 1) := dk_42 (dk_at dksX1_find_2 7 rfl rfl)
theorem dX1_find_54 : decode cX1_find 54 = .ok (.getfield 325, 3) := dk_180 1 69 (dk_at dksX1_find_2 8 rfl rfl)
theorem dX1_find_57 : decode cX1_find 57 = .ok (.iload_n 2, 1) := dk_28 (dk_at dksX1_find_2 11 rfl rfl)
theorem dX1_find_58 : decode cX1_find 58 = .ok (.invokespecial 405, 3) := dk_183 1 149 (dk_at dksX1_find_2 12 rfl rfl)
theorem dX1_find_61 : decode cX1_find 61 = .ok (.invokevirtual 261, 3) := dk_182 1 5 (dk_at dksX1_find_2 15 rfl rfl)
theorem dX1_find_64 : decode cX1_find 64 = .ok (.pop, 1) := dk_87 (dk_at dksX1_find_2 18 rfl rfl)
theorem dX1_find_65 : decode cX1_find 65 = .ok (.aload_n 3, 1) := dk_45 (dk_at dksX1_find_2 19 rfl rfl)
theorem dX1_find_66 : decode cX1_find 66 = .ok (.getfield 400, 3) := dk_180 1 144 (dk_at dksX1_find_2 20 rfl rfl)
theorem dX1_find_69 : decode cX1_find 69 = .ok (.invokevirtual 189, 3) := dk_182 0 189 (dk_at dksX1_find_3 0 rfl rfl)
theorem dX1_find_72 : decode cX1_find 72 = .ok (.ireturn, 1) := dk_172 (dk_at dksX1_find_3 3 rfl rfl)
def dkwX1_claimAt_1 : List UInt8 := [191, 42, 180, 0, 75, 27, 182, 0, 193, 192, 1, 102, 176]
abbrev dktX1_claimAt_1 : List UInt8 := dkwX1_claimAt_1 ++ []
def dkwX1_claimAt_0 : List UInt8 := [27, 3, 42, 180, 0, 75, 182, 0, 189, 4, 100, 184, 0, 163, 154, 0, 11, 187, 1, 9, 89, 183, 1, 11]
abbrev dktX1_claimAt_0 : List UInt8 := dkwX1_claimAt_0 ++ dktX1_claimAt_1
theorem dksX1_claimAt_0 : cX1_claimAt.data.toList.drop 0 = dktX1_claimAt_0 := by decide +kernel
theorem dksX1_claimAt_1 : cX1_claimAt.data.toList.drop 24 = dktX1_claimAt_1 := dk_seg dksX1_claimAt_0 24 rfl rfl
theorem dX1_claimAt_0 : decode cX1_claimAt 0 = .ok (.iload_n 1, 1) := dk_27 (dk_at dksX1_claimAt_0 0 rfl rfl)
theorem dX1_claimAt_1 : decode cX1_claimAt 1 = .ok (.iconst 0, 1) := dk_3 (dk_at dksX1_claimAt_0 1 rfl rfl)
theorem dX1_claimAt_2 : decode cX1_claimAt 2 = .ok (.aload_n 0, 1) := dk_42 (dk_at dksX1_claimAt_0 2 rfl rfl)
theorem dX1_claimAt_3 : decode cX1_claimAt 3 = .ok (.getfield 75, 3) := dk_180 0 75 (dk_at dksX1_claimAt_0 3 rfl rfl)
theorem dX1_claimAt_6 : decode cX1_claimAt 6 = .ok (.invokevirtual 189, 3) := dk_182 0 189 (dk_at dksX1_claimAt_0 6 rfl rfl)
theorem dX1_claimAt_9 : decode cX1_claimAt 9 = .ok (.iconst 1, 1) := dk_4 (dk_at dksX1_claimAt_0 9 rfl rfl)
theorem dX1_claimAt_10 : decode cX1_claimAt 10 = .ok (.isub, 1) := dk_100 (dk_at dksX1_claimAt_0 10 rfl rfl)
theorem dX1_claimAt_11 : decode cX1_claimAt 11 = .ok (.invokestatic 163, 3) := dk_184 0 163 (dk_at dksX1_claimAt_0 11 rfl rfl)
theorem dX1_claimAt_14 : decode cX1_claimAt 14 = .ok (.ifCond .ne 11, 3) := dk_154 0 11 (dk_at dksX1_claimAt_0 14 rfl rfl)
theorem dX1_claimAt_17 : decode cX1_claimAt 17 = .ok (.new 265, 3) := dk_187 1 9 (dk_at dksX1_claimAt_0 17 rfl rfl)
theorem dX1_claimAt_20 : decode cX1_claimAt 20 = .ok (.dup, 1) := dk_89 (dk_at dksX1_claimAt_0 20 rfl rfl)
theorem dX1_claimAt_21 : decode cX1_claimAt 21 = .ok (.invokespecial 267, 3) := dk_183 1 11 (dk_at dksX1_claimAt_0 21 rfl rfl)
theorem dX1_claimAt_24 : decode cX1_claimAt 24 = .ok (.athrow, 1) := dk_191 (dk_at dksX1_claimAt_1 0 rfl rfl)
theorem dX1_claimAt_25 : decode cX1_claimAt 25 = .ok (.aload_n 0, 1) := dk_42 (dk_at dksX1_claimAt_1 1 rfl rfl)
theorem dX1_claimAt_26 : decode cX1_claimAt 26 = .ok (.getfield 75, 3) := dk_180 0 75 (dk_at dksX1_claimAt_1 2 rfl rfl)
theorem dX1_claimAt_29 : decode cX1_claimAt 29 = .ok (.iload_n 1, 1) := dk_27 (dk_at dksX1_claimAt_1 5 rfl rfl)
theorem dX1_claimAt_30 : decode cX1_claimAt 30 = .ok (.invokevirtual 193, 3) := dk_182 0 193 (dk_at dksX1_claimAt_1 6 rfl rfl)
theorem dX1_claimAt_33 : decode cX1_claimAt 33 = .ok (.checkcast 358, 3) := dk_192 1 102 (dk_at dksX1_claimAt_1 9 rfl rfl)
theorem dX1_claimAt_36 : decode cX1_claimAt 36 = .ok (.areturn, 1) := dk_176 (dk_at dksX1_claimAt_1 12 rfl rfl)
def dkwX1_harm_3 : List UInt8 := [96, 54, 5, 132, 6, 1, 167, 255, 189, 21, 5, 172]
abbrev dktX1_harm_3 : List UInt8 := dkwX1_harm_3 ++ []
def dkwX1_harm_2 : List UInt8 := [25, 7, 180, 1, 153, 28, 29, 184, 0, 163, 153, 0, 13, 25, 7, 21, 4, 182, 1, 154, 167, 0, 4, 3]
abbrev dktX1_harm_2 : List UInt8 := dkwX1_harm_2 ++ dktX1_harm_3
def dkwX1_harm_1 : List UInt8 := [180, 0, 75, 21, 6, 182, 0, 193, 192, 1, 102, 58, 7, 21, 5, 25, 7, 180, 1, 151, 27, 160, 0, 26]
abbrev dktX1_harm_1 : List UInt8 := dkwX1_harm_1 ++ dktX1_harm_2
def dkwX1_harm_0 : List UInt8 := [27, 184, 0, 219, 3, 54, 5, 3, 54, 6, 21, 6, 42, 180, 0, 75, 182, 0, 189, 162, 0, 61, 42]
abbrev dktX1_harm_0 : List UInt8 := dkwX1_harm_0 ++ dktX1_harm_1
theorem dksX1_harm_0 : cX1_harm.data.toList.drop 0 = dktX1_harm_0 := by decide +kernel
theorem dksX1_harm_1 : cX1_harm.data.toList.drop 23 = dktX1_harm_1 := dk_seg dksX1_harm_0 23 rfl rfl
theorem dksX1_harm_2 : cX1_harm.data.toList.drop 47 = dktX1_harm_2 := dk_seg dksX1_harm_1 24 rfl rfl
theorem dksX1_harm_3 : cX1_harm.data.toList.drop 71 = dktX1_harm_3 := dk_seg dksX1_harm_2 24 rfl rfl
theorem dX1_harm_0 : decode cX1_harm 0 = .ok (.iload_n 1, 1) := dk_27 (dk_at dksX1_harm_0 0 rfl rfl)
theorem dX1_harm_1 : decode cX1_harm 1 = .ok (.invokestatic 219, 3) := dk_184 0 219 (dk_at dksX1_harm_0 1 rfl rfl)
theorem dX1_harm_4 : decode cX1_harm 4 = .ok (.iconst 0, 1) := dk_3 (dk_at dksX1_harm_0 4 rfl rfl)
theorem dX1_harm_5 : decode cX1_harm 5 = .ok (.istore 5, 2) := dk_54 5 (dk_at dksX1_harm_0 5 rfl rfl)
theorem dX1_harm_7 : decode cX1_harm 7 = .ok (.iconst 0, 1) := dk_3 (dk_at dksX1_harm_0 7 rfl rfl)
theorem dX1_harm_8 : decode cX1_harm 8 = .ok (.istore 6, 2) := dk_54 6 (dk_at dksX1_harm_0 8 rfl rfl)
theorem dX1_harm_10 : decode cX1_harm 10 = .ok (.iload 6, 2) := dk_21 6 (dk_at dksX1_harm_0 10 rfl rfl)
theorem dX1_harm_12 : decode cX1_harm 12 = .ok (.aload_n 0, 1) := dk_42 (dk_at dksX1_harm_0 12 rfl rfl)
theorem dX1_harm_13 : decode cX1_harm 13 = .ok (.getfield 75, 3) := dk_180 0 75 (dk_at dksX1_harm_0 13 rfl rfl)
theorem dX1_harm_16 : decode cX1_harm 16 = .ok (.invokevirtual 189, 3) := dk_182 0 189 (dk_at dksX1_harm_0 16 rfl rfl)
theorem dX1_harm_19 : decode cX1_harm 19 = .ok (.if_icmp .ge 61, 3) := dk_162 0 61 (dk_at dksX1_harm_0 19 rfl rfl)
theorem dX1_harm_22 : decode cX1_harm 22 = .ok (.aload_n 0, 1) := dk_42 (dk_at dksX1_harm_0 22 rfl rfl)
theorem dX1_harm_23 : decode cX1_harm 23 = .ok (.getfield 75, 3) := dk_180 0 75 (dk_at dksX1_harm_1 0 rfl rfl)
theorem dX1_harm_26 : decode cX1_harm 26 = .ok (.iload 6, 2) := dk_21 6 (dk_at dksX1_harm_1 3 rfl rfl)
theorem dX1_harm_28 : decode cX1_harm 28 = .ok (.invokevirtual 193, 3) := dk_182 0 193 (dk_at dksX1_harm_1 5 rfl rfl)
theorem dX1_harm_31 : decode cX1_harm 31 = .ok (.checkcast 358, 3) := dk_192 1 102 (dk_at dksX1_harm_1 8 rfl rfl)
theorem dX1_harm_34 : decode cX1_harm 34 = .ok (.astore 7, 2) := dk_58 7 (dk_at dksX1_harm_1 11 rfl rfl)
theorem dX1_harm_36 : decode cX1_harm 36 = .ok (.iload 5, 2) := dk_21 5 (dk_at dksX1_harm_1 13 rfl rfl)
theorem dX1_harm_38 : decode cX1_harm 38 = .ok (.aload 7, 2) := dk_25 7 (dk_at dksX1_harm_1 15 rfl rfl)
theorem dX1_harm_40 : decode cX1_harm 40 = .ok (.getfield 407, 3) := dk_180 1 151 (dk_at dksX1_harm_1 17 rfl rfl)
theorem dX1_harm_43 : decode cX1_harm 43 = .ok (.iload_n 1, 1) := dk_27 (dk_at dksX1_harm_1 20 rfl rfl)
theorem dX1_harm_44 : decode cX1_harm 44 = .ok (.if_icmp .ne 26, 3) := dk_160 0 26 (dk_at dksX1_harm_1 21 rfl rfl)
theorem dX1_harm_47 : decode cX1_harm 47 = .ok (.aload 7, 2) := dk_25 7 (dk_at dksX1_harm_2 0 rfl rfl)
theorem dX1_harm_49 : decode cX1_harm 49 = .ok (.getfield 409, 3) := dk_180 1 153 (dk_at dksX1_harm_2 2 rfl rfl)
theorem dX1_harm_52 : decode cX1_harm 52 = .ok (.iload_n 2, 1) := dk_28 (dk_at dksX1_harm_2 5 rfl rfl)
theorem dX1_harm_53 : decode cX1_harm 53 = .ok (.iload_n 3, 1) := dk_29 (dk_at dksX1_harm_2 6 rfl rfl)
theorem dX1_harm_54 : decode cX1_harm 54 = .ok (.invokestatic 163, 3) := dk_184 0 163 (dk_at dksX1_harm_2 7 rfl rfl)
theorem dX1_harm_57 : decode cX1_harm 57 = .ok (.ifCond .eq 13, 3) := dk_153 0 13 (dk_at dksX1_harm_2 10 rfl rfl)
theorem dX1_harm_60 : decode cX1_harm 60 = .ok (.aload 7, 2) := dk_25 7 (dk_at dksX1_harm_2 13 rfl rfl)
theorem dX1_harm_62 : decode cX1_harm 62 = .ok (.iload 4, 2) := dk_21 4 (dk_at dksX1_harm_2 15 rfl rfl)
theorem dX1_harm_64 : decode cX1_harm 64 = .ok (.invokevirtual 410, 3) := dk_182 1 154 (dk_at dksX1_harm_2 17 rfl rfl)
theorem dX1_harm_67 : decode cX1_harm 67 = .ok (.goto 4, 3) := dk_167 0 4 (dk_at dksX1_harm_2 20 rfl rfl)
theorem dX1_harm_70 : decode cX1_harm 70 = .ok (.iconst 0, 1) := dk_3 (dk_at dksX1_harm_2 23 rfl rfl)
theorem dX1_harm_71 : decode cX1_harm 71 = .ok (.iadd, 1) := dk_96 (dk_at dksX1_harm_3 0 rfl rfl)
theorem dX1_harm_72 : decode cX1_harm 72 = .ok (.istore 5, 2) := dk_54 5 (dk_at dksX1_harm_3 1 rfl rfl)
theorem dX1_harm_74 : decode cX1_harm 74 = .ok (.iinc 6 1, 3) := dk_132 6 1 (dk_at dksX1_harm_3 3 rfl rfl)
theorem dX1_harm_77 : decode cX1_harm 77 = .ok (.goto (-67), 3) := dk_167 255 189 (dk_at dksX1_harm_3 6 rfl rfl)
theorem dX1_harm_80 : decode cX1_harm 80 = .ok (.iload 5, 2) := dk_21 5 (dk_at dksX1_harm_3 9 rfl rfl)
theorem dX1_harm_82 : decode cX1_harm 82 = .ok (.ireturn, 1) := dk_172 (dk_at dksX1_harm_3 11 rfl rfl)
def dkwX1_fund_1 : List UInt8 := [27, 96, 19, 1, 26, 184, 1, 55, 181, 1, 158, 42, 180, 1, 158, 172]
abbrev dktX1_fund_1 : List UInt8 := dkwX1_fund_1 ++ []
def dkwX1_fund_0 : List UInt8 := [27, 3, 19, 1, 157, 184, 0, 163, 154, 0, 7, 4, 167, 0, 4, 3, 184, 0, 178, 42, 42, 180, 1, 158]
abbrev dktX1_fund_0 : List UInt8 := dkwX1_fund_0 ++ dktX1_fund_1
theorem dksX1_fund_0 : cX1_fund.data.toList.drop 0 = dktX1_fund_0 := by decide +kernel
theorem dksX1_fund_1 : cX1_fund.data.toList.drop 24 = dktX1_fund_1 := dk_seg dksX1_fund_0 24 rfl rfl
theorem dX1_fund_0 : decode cX1_fund 0 = .ok (.iload_n 1, 1) := dk_27 (dk_at dksX1_fund_0 0 rfl rfl)
theorem dX1_fund_1 : decode cX1_fund 1 = .ok (.iconst 0, 1) := dk_3 (dk_at dksX1_fund_0 1 rfl rfl)
theorem dX1_fund_2 : decode cX1_fund 2 = .ok (.ldc_w 413, 3) := dk_19 1 157 (dk_at dksX1_fund_0 2 rfl rfl)
theorem dX1_fund_5 : decode cX1_fund 5 = .ok (.invokestatic 163, 3) := dk_184 0 163 (dk_at dksX1_fund_0 5 rfl rfl)
theorem dX1_fund_8 : decode cX1_fund 8 = .ok (.ifCond .ne 7, 3) := dk_154 0 7 (dk_at dksX1_fund_0 8 rfl rfl)
theorem dX1_fund_11 : decode cX1_fund 11 = .ok (.iconst 1, 1) := dk_4 (dk_at dksX1_fund_0 11 rfl rfl)
theorem dX1_fund_12 : decode cX1_fund 12 = .ok (.goto 4, 3) := dk_167 0 4 (dk_at dksX1_fund_0 12 rfl rfl)
theorem dX1_fund_15 : decode cX1_fund 15 = .ok (.iconst 0, 1) := dk_3 (dk_at dksX1_fund_0 15 rfl rfl)
theorem dX1_fund_16 : decode cX1_fund 16 = .ok (.invokestatic 178, 3) := dk_184 0 178 (dk_at dksX1_fund_0 16 rfl rfl)
theorem dX1_fund_19 : decode cX1_fund 19 = .ok (.aload_n 0, 1) := dk_42 (dk_at dksX1_fund_0 19 rfl rfl)
theorem dX1_fund_20 : decode cX1_fund 20 = .ok (.aload_n 0, 1) := dk_42 (dk_at dksX1_fund_0 20 rfl rfl)
theorem dX1_fund_21 : decode cX1_fund 21 = .ok (.getfield 414, 3) := dk_180 1 158 (dk_at dksX1_fund_0 21 rfl rfl)
theorem dX1_fund_24 : decode cX1_fund 24 = .ok (.iload_n 1, 1) := dk_27 (dk_at dksX1_fund_1 0 rfl rfl)
theorem dX1_fund_25 : decode cX1_fund 25 = .ok (.iadd, 1) := dk_96 (dk_at dksX1_fund_1 1 rfl rfl)
theorem dX1_fund_26 : decode cX1_fund 26 = .ok (.ldc_w 282, 3) := dk_19 1 26 (dk_at dksX1_fund_1 2 rfl rfl)
theorem dX1_fund_29 : decode cX1_fund 29 = .ok (.invokestatic 311, 3) := dk_184 1 55 (dk_at dksX1_fund_1 5 rfl rfl)
theorem dX1_fund_32 : decode cX1_fund 32 = .ok (.putfield 414, 3) := dk_181 1 158 (dk_at dksX1_fund_1 8 rfl rfl)
theorem dX1_fund_35 : decode cX1_fund 35 = .ok (.aload_n 0, 1) := dk_42 (dk_at dksX1_fund_1 11 rfl rfl)
theorem dX1_fund_36 : decode cX1_fund 36 = .ok (.getfield 414, 3) := dk_180 1 158 (dk_at dksX1_fund_1 12 rfl rfl)
theorem dX1_fund_39 : decode cX1_fund 39 = .ok (.ireturn, 1) := dk_172 (dk_at dksX1_fund_1 15 rfl rfl)
def dkwX1_judge_9 : List UInt8 := [89, 180, 1, 158, 25, 5, 180, 1, 160, 100, 181, 1, 158, 25, 5, 180, 1, 160, 172]
abbrev dktX1_judge_9 : List UInt8 := dkwX1_judge_9 ++ []
def dkwX1_judge_8 : List UInt8 := [184, 1, 99, 42, 180, 0, 156, 180, 1, 175, 184, 1, 55, 42, 180, 1, 158, 184, 1, 55, 181, 1, 160, 42]
abbrev dktX1_judge_8 : List UInt8 := dkwX1_judge_8 ++ dktX1_judge_9
def dkwX1_judge_7 : List UInt8 := [180, 1, 153, 100, 79, 25, 5, 42, 180, 0, 156, 180, 1, 166, 42, 180, 0, 112, 185, 1, 170, 2, 0, 3]
abbrev dktX1_judge_7 : List UInt8 := dkwX1_judge_7 ++ dktX1_judge_8
def dkwX1_judge_6 : List UInt8 := [112, 79, 42, 180, 0, 112, 6, 42, 180, 1, 158, 79, 42, 180, 0, 112, 7, 42, 180, 1, 69, 25, 5]
abbrev dktX1_judge_6 : List UInt8 := dkwX1_judge_6 ++ dktX1_judge_7
def dkwX1_judge_5 : List UInt8 := [25, 5, 182, 1, 163, 184, 1, 55, 79, 42, 180, 0, 112, 5, 25, 5, 180, 1, 153, 16, 30, 108, 16, 12]
abbrev dktX1_judge_5 : List UInt8 := dkwX1_judge_5 ++ dktX1_judge_6
def dkwX1_judge_4 : List UInt8 := [184, 1, 99, 54, 6, 42, 180, 0, 112, 3, 25, 5, 182, 1, 163, 79, 42, 180, 0, 112, 4, 21, 6]
abbrev dktX1_judge_4 : List UInt8 := dkwX1_judge_4 ++ dktX1_judge_5
def dkwX1_judge_3 : List UInt8 := [16, 10, 96, 164, 0, 6, 16, 254, 172, 28, 29, 184, 1, 55, 28, 29, 184, 1, 99, 21, 4, 184, 1, 55]
abbrev dktX1_judge_3 : List UInt8 := dkwX1_judge_3 ++ dktX1_judge_4
def dkwX1_judge_2 : List UInt8 := [184, 0, 178, 25, 5, 180, 1, 160, 2, 159, 0, 5, 2, 172, 42, 180, 1, 69, 25, 5, 180, 1, 153]
abbrev dktX1_judge_2 : List UInt8 := dkwX1_judge_2 ++ dktX1_judge_3
def dkwX1_judge_1 : List UInt8 := [184, 0, 163, 153, 0, 15, 21, 4, 3, 17, 39, 16, 184, 0, 163, 154, 0, 7, 4, 167, 0, 4, 3]
abbrev dktX1_judge_1 : List UInt8 := dkwX1_judge_1 ++ dktX1_judge_2
def dkwX1_judge_0 : List UInt8 := [42, 27, 182, 1, 137, 58, 5, 28, 3, 17, 39, 16, 184, 0, 163, 153, 0, 26, 29, 3, 17, 39, 16]
abbrev dktX1_judge_0 : List UInt8 := dkwX1_judge_0 ++ dktX1_judge_1
theorem dksX1_judge_0 : cX1_judge.data.toList.drop 0 = dktX1_judge_0 := by decide +kernel
theorem dksX1_judge_1 : cX1_judge.data.toList.drop 23 = dktX1_judge_1 := dk_seg dksX1_judge_0 23 rfl rfl
theorem dksX1_judge_2 : cX1_judge.data.toList.drop 46 = dktX1_judge_2 := dk_seg dksX1_judge_1 23 rfl rfl
theorem dksX1_judge_3 : cX1_judge.data.toList.drop 69 = dktX1_judge_3 := dk_seg dksX1_judge_2 23 rfl rfl
theorem dksX1_judge_4 : cX1_judge.data.toList.drop 93 = dktX1_judge_4 := dk_seg dksX1_judge_3 24 rfl rfl
theorem dksX1_judge_5 : cX1_judge.data.toList.drop 116 = dktX1_judge_5 := dk_seg dksX1_judge_4 23 rfl rfl
theorem dksX1_judge_6 : cX1_judge.data.toList.drop 140 = dktX1_judge_6 := dk_seg dksX1_judge_5 24 rfl rfl
theorem dksX1_judge_7 : cX1_judge.data.toList.drop 163 = dktX1_judge_7 := dk_seg dksX1_judge_6 23 rfl rfl
theorem dksX1_judge_8 : cX1_judge.data.toList.drop 187 = dktX1_judge_8 := dk_seg dksX1_judge_7 24 rfl rfl
theorem dksX1_judge_9 : cX1_judge.data.toList.drop 211 = dktX1_judge_9 := dk_seg dksX1_judge_8 24 rfl rfl
theorem dX1_judge_0 : decode cX1_judge 0 = .ok (.aload_n 0, 1) := dk_42 (dk_at dksX1_judge_0 0 rfl rfl)
theorem dX1_judge_1 : decode cX1_judge 1 = .ok (.iload_n 1, 1) := dk_27 (dk_at dksX1_judge_0 1 rfl rfl)
theorem dX1_judge_2 : decode cX1_judge 2 = .ok (.invokevirtual 393, 3) := dk_182 1 137 (dk_at dksX1_judge_0 2 rfl rfl)
theorem dX1_judge_5 : decode cX1_judge 5 = .ok (.astore 5, 2) := dk_58 5 (dk_at dksX1_judge_0 5 rfl rfl)
theorem dX1_judge_7 : decode cX1_judge 7 = .ok (.iload_n 2, 1) := dk_28 (dk_at dksX1_judge_0 7 rfl rfl)
theorem dX1_judge_8 : decode cX1_judge 8 = .ok (.iconst 0, 1) := dk_3 (dk_at dksX1_judge_0 8 rfl rfl)
theorem dX1_judge_9 : decode cX1_judge 9 = .ok (.sipush 10000, 3) := dk_17 39 16 (dk_at dksX1_judge_0 9 rfl rfl)
theorem dX1_judge_12 : decode cX1_judge 12 = .ok (.invokestatic 163, 3) := dk_184 0 163 (dk_at dksX1_judge_0 12 rfl rfl)
theorem dX1_judge_15 : decode cX1_judge 15 = .ok (.ifCond .eq 26, 3) := dk_153 0 26 (dk_at dksX1_judge_0 15 rfl rfl)
theorem dX1_judge_18 : decode cX1_judge 18 = .ok (.iload_n 3, 1) := dk_29 (dk_at dksX1_judge_0 18 rfl rfl)
theorem dX1_judge_19 : decode cX1_judge 19 = .ok (.iconst 0, 1) := dk_3 (dk_at dksX1_judge_0 19 rfl rfl)
theorem dX1_judge_20 : decode cX1_judge 20 = .ok (.sipush 10000, 3) := dk_17 39 16 (dk_at dksX1_judge_0 20 rfl rfl)
theorem dX1_judge_23 : decode cX1_judge 23 = .ok (.invokestatic 163, 3) := dk_184 0 163 (dk_at dksX1_judge_1 0 rfl rfl)
theorem dX1_judge_26 : decode cX1_judge 26 = .ok (.ifCond .eq 15, 3) := dk_153 0 15 (dk_at dksX1_judge_1 3 rfl rfl)
theorem dX1_judge_29 : decode cX1_judge 29 = .ok (.iload 4, 2) := dk_21 4 (dk_at dksX1_judge_1 6 rfl rfl)
theorem dX1_judge_31 : decode cX1_judge 31 = .ok (.iconst 0, 1) := dk_3 (dk_at dksX1_judge_1 8 rfl rfl)
theorem dX1_judge_32 : decode cX1_judge 32 = .ok (.sipush 10000, 3) := dk_17 39 16 (dk_at dksX1_judge_1 9 rfl rfl)
theorem dX1_judge_35 : decode cX1_judge 35 = .ok (.invokestatic 163, 3) := dk_184 0 163 (dk_at dksX1_judge_1 12 rfl rfl)
theorem dX1_judge_38 : decode cX1_judge 38 = .ok (.ifCond .ne 7, 3) := dk_154 0 7 (dk_at dksX1_judge_1 15 rfl rfl)
theorem dX1_judge_41 : decode cX1_judge 41 = .ok (.iconst 1, 1) := dk_4 (dk_at dksX1_judge_1 18 rfl rfl)
theorem dX1_judge_42 : decode cX1_judge 42 = .ok (.goto 4, 3) := dk_167 0 4 (dk_at dksX1_judge_1 19 rfl rfl)
theorem dX1_judge_45 : decode cX1_judge 45 = .ok (.iconst 0, 1) := dk_3 (dk_at dksX1_judge_1 22 rfl rfl)
theorem dX1_judge_46 : decode cX1_judge 46 = .ok (.invokestatic 178, 3) := dk_184 0 178 (dk_at dksX1_judge_2 0 rfl rfl)
theorem dX1_judge_49 : decode cX1_judge 49 = .ok (.aload 5, 2) := dk_25 5 (dk_at dksX1_judge_2 3 rfl rfl)
theorem dX1_judge_51 : decode cX1_judge 51 = .ok (.getfield 416, 3) := dk_180 1 160 (dk_at dksX1_judge_2 5 rfl rfl)
theorem dX1_judge_54 : decode cX1_judge 54 = .ok (.iconst (-1), 1) := dk_2 (dk_at dksX1_judge_2 8 rfl rfl)
theorem dX1_judge_55 : decode cX1_judge 55 = .ok (.if_icmp .eq 5, 3) := dk_159 0 5 (dk_at dksX1_judge_2 9 rfl rfl)
theorem dX1_judge_58 : decode cX1_judge 58 = .ok (.iconst (-1), 1) := dk_2 (dk_at dksX1_judge_2 12 rfl rfl)
theorem dX1_judge_59 : decode cX1_judge 59 = .ok (.ireturn, 1) := dk_172 (dk_at dksX1_judge_2 13 rfl rfl)
theorem dX1_judge_60 : decode cX1_judge 60 = .ok (.aload_n 0, 1) := dk_42 (dk_at dksX1_judge_2 14 rfl rfl)
theorem dX1_judge_61 : decode cX1_judge 61 = .ok (.getfield 325, 3) := dk_180 1 69 (dk_at dksX1_judge_2 15 rfl rfl)
theorem dX1_judge_64 : decode cX1_judge 64 = .ok (.aload 5, 2) := dk_25 5 (dk_at dksX1_judge_2 18 rfl rfl)
theorem dX1_judge_66 : decode cX1_judge 66 = .ok (.getfield 409, 3) := dk_180 1 153 (dk_at dksX1_judge_2 20 rfl rfl)
theorem dX1_judge_69 : decode cX1_judge 69 = .ok (.bipush 10, 2) := dk_16 10 (dk_at dksX1_judge_3 0 rfl rfl)
theorem dX1_judge_71 : decode cX1_judge 71 = .ok (.iadd, 1) := dk_96 (dk_at dksX1_judge_3 2 rfl rfl)
theorem dX1_judge_72 : decode cX1_judge 72 = .ok (.if_icmp .le 6, 3) := dk_164 0 6 (dk_at dksX1_judge_3 3 rfl rfl)
theorem dX1_judge_75 : decode cX1_judge 75 = .ok (.bipush (-2), 2) := dk_16 254 (dk_at dksX1_judge_3 6 rfl rfl)
theorem dX1_judge_77 : decode cX1_judge 77 = .ok (.ireturn, 1) := dk_172 (dk_at dksX1_judge_3 8 rfl rfl)
theorem dX1_judge_78 : decode cX1_judge 78 = .ok (.iload_n 2, 1) := dk_28 (dk_at dksX1_judge_3 9 rfl rfl)
theorem dX1_judge_79 : decode cX1_judge 79 = .ok (.iload_n 3, 1) := dk_29 (dk_at dksX1_judge_3 10 rfl rfl)
theorem dX1_judge_80 : decode cX1_judge 80 = .ok (.invokestatic 311, 3) := dk_184 1 55 (dk_at dksX1_judge_3 11 rfl rfl)
theorem dX1_judge_83 : decode cX1_judge 83 = .ok (.iload_n 2, 1) := dk_28 (dk_at dksX1_judge_3 14 rfl rfl)
theorem dX1_judge_84 : decode cX1_judge 84 = .ok (.iload_n 3, 1) := dk_29 (dk_at dksX1_judge_3 15 rfl rfl)
theorem dX1_judge_85 : decode cX1_judge 85 = .ok (.invokestatic 355, 3) := dk_184 1 99 (dk_at dksX1_judge_3 16 rfl rfl)
theorem dX1_judge_88 : decode cX1_judge 88 = .ok (.iload 4, 2) := dk_21 4 (dk_at dksX1_judge_3 19 rfl rfl)
theorem dX1_judge_90 : decode cX1_judge 90 = .ok (.invokestatic 311, 3) := dk_184 1 55 (dk_at dksX1_judge_3 21 rfl rfl)
theorem dX1_judge_93 : decode cX1_judge 93 = .ok (.invokestatic 355, 3) := dk_184 1 99 (dk_at dksX1_judge_4 0 rfl rfl)
theorem dX1_judge_96 : decode cX1_judge 96 = .ok (.istore 6, 2) := dk_54 6 (dk_at dksX1_judge_4 3 rfl rfl)
theorem dX1_judge_98 : decode cX1_judge 98 = .ok (.aload_n 0, 1) := dk_42 (dk_at dksX1_judge_4 5 rfl rfl)
theorem dX1_judge_99 : decode cX1_judge 99 = .ok (.getfield 112, 3) := dk_180 0 112 (dk_at dksX1_judge_4 6 rfl rfl)
theorem dX1_judge_102 : decode cX1_judge 102 = .ok (.iconst 0, 1) := dk_3 (dk_at dksX1_judge_4 9 rfl rfl)
theorem dX1_judge_103 : decode cX1_judge 103 = .ok (.aload 5, 2) := dk_25 5 (dk_at dksX1_judge_4 10 rfl rfl)
theorem dX1_judge_105 : decode cX1_judge 105 = .ok (.invokevirtual 419, 3) := dk_182 1 163 (dk_at dksX1_judge_4 12 rfl rfl)
theorem dX1_judge_108 : decode cX1_judge 108 = .ok (.iastore, 1) := dk_79 (dk_at dksX1_judge_4 15 rfl rfl)
theorem dX1_judge_109 : decode cX1_judge 109 = .ok (.aload_n 0, 1) := dk_42 (dk_at dksX1_judge_4 16 rfl rfl)
theorem dX1_judge_110 : decode cX1_judge 110 = .ok (.getfield 112, 3) := dk_180 0 112 (dk_at dksX1_judge_4 17 rfl rfl)
theorem dX1_judge_113 : decode cX1_judge 113 = .ok (.iconst 1, 1) := dk_4 (dk_at dksX1_judge_4 20 rfl rfl)
theorem dX1_judge_114 : decode cX1_judge 114 = .ok (.iload 6, 2) := dk_21 6 (dk_at dksX1_judge_4 21 rfl rfl)
theorem dX1_judge_116 : decode cX1_judge 116 = .ok (.aload 5, 2) := dk_25 5 (dk_at dksX1_judge_5 0 rfl rfl)
theorem dX1_judge_118 : decode cX1_judge 118 = .ok (.invokevirtual 419, 3) := dk_182 1 163 (dk_at dksX1_judge_5 2 rfl rfl)
theorem dX1_judge_121 : decode cX1_judge 121 = .ok (.invokestatic 311, 3) := dk_184 1 55 (dk_at dksX1_judge_5 5 rfl rfl)
theorem dX1_judge_124 : decode cX1_judge 124 = .ok (.iastore, 1) := dk_79 (dk_at dksX1_judge_5 8 rfl rfl)
theorem dX1_judge_125 : decode cX1_judge 125 = .ok (.aload_n 0, 1) := dk_42 (dk_at dksX1_judge_5 9 rfl rfl)
theorem dX1_judge_126 : decode cX1_judge 126 = .ok (.getfield 112, 3) := dk_180 0 112 (dk_at dksX1_judge_5 10 rfl rfl)
theorem dX1_judge_129 : decode cX1_judge 129 = .ok (.iconst 2, 1) := dk_5 (dk_at dksX1_judge_5 13 rfl rfl)
theorem dX1_judge_130 : decode cX1_judge 130 = .ok (.aload 5, 2) := dk_25 5 (dk_at dksX1_judge_5 14 rfl rfl)
theorem dX1_judge_132 : decode cX1_judge 132 = .ok (.getfield 409, 3) := dk_180 1 153 (dk_at dksX1_judge_5 16 rfl rfl)
theorem dX1_judge_135 : decode cX1_judge 135 = .ok (.bipush 30, 2) := dk_16 30 (dk_at dksX1_judge_5 19 rfl rfl)
theorem dX1_judge_137 : decode cX1_judge 137 = .ok (.idiv, 1) := dk_108 (dk_at dksX1_judge_5 21 rfl rfl)
theorem dX1_judge_138 : decode cX1_judge 138 = .ok (.bipush 12, 2) := dk_16 12 (dk_at dksX1_judge_5 22 rfl rfl)
theorem dX1_judge_140 : decode cX1_judge 140 = .ok (.irem, 1) := dk_112 (dk_at dksX1_judge_6 0 rfl rfl)
theorem dX1_judge_141 : decode cX1_judge 141 = .ok (.iastore, 1) := dk_79 (dk_at dksX1_judge_6 1 rfl rfl)
theorem dX1_judge_142 : decode cX1_judge 142 = .ok (.aload_n 0, 1) := dk_42 (dk_at dksX1_judge_6 2 rfl rfl)
theorem dX1_judge_143 : decode cX1_judge 143 = .ok (.getfield 112, 3) := dk_180 0 112 (dk_at dksX1_judge_6 3 rfl rfl)
theorem dX1_judge_146 : decode cX1_judge 146 = .ok (.iconst 3, 1) := dk_6 (dk_at dksX1_judge_6 6 rfl rfl)
theorem dX1_judge_147 : decode cX1_judge 147 = .ok (.aload_n 0, 1) := dk_42 (dk_at dksX1_judge_6 7 rfl rfl)
theorem dX1_judge_148 : decode cX1_judge 148 = .ok (.getfield 414, 3) := dk_180 1 158 (dk_at dksX1_judge_6 8 rfl rfl)
theorem dX1_judge_151 : decode cX1_judge 151 = .ok (.iastore, 1) := dk_79 (dk_at dksX1_judge_6 11 rfl rfl)
theorem dX1_judge_152 : decode cX1_judge 152 = .ok (.aload_n 0, 1) := dk_42 (dk_at dksX1_judge_6 12 rfl rfl)
theorem dX1_judge_153 : decode cX1_judge 153 = .ok (.getfield 112, 3) := dk_180 0 112 (dk_at dksX1_judge_6 13 rfl rfl)
theorem dX1_judge_156 : decode cX1_judge 156 = .ok (.iconst 4, 1) := dk_7 (dk_at dksX1_judge_6 16 rfl rfl)
theorem dX1_judge_157 : decode cX1_judge 157 = .ok (.aload_n 0, 1) := dk_42 (dk_at dksX1_judge_6 17 rfl rfl)
theorem dX1_judge_158 : decode cX1_judge 158 = .ok (.getfield 325, 3) := dk_180 1 69 (dk_at dksX1_judge_6 18 rfl rfl)
theorem dX1_judge_161 : decode cX1_judge 161 = .ok (.aload 5, 2) := dk_25 5 (dk_at dksX1_judge_6 21 rfl rfl)
theorem dX1_judge_163 : decode cX1_judge 163 = .ok (.getfield 409, 3) := dk_180 1 153 (dk_at dksX1_judge_7 0 rfl rfl)
theorem dX1_judge_166 : decode cX1_judge 166 = .ok (.isub, 1) := dk_100 (dk_at dksX1_judge_7 3 rfl rfl)
theorem dX1_judge_167 : decode cX1_judge 167 = .ok (.iastore, 1) := dk_79 (dk_at dksX1_judge_7 4 rfl rfl)
theorem dX1_judge_168 : decode cX1_judge 168 = .ok (.aload 5, 2) := dk_25 5 (dk_at dksX1_judge_7 5 rfl rfl)
theorem dX1_judge_170 : decode cX1_judge 170 = .ok (.aload_n 0, 1) := dk_42 (dk_at dksX1_judge_7 7 rfl rfl)
theorem dX1_judge_171 : decode cX1_judge 171 = .ok (.getfield 156, 3) := dk_180 0 156 (dk_at dksX1_judge_7 8 rfl rfl)
theorem dX1_judge_174 : decode cX1_judge 174 = .ok (.getfield 422, 3) := dk_180 1 166 (dk_at dksX1_judge_7 11 rfl rfl)
theorem dX1_judge_177 : decode cX1_judge 177 = .ok (.aload_n 0, 1) := dk_42 (dk_at dksX1_judge_7 14 rfl rfl)
theorem dX1_judge_178 : decode cX1_judge 178 = .ok (.getfield 112, 3) := dk_180 0 112 (dk_at dksX1_judge_7 15 rfl rfl)
theorem dX1_judge_181 : decode cX1_judge 181 = .ok (.invokeinterface 426 2, 5) := by decide +kernel
theorem dX1_judge_186 : decode cX1_judge 186 = .ok (.iconst 0, 1) := dk_3 (dk_at dksX1_judge_7 23 rfl rfl)
theorem dX1_judge_187 : decode cX1_judge 187 = .ok (.invokestatic 355, 3) := dk_184 1 99 (dk_at dksX1_judge_8 0 rfl rfl)
theorem dX1_judge_190 : decode cX1_judge 190 = .ok (.aload_n 0, 1) := dk_42 (dk_at dksX1_judge_8 3 rfl rfl)
theorem dX1_judge_191 : decode cX1_judge 191 = .ok (.getfield 156, 3) := dk_180 0 156 (dk_at dksX1_judge_8 4 rfl rfl)
theorem dX1_judge_194 : decode cX1_judge 194 = .ok (.getfield 431, 3) := dk_180 1 175 (dk_at dksX1_judge_8 7 rfl rfl)
theorem dX1_judge_197 : decode cX1_judge 197 = .ok (.invokestatic 311, 3) := dk_184 1 55 (dk_at dksX1_judge_8 10 rfl rfl)
theorem dX1_judge_200 : decode cX1_judge 200 = .ok (.aload_n 0, 1) := dk_42 (dk_at dksX1_judge_8 13 rfl rfl)
theorem dX1_judge_201 : decode cX1_judge 201 = .ok (.getfield 414, 3) := dk_180 1 158 (dk_at dksX1_judge_8 14 rfl rfl)
theorem dX1_judge_204 : decode cX1_judge 204 = .ok (.invokestatic 311, 3) := dk_184 1 55 (dk_at dksX1_judge_8 17 rfl rfl)
theorem dX1_judge_207 : decode cX1_judge 207 = .ok (.putfield 416, 3) := dk_181 1 160 (dk_at dksX1_judge_8 20 rfl rfl)
theorem dX1_judge_210 : decode cX1_judge 210 = .ok (.aload_n 0, 1) := dk_42 (dk_at dksX1_judge_8 23 rfl rfl)
theorem dX1_judge_211 : decode cX1_judge 211 = .ok (.dup, 1) := dk_89 (dk_at dksX1_judge_9 0 rfl rfl)
theorem dX1_judge_212 : decode cX1_judge 212 = .ok (.getfield 414, 3) := dk_180 1 158 (dk_at dksX1_judge_9 1 rfl rfl)
theorem dX1_judge_215 : decode cX1_judge 215 = .ok (.aload 5, 2) := dk_25 5 (dk_at dksX1_judge_9 4 rfl rfl)
theorem dX1_judge_217 : decode cX1_judge 217 = .ok (.getfield 416, 3) := dk_180 1 160 (dk_at dksX1_judge_9 6 rfl rfl)
theorem dX1_judge_220 : decode cX1_judge 220 = .ok (.isub, 1) := dk_100 (dk_at dksX1_judge_9 9 rfl rfl)
theorem dX1_judge_221 : decode cX1_judge 221 = .ok (.putfield 414, 3) := dk_181 1 158 (dk_at dksX1_judge_9 10 rfl rfl)
theorem dX1_judge_224 : decode cX1_judge 224 = .ok (.aload 5, 2) := dk_25 5 (dk_at dksX1_judge_9 13 rfl rfl)
theorem dX1_judge_226 : decode cX1_judge 226 = .ok (.getfield 416, 3) := dk_180 1 160 (dk_at dksX1_judge_9 15 rfl rfl)
theorem dX1_judge_229 : decode cX1_judge 229 = .ok (.ireturn, 1) := dk_172 (dk_at dksX1_judge_9 18 rfl rfl)
def dkwX1_claim_3 : List UInt8 := [182, 0, 189, 172, 187, 0, 160, 89, 183, 0, 162, 191]
abbrev dktX1_claim_3 : List UInt8 := dkwX1_claim_3 ++ []
def dkwX1_claim_2 : List UInt8 := [45, 180, 1, 151, 172, 45, 180, 1, 153, 172, 45, 182, 1, 163, 172, 45, 180, 1, 160, 172, 45, 180, 1, 144]
abbrev dktX1_claim_2 : List UInt8 := dkwX1_claim_2 ++ dktX1_claim_3
def dkwX1_claim_1 : List UInt8 := [170, 0, 0, 0, 61, 0, 0, 0, 0, 0, 0, 0, 4, 0, 0, 0, 33, 0, 0, 0, 38, 0, 0, 0, 43, 0, 0, 0, 48, 0, 0, 0, 53]
abbrev dktX1_claim_1 : List UInt8 := dkwX1_claim_1 ++ dktX1_claim_2
def dkwX1_claim_0 : List UInt8 := [42, 27, 182, 1, 137, 78, 28]
abbrev dktX1_claim_0 : List UInt8 := dkwX1_claim_0 ++ dktX1_claim_1
theorem dksX1_claim_0 : cX1_claim.data.toList.drop 0 = dktX1_claim_0 := by decide +kernel
theorem dksX1_claim_1 : cX1_claim.data.toList.drop 7 = dktX1_claim_1 := dk_seg dksX1_claim_0 7 rfl rfl
theorem dksX1_claim_2 : cX1_claim.data.toList.drop 40 = dktX1_claim_2 := dk_seg dksX1_claim_1 33 rfl rfl
theorem dksX1_claim_3 : cX1_claim.data.toList.drop 64 = dktX1_claim_3 := dk_seg dksX1_claim_2 24 rfl rfl
theorem dX1_claim_0 : decode cX1_claim 0 = .ok (.aload_n 0, 1) := dk_42 (dk_at dksX1_claim_0 0 rfl rfl)
theorem dX1_claim_1 : decode cX1_claim 1 = .ok (.iload_n 1, 1) := dk_27 (dk_at dksX1_claim_0 1 rfl rfl)
theorem dX1_claim_2 : decode cX1_claim 2 = .ok (.invokevirtual 393, 3) := dk_182 1 137 (dk_at dksX1_claim_0 2 rfl rfl)
theorem dX1_claim_5 : decode cX1_claim 5 = .ok (.astore_n 3, 1) := dk_78 (dk_at dksX1_claim_0 5 rfl rfl)
theorem dX1_claim_6 : decode cX1_claim 6 = .ok (.iload_n 2, 1) := dk_28 (dk_at dksX1_claim_0 6 rfl rfl)
theorem dX1_claim_7 : decode cX1_claim 7 = .ok (.tableswitch 61 0 4 #[33, 38, 43, 48, 53], 33) := by decide +kernel
theorem dX1_claim_40 : decode cX1_claim 40 = .ok (.aload_n 3, 1) := dk_45 (dk_at dksX1_claim_2 0 rfl rfl)
theorem dX1_claim_41 : decode cX1_claim 41 = .ok (.getfield 407, 3) := dk_180 1 151 (dk_at dksX1_claim_2 1 rfl rfl)
theorem dX1_claim_44 : decode cX1_claim 44 = .ok (.ireturn, 1) := dk_172 (dk_at dksX1_claim_2 4 rfl rfl)
theorem dX1_claim_45 : decode cX1_claim 45 = .ok (.aload_n 3, 1) := dk_45 (dk_at dksX1_claim_2 5 rfl rfl)
theorem dX1_claim_46 : decode cX1_claim 46 = .ok (.getfield 409, 3) := dk_180 1 153 (dk_at dksX1_claim_2 6 rfl rfl)
theorem dX1_claim_49 : decode cX1_claim 49 = .ok (.ireturn, 1) := dk_172 (dk_at dksX1_claim_2 9 rfl rfl)
theorem dX1_claim_50 : decode cX1_claim 50 = .ok (.aload_n 3, 1) := dk_45 (dk_at dksX1_claim_2 10 rfl rfl)
theorem dX1_claim_51 : decode cX1_claim 51 = .ok (.invokevirtual 419, 3) := dk_182 1 163 (dk_at dksX1_claim_2 11 rfl rfl)
theorem dX1_claim_54 : decode cX1_claim 54 = .ok (.ireturn, 1) := dk_172 (dk_at dksX1_claim_2 14 rfl rfl)
theorem dX1_claim_55 : decode cX1_claim 55 = .ok (.aload_n 3, 1) := dk_45 (dk_at dksX1_claim_2 15 rfl rfl)
theorem dX1_claim_56 : decode cX1_claim 56 = .ok (.getfield 416, 3) := dk_180 1 160 (dk_at dksX1_claim_2 16 rfl rfl)
theorem dX1_claim_59 : decode cX1_claim 59 = .ok (.ireturn, 1) := dk_172 (dk_at dksX1_claim_2 19 rfl rfl)
theorem dX1_claim_60 : decode cX1_claim 60 = .ok (.aload_n 3, 1) := dk_45 (dk_at dksX1_claim_2 20 rfl rfl)
theorem dX1_claim_61 : decode cX1_claim 61 = .ok (.getfield 400, 3) := dk_180 1 144 (dk_at dksX1_claim_2 21 rfl rfl)
theorem dX1_claim_64 : decode cX1_claim 64 = .ok (.invokevirtual 189, 3) := dk_182 0 189 (dk_at dksX1_claim_3 0 rfl rfl)
theorem dX1_claim_67 : decode cX1_claim 67 = .ok (.ireturn, 1) := dk_172 (dk_at dksX1_claim_3 3 rfl rfl)
theorem dX1_claim_68 : decode cX1_claim 68 = .ok (.new 160, 3) := dk_187 0 160 (dk_at dksX1_claim_3 4 rfl rfl)
theorem dX1_claim_71 : decode cX1_claim 71 = .ok (.dup, 1) := dk_89 (dk_at dksX1_claim_3 7 rfl rfl)
theorem dX1_claim_72 : decode cX1_claim 72 = .ok (.invokespecial 162, 3) := dk_183 0 162 (dk_at dksX1_claim_3 8 rfl rfl)
theorem dX1_claim_75 : decode cX1_claim 75 = .ok (.athrow, 1) := dk_191 (dk_at dksX1_claim_3 11 rfl rfl)
def dkwX1_fix_5 : List UInt8 := [79, 25, 4, 89, 180, 0, 203, 4, 96, 181, 0, 203, 25, 4, 180, 0, 203, 172]
abbrev dktX1_fix_5 : List UInt8 := dkwX1_fix_5 ++ []
def dkwX1_fix_4 : List UInt8 := [172, 25, 4, 180, 1, 178, 25, 4, 180, 0, 203, 28, 79, 25, 4, 180, 0, 206, 25, 4, 180, 0, 203, 29]
abbrev dktX1_fix_4 : List UInt8 := dkwX1_fix_4 ++ dktX1_fix_5
def dkwX1_fix_3 : List UInt8 := [161, 0, 6, 16, 254, 172, 42, 25, 4, 28, 182, 1, 199, 42, 180, 0, 140, 29, 51, 154, 0, 6, 16, 253]
abbrev dktX1_fix_3 : List UInt8 := dkwX1_fix_3 ++ dktX1_fix_4
def dkwX1_fix_2 : List UInt8 := [25, 4, 180, 0, 203, 158, 0, 23, 25, 4, 180, 1, 178, 25, 4, 180, 0, 203, 4, 100, 46, 28]
abbrev dktX1_fix_2 : List UInt8 := dkwX1_fix_2 ++ dktX1_fix_3
def dkwX1_fix_1 : List UInt8 := [154, 0, 7, 4, 167, 0, 4, 3, 184, 0, 178, 25, 4, 180, 0, 203, 16, 20, 160, 0, 5, 2, 172]
abbrev dktX1_fix_1 : List UInt8 := dkwX1_fix_1 ++ dktX1_fix_2
def dkwX1_fix_0 : List UInt8 := [42, 27, 182, 1, 12, 58, 4, 29, 184, 0, 170, 28, 184, 1, 196, 42, 180, 0, 44, 29, 182, 1, 93]
abbrev dktX1_fix_0 : List UInt8 := dkwX1_fix_0 ++ dktX1_fix_1
theorem dksX1_fix_0 : cX1_fix.data.toList.drop 0 = dktX1_fix_0 := by decide +kernel
theorem dksX1_fix_1 : cX1_fix.data.toList.drop 23 = dktX1_fix_1 := dk_seg dksX1_fix_0 23 rfl rfl
theorem dksX1_fix_2 : cX1_fix.data.toList.drop 46 = dktX1_fix_2 := dk_seg dksX1_fix_1 23 rfl rfl
theorem dksX1_fix_3 : cX1_fix.data.toList.drop 68 = dktX1_fix_3 := dk_seg dksX1_fix_2 22 rfl rfl
theorem dksX1_fix_4 : cX1_fix.data.toList.drop 92 = dktX1_fix_4 := dk_seg dksX1_fix_3 24 rfl rfl
theorem dksX1_fix_5 : cX1_fix.data.toList.drop 116 = dktX1_fix_5 := dk_seg dksX1_fix_4 24 rfl rfl
theorem dX1_fix_0 : decode cX1_fix 0 = .ok (.aload_n 0, 1) := dk_42 (dk_at dksX1_fix_0 0 rfl rfl)
theorem dX1_fix_1 : decode cX1_fix 1 = .ok (.iload_n 1, 1) := dk_27 (dk_at dksX1_fix_0 1 rfl rfl)
theorem dX1_fix_2 : decode cX1_fix 2 = .ok (.invokevirtual 268, 3) := dk_182 1 12 (dk_at dksX1_fix_0 2 rfl rfl)
theorem dX1_fix_5 : decode cX1_fix 5 = .ok (.astore 4, 2) := dk_58 4 (dk_at dksX1_fix_0 5 rfl rfl)
theorem dX1_fix_7 : decode cX1_fix 7 = .ok (.iload_n 3, 1) := dk_29 (dk_at dksX1_fix_0 7 rfl rfl)
theorem dX1_fix_8 : decode cX1_fix 8 = .ok (.invokestatic 170, 3) := dk_184 0 170 (dk_at dksX1_fix_0 8 rfl rfl)
theorem dX1_fix_11 : decode cX1_fix 11 = .ok (.iload_n 2, 1) := dk_28 (dk_at dksX1_fix_0 11 rfl rfl)
theorem dX1_fix_12 : decode cX1_fix 12 = .ok (.invokestatic 452, 3) := dk_184 1 196 (dk_at dksX1_fix_0 12 rfl rfl)
theorem dX1_fix_15 : decode cX1_fix 15 = .ok (.aload_n 0, 1) := dk_42 (dk_at dksX1_fix_0 15 rfl rfl)
theorem dX1_fix_16 : decode cX1_fix 16 = .ok (.getfield 44, 3) := dk_180 0 44 (dk_at dksX1_fix_0 16 rfl rfl)
theorem dX1_fix_19 : decode cX1_fix 19 = .ok (.iload_n 3, 1) := dk_29 (dk_at dksX1_fix_0 19 rfl rfl)
theorem dX1_fix_20 : decode cX1_fix 20 = .ok (.invokevirtual 349, 3) := dk_182 1 93 (dk_at dksX1_fix_0 20 rfl rfl)
theorem dX1_fix_23 : decode cX1_fix 23 = .ok (.ifCond .ne 7, 3) := dk_154 0 7 (dk_at dksX1_fix_1 0 rfl rfl)
theorem dX1_fix_26 : decode cX1_fix 26 = .ok (.iconst 1, 1) := dk_4 (dk_at dksX1_fix_1 3 rfl rfl)
theorem dX1_fix_27 : decode cX1_fix 27 = .ok (.goto 4, 3) := dk_167 0 4 (dk_at dksX1_fix_1 4 rfl rfl)
theorem dX1_fix_30 : decode cX1_fix 30 = .ok (.iconst 0, 1) := dk_3 (dk_at dksX1_fix_1 7 rfl rfl)
theorem dX1_fix_31 : decode cX1_fix 31 = .ok (.invokestatic 178, 3) := dk_184 0 178 (dk_at dksX1_fix_1 8 rfl rfl)
theorem dX1_fix_34 : decode cX1_fix 34 = .ok (.aload 4, 2) := dk_25 4 (dk_at dksX1_fix_1 11 rfl rfl)
theorem dX1_fix_36 : decode cX1_fix 36 = .ok (.getfield 203, 3) := dk_180 0 203 (dk_at dksX1_fix_1 13 rfl rfl)
theorem dX1_fix_39 : decode cX1_fix 39 = .ok (.bipush 20, 2) := dk_16 20 (dk_at dksX1_fix_1 16 rfl rfl)
theorem dX1_fix_41 : decode cX1_fix 41 = .ok (.if_icmp .ne 5, 3) := dk_160 0 5 (dk_at dksX1_fix_1 18 rfl rfl)
theorem dX1_fix_44 : decode cX1_fix 44 = .ok (.iconst (-1), 1) := dk_2 (dk_at dksX1_fix_1 21 rfl rfl)
theorem dX1_fix_45 : decode cX1_fix 45 = .ok (.ireturn, 1) := dk_172 (dk_at dksX1_fix_1 22 rfl rfl)
theorem dX1_fix_46 : decode cX1_fix 46 = .ok (.aload 4, 2) := dk_25 4 (dk_at dksX1_fix_2 0 rfl rfl)
theorem dX1_fix_48 : decode cX1_fix 48 = .ok (.getfield 203, 3) := dk_180 0 203 (dk_at dksX1_fix_2 2 rfl rfl)
theorem dX1_fix_51 : decode cX1_fix 51 = .ok (.ifCond .le 23, 3) := dk_158 0 23 (dk_at dksX1_fix_2 5 rfl rfl)
theorem dX1_fix_54 : decode cX1_fix 54 = .ok (.aload 4, 2) := dk_25 4 (dk_at dksX1_fix_2 8 rfl rfl)
theorem dX1_fix_56 : decode cX1_fix 56 = .ok (.getfield 434, 3) := dk_180 1 178 (dk_at dksX1_fix_2 10 rfl rfl)
theorem dX1_fix_59 : decode cX1_fix 59 = .ok (.aload 4, 2) := dk_25 4 (dk_at dksX1_fix_2 13 rfl rfl)
theorem dX1_fix_61 : decode cX1_fix 61 = .ok (.getfield 203, 3) := dk_180 0 203 (dk_at dksX1_fix_2 15 rfl rfl)
theorem dX1_fix_64 : decode cX1_fix 64 = .ok (.iconst 1, 1) := dk_4 (dk_at dksX1_fix_2 18 rfl rfl)
theorem dX1_fix_65 : decode cX1_fix 65 = .ok (.isub, 1) := dk_100 (dk_at dksX1_fix_2 19 rfl rfl)
theorem dX1_fix_66 : decode cX1_fix 66 = .ok (.iaload, 1) := dk_46 (dk_at dksX1_fix_2 20 rfl rfl)
theorem dX1_fix_67 : decode cX1_fix 67 = .ok (.iload_n 2, 1) := dk_28 (dk_at dksX1_fix_2 21 rfl rfl)
theorem dX1_fix_68 : decode cX1_fix 68 = .ok (.if_icmp .lt 6, 3) := dk_161 0 6 (dk_at dksX1_fix_3 0 rfl rfl)
theorem dX1_fix_71 : decode cX1_fix 71 = .ok (.bipush (-2), 2) := dk_16 254 (dk_at dksX1_fix_3 3 rfl rfl)
theorem dX1_fix_73 : decode cX1_fix 73 = .ok (.ireturn, 1) := dk_172 (dk_at dksX1_fix_3 5 rfl rfl)
theorem dX1_fix_74 : decode cX1_fix 74 = .ok (.aload_n 0, 1) := dk_42 (dk_at dksX1_fix_3 6 rfl rfl)
theorem dX1_fix_75 : decode cX1_fix 75 = .ok (.aload 4, 2) := dk_25 4 (dk_at dksX1_fix_3 7 rfl rfl)
theorem dX1_fix_77 : decode cX1_fix 77 = .ok (.iload_n 2, 1) := dk_28 (dk_at dksX1_fix_3 9 rfl rfl)
theorem dX1_fix_78 : decode cX1_fix 78 = .ok (.invokevirtual 455, 3) := dk_182 1 199 (dk_at dksX1_fix_3 10 rfl rfl)
theorem dX1_fix_81 : decode cX1_fix 81 = .ok (.aload_n 0, 1) := dk_42 (dk_at dksX1_fix_3 13 rfl rfl)
theorem dX1_fix_82 : decode cX1_fix 82 = .ok (.getfield 140, 3) := dk_180 0 140 (dk_at dksX1_fix_3 14 rfl rfl)
theorem dX1_fix_85 : decode cX1_fix 85 = .ok (.iload_n 3, 1) := dk_29 (dk_at dksX1_fix_3 17 rfl rfl)
theorem dX1_fix_86 : decode cX1_fix 86 = .ok (.baload, 1) := dk_51 (dk_at dksX1_fix_3 18 rfl rfl)
theorem dX1_fix_87 : decode cX1_fix 87 = .ok (.ifCond .ne 6, 3) := dk_154 0 6 (dk_at dksX1_fix_3 19 rfl rfl)
theorem dX1_fix_90 : decode cX1_fix 90 = .ok (.bipush (-3), 2) := dk_16 253 (dk_at dksX1_fix_3 22 rfl rfl)
theorem dX1_fix_92 : decode cX1_fix 92 = .ok (.ireturn, 1) := dk_172 (dk_at dksX1_fix_4 0 rfl rfl)
theorem dX1_fix_93 : decode cX1_fix 93 = .ok (.aload 4, 2) := dk_25 4 (dk_at dksX1_fix_4 1 rfl rfl)
theorem dX1_fix_95 : decode cX1_fix 95 = .ok (.getfield 434, 3) := dk_180 1 178 (dk_at dksX1_fix_4 3 rfl rfl)
theorem dX1_fix_98 : decode cX1_fix 98 = .ok (.aload 4, 2) := dk_25 4 (dk_at dksX1_fix_4 6 rfl rfl)
theorem dX1_fix_100 : decode cX1_fix 100 = .ok (.getfield 203, 3) := dk_180 0 203 (dk_at dksX1_fix_4 8 rfl rfl)
theorem dX1_fix_103 : decode cX1_fix 103 = .ok (.iload_n 2, 1) := dk_28 (dk_at dksX1_fix_4 11 rfl rfl)
theorem dX1_fix_104 : decode cX1_fix 104 = .ok (.iastore, 1) := dk_79 (dk_at dksX1_fix_4 12 rfl rfl)
theorem dX1_fix_105 : decode cX1_fix 105 = .ok (.aload 4, 2) := dk_25 4 (dk_at dksX1_fix_4 13 rfl rfl)
theorem dX1_fix_107 : decode cX1_fix 107 = .ok (.getfield 206, 3) := dk_180 0 206 (dk_at dksX1_fix_4 15 rfl rfl)
theorem dX1_fix_110 : decode cX1_fix 110 = .ok (.aload 4, 2) := dk_25 4 (dk_at dksX1_fix_4 18 rfl rfl)
theorem dX1_fix_112 : decode cX1_fix 112 = .ok (.getfield 203, 3) := dk_180 0 203 (dk_at dksX1_fix_4 20 rfl rfl)
theorem dX1_fix_115 : decode cX1_fix 115 = .ok (.iload_n 3, 1) := dk_29 (dk_at dksX1_fix_4 23 rfl rfl)
theorem dX1_fix_116 : decode cX1_fix 116 = .ok (.iastore, 1) := dk_79 (dk_at dksX1_fix_5 0 rfl rfl)
theorem dX1_fix_117 : decode cX1_fix 117 = .ok (.aload 4, 2) := dk_25 4 (dk_at dksX1_fix_5 1 rfl rfl)
theorem dX1_fix_119 : decode cX1_fix 119 = .ok (.dup, 1) := dk_89 (dk_at dksX1_fix_5 3 rfl rfl)
theorem dX1_fix_120 : decode cX1_fix 120 = .ok (.getfield 203, 3) := dk_180 0 203 (dk_at dksX1_fix_5 4 rfl rfl)
theorem dX1_fix_123 : decode cX1_fix 123 = .ok (.iconst 1, 1) := dk_4 (dk_at dksX1_fix_5 7 rfl rfl)
theorem dX1_fix_124 : decode cX1_fix 124 = .ok (.iadd, 1) := dk_96 (dk_at dksX1_fix_5 8 rfl rfl)
theorem dX1_fix_125 : decode cX1_fix 125 = .ok (.putfield 203, 3) := dk_181 0 203 (dk_at dksX1_fix_5 9 rfl rfl)
theorem dX1_fix_128 : decode cX1_fix 128 = .ok (.aload 4, 2) := dk_25 4 (dk_at dksX1_fix_5 12 rfl rfl)
theorem dX1_fix_130 : decode cX1_fix 130 = .ok (.getfield 203, 3) := dk_180 0 203 (dk_at dksX1_fix_5 14 rfl rfl)
theorem dX1_fix_133 : decode cX1_fix 133 = .ok (.ireturn, 1) := dk_172 (dk_at dksX1_fix_5 17 rfl rfl)
def dkwX1_hour_0 : List UInt8 := [26, 3, 18, 182, 184, 0, 163, 154, 0, 7, 4, 167, 0, 4, 3, 184, 0, 178, 177]
abbrev dktX1_hour_0 : List UInt8 := dkwX1_hour_0 ++ []
theorem dksX1_hour_0 : cX1_hour.data.toList.drop 0 = dktX1_hour_0 := by decide +kernel
theorem dX1_hour_0 : decode cX1_hour 0 = .ok (.iload_n 0, 1) := dk_26 (dk_at dksX1_hour_0 0 rfl rfl)
theorem dX1_hour_1 : decode cX1_hour 1 = .ok (.iconst 0, 1) := dk_3 (dk_at dksX1_hour_0 1 rfl rfl)
theorem dX1_hour_2 : decode cX1_hour 2 = .ok (.ldc 182, 2) := dk_18 182 (dk_at dksX1_hour_0 2 rfl rfl)
theorem dX1_hour_4 : decode cX1_hour 4 = .ok (.invokestatic 163, 3) := dk_184 0 163 (dk_at dksX1_hour_0 4 rfl rfl)
theorem dX1_hour_7 : decode cX1_hour 7 = .ok (.ifCond .ne 7, 3) := dk_154 0 7 (dk_at dksX1_hour_0 7 rfl rfl)
theorem dX1_hour_10 : decode cX1_hour 10 = .ok (.iconst 1, 1) := dk_4 (dk_at dksX1_hour_0 10 rfl rfl)
theorem dX1_hour_11 : decode cX1_hour 11 = .ok (.goto 4, 3) := dk_167 0 4 (dk_at dksX1_hour_0 11 rfl rfl)
theorem dX1_hour_14 : decode cX1_hour 14 = .ok (.iconst 0, 1) := dk_3 (dk_at dksX1_hour_0 14 rfl rfl)
theorem dX1_hour_15 : decode cX1_hour 15 = .ok (.invokestatic 178, 3) := dk_184 0 178 (dk_at dksX1_hour_0 15 rfl rfl)
theorem dX1_hour_18 : decode cX1_hour 18 = .ok (.return_, 1) := dk_177 (dk_at dksX1_hour_0 18 rfl rfl)
def dkwX1_places_6 : List UInt8 := [180, 1, 181, 43, 180, 1, 178, 21, 4, 46, 28, 100, 104, 182, 1, 184, 177]
abbrev dktX1_places_6 : List UInt8 := dkwX1_places_6 ++ []
def dkwX1_places_5 : List UInt8 := [29, 46, 100, 104, 182, 1, 184, 21, 4, 2, 159, 0, 28, 42, 43, 180, 0, 206, 21, 4, 46, 43]
abbrev dktX1_places_5 : List UInt8 := dkwX1_places_5 ++ dktX1_places_6
def dkwX1_places_4 : List UInt8 := [167, 255, 200, 29, 2, 159, 0, 26, 42, 43, 180, 0, 206, 29, 46, 43, 180, 1, 181, 28, 43, 180, 1, 178]
abbrev dktX1_places_4 : List UInt8 := dkwX1_places_4 ++ dktX1_places_5
def dkwX1_places_3 : List UInt8 := [180, 1, 178, 21, 5, 46, 28, 161, 0, 8, 21, 5, 167, 0, 5, 21, 4, 54, 4, 132, 5, 1]
abbrev dktX1_places_3 : List UInt8 := dkwX1_places_3 ++ dktX1_places_4
def dkwX1_places_2 : List UInt8 := [180, 1, 178, 21, 5, 46, 28, 163, 0, 8, 21, 5, 167, 0, 4, 29, 62, 21, 4, 2, 160, 0, 19, 43]
abbrev dktX1_places_2 : List UInt8 := dkwX1_places_2 ++ dktX1_places_3
def dkwX1_places_1 : List UInt8 := [132, 3, 1, 167, 255, 233, 2, 62, 2, 54, 4, 3, 54, 5, 21, 5, 43, 180, 0, 203, 162, 0, 53, 43]
abbrev dktX1_places_1 : List UInt8 := dkwX1_places_1 ++ dktX1_places_2
def dkwX1_places_0 : List UInt8 := [3, 62, 29, 16, 64, 162, 0, 23, 42, 180, 0, 140, 29, 42, 180, 0, 44, 29, 182, 1, 93, 84]
abbrev dktX1_places_0 : List UInt8 := dkwX1_places_0 ++ dktX1_places_1
theorem dksX1_places_0 : cX1_places.data.toList.drop 0 = dktX1_places_0 := by decide +kernel
theorem dksX1_places_1 : cX1_places.data.toList.drop 22 = dktX1_places_1 := dk_seg dksX1_places_0 22 rfl rfl
theorem dksX1_places_2 : cX1_places.data.toList.drop 46 = dktX1_places_2 := dk_seg dksX1_places_1 24 rfl rfl
theorem dksX1_places_3 : cX1_places.data.toList.drop 70 = dktX1_places_3 := dk_seg dksX1_places_2 24 rfl rfl
theorem dksX1_places_4 : cX1_places.data.toList.drop 92 = dktX1_places_4 := dk_seg dksX1_places_3 22 rfl rfl
theorem dksX1_places_5 : cX1_places.data.toList.drop 116 = dktX1_places_5 := dk_seg dksX1_places_4 24 rfl rfl
theorem dksX1_places_6 : cX1_places.data.toList.drop 138 = dktX1_places_6 := dk_seg dksX1_places_5 22 rfl rfl
theorem dX1_places_0 : decode cX1_places 0 = .ok (.iconst 0, 1) := dk_3 (dk_at dksX1_places_0 0 rfl rfl)
theorem dX1_places_1 : decode cX1_places 1 = .ok (.istore_n 3, 1) := dk_62 (dk_at dksX1_places_0 1 rfl rfl)
theorem dX1_places_2 : decode cX1_places 2 = .ok (.iload_n 3, 1) := dk_29 (dk_at dksX1_places_0 2 rfl rfl)
theorem dX1_places_3 : decode cX1_places 3 = .ok (.bipush 64, 2) := dk_16 64 (dk_at dksX1_places_0 3 rfl rfl)
theorem dX1_places_5 : decode cX1_places 5 = .ok (.if_icmp .ge 23, 3) := dk_162 0 23 (dk_at dksX1_places_0 5 rfl rfl)
theorem dX1_places_8 : decode cX1_places 8 = .ok (.aload_n 0, 1) := dk_42 (dk_at dksX1_places_0 8 rfl rfl)
theorem dX1_places_9 : decode cX1_places 9 = .ok (.getfield 140, 3) := dk_180 0 140 (dk_at dksX1_places_0 9 rfl rfl)
theorem dX1_places_12 : decode cX1_places 12 = .ok (.iload_n 3, 1) := dk_29 (dk_at dksX1_places_0 12 rfl rfl)
theorem dX1_places_13 : decode cX1_places 13 = .ok (.aload_n 0, 1) := dk_42 (dk_at dksX1_places_0 13 rfl rfl)
theorem dX1_places_14 : decode cX1_places 14 = .ok (.getfield 44, 3) := dk_180 0 44 (dk_at dksX1_places_0 14 rfl rfl)
theorem dX1_places_17 : decode cX1_places 17 = .ok (.iload_n 3, 1) := dk_29 (dk_at dksX1_places_0 17 rfl rfl)
theorem dX1_places_18 : decode cX1_places 18 = .ok (.invokevirtual 349, 3) := dk_182 1 93 (dk_at dksX1_places_0 18 rfl rfl)
theorem dX1_places_21 : decode cX1_places 21 = .ok (.bastore, 1) := dk_84 (dk_at dksX1_places_0 21 rfl rfl)
theorem dX1_places_22 : decode cX1_places 22 = .ok (.iinc 3 1, 3) := dk_132 3 1 (dk_at dksX1_places_1 0 rfl rfl)
theorem dX1_places_25 : decode cX1_places 25 = .ok (.goto (-23), 3) := dk_167 255 233 (dk_at dksX1_places_1 3 rfl rfl)
theorem dX1_places_28 : decode cX1_places 28 = .ok (.iconst (-1), 1) := dk_2 (dk_at dksX1_places_1 6 rfl rfl)
theorem dX1_places_29 : decode cX1_places 29 = .ok (.istore_n 3, 1) := dk_62 (dk_at dksX1_places_1 7 rfl rfl)
theorem dX1_places_30 : decode cX1_places 30 = .ok (.iconst (-1), 1) := dk_2 (dk_at dksX1_places_1 8 rfl rfl)
theorem dX1_places_31 : decode cX1_places 31 = .ok (.istore 4, 2) := dk_54 4 (dk_at dksX1_places_1 9 rfl rfl)
theorem dX1_places_33 : decode cX1_places 33 = .ok (.iconst 0, 1) := dk_3 (dk_at dksX1_places_1 11 rfl rfl)
theorem dX1_places_34 : decode cX1_places 34 = .ok (.istore 5, 2) := dk_54 5 (dk_at dksX1_places_1 12 rfl rfl)
theorem dX1_places_36 : decode cX1_places 36 = .ok (.iload 5, 2) := dk_21 5 (dk_at dksX1_places_1 14 rfl rfl)
theorem dX1_places_38 : decode cX1_places 38 = .ok (.aload_n 1, 1) := dk_43 (dk_at dksX1_places_1 16 rfl rfl)
theorem dX1_places_39 : decode cX1_places 39 = .ok (.getfield 203, 3) := dk_180 0 203 (dk_at dksX1_places_1 17 rfl rfl)
theorem dX1_places_42 : decode cX1_places 42 = .ok (.if_icmp .ge 53, 3) := dk_162 0 53 (dk_at dksX1_places_1 20 rfl rfl)
theorem dX1_places_45 : decode cX1_places 45 = .ok (.aload_n 1, 1) := dk_43 (dk_at dksX1_places_1 23 rfl rfl)
theorem dX1_places_46 : decode cX1_places 46 = .ok (.getfield 434, 3) := dk_180 1 178 (dk_at dksX1_places_2 0 rfl rfl)
theorem dX1_places_49 : decode cX1_places 49 = .ok (.iload 5, 2) := dk_21 5 (dk_at dksX1_places_2 3 rfl rfl)
theorem dX1_places_51 : decode cX1_places 51 = .ok (.iaload, 1) := dk_46 (dk_at dksX1_places_2 5 rfl rfl)
theorem dX1_places_52 : decode cX1_places 52 = .ok (.iload_n 2, 1) := dk_28 (dk_at dksX1_places_2 6 rfl rfl)
theorem dX1_places_53 : decode cX1_places 53 = .ok (.if_icmp .gt 8, 3) := dk_163 0 8 (dk_at dksX1_places_2 7 rfl rfl)
theorem dX1_places_56 : decode cX1_places 56 = .ok (.iload 5, 2) := dk_21 5 (dk_at dksX1_places_2 10 rfl rfl)
theorem dX1_places_58 : decode cX1_places 58 = .ok (.goto 4, 3) := dk_167 0 4 (dk_at dksX1_places_2 12 rfl rfl)
theorem dX1_places_61 : decode cX1_places 61 = .ok (.iload_n 3, 1) := dk_29 (dk_at dksX1_places_2 15 rfl rfl)
theorem dX1_places_62 : decode cX1_places 62 = .ok (.istore_n 3, 1) := dk_62 (dk_at dksX1_places_2 16 rfl rfl)
theorem dX1_places_63 : decode cX1_places 63 = .ok (.iload 4, 2) := dk_21 4 (dk_at dksX1_places_2 17 rfl rfl)
theorem dX1_places_65 : decode cX1_places 65 = .ok (.iconst (-1), 1) := dk_2 (dk_at dksX1_places_2 19 rfl rfl)
theorem dX1_places_66 : decode cX1_places 66 = .ok (.if_icmp .ne 19, 3) := dk_160 0 19 (dk_at dksX1_places_2 20 rfl rfl)
theorem dX1_places_69 : decode cX1_places 69 = .ok (.aload_n 1, 1) := dk_43 (dk_at dksX1_places_2 23 rfl rfl)
theorem dX1_places_70 : decode cX1_places 70 = .ok (.getfield 434, 3) := dk_180 1 178 (dk_at dksX1_places_3 0 rfl rfl)
theorem dX1_places_73 : decode cX1_places 73 = .ok (.iload 5, 2) := dk_21 5 (dk_at dksX1_places_3 3 rfl rfl)
theorem dX1_places_75 : decode cX1_places 75 = .ok (.iaload, 1) := dk_46 (dk_at dksX1_places_3 5 rfl rfl)
theorem dX1_places_76 : decode cX1_places 76 = .ok (.iload_n 2, 1) := dk_28 (dk_at dksX1_places_3 6 rfl rfl)
theorem dX1_places_77 : decode cX1_places 77 = .ok (.if_icmp .lt 8, 3) := dk_161 0 8 (dk_at dksX1_places_3 7 rfl rfl)
theorem dX1_places_80 : decode cX1_places 80 = .ok (.iload 5, 2) := dk_21 5 (dk_at dksX1_places_3 10 rfl rfl)
theorem dX1_places_82 : decode cX1_places 82 = .ok (.goto 5, 3) := dk_167 0 5 (dk_at dksX1_places_3 12 rfl rfl)
theorem dX1_places_85 : decode cX1_places 85 = .ok (.iload 4, 2) := dk_21 4 (dk_at dksX1_places_3 15 rfl rfl)
theorem dX1_places_87 : decode cX1_places 87 = .ok (.istore 4, 2) := dk_54 4 (dk_at dksX1_places_3 17 rfl rfl)
theorem dX1_places_89 : decode cX1_places 89 = .ok (.iinc 5 1, 3) := dk_132 5 1 (dk_at dksX1_places_3 19 rfl rfl)
theorem dX1_places_92 : decode cX1_places 92 = .ok (.goto (-56), 3) := dk_167 255 200 (dk_at dksX1_places_4 0 rfl rfl)
theorem dX1_places_95 : decode cX1_places 95 = .ok (.iload_n 3, 1) := dk_29 (dk_at dksX1_places_4 3 rfl rfl)
theorem dX1_places_96 : decode cX1_places 96 = .ok (.iconst (-1), 1) := dk_2 (dk_at dksX1_places_4 4 rfl rfl)
theorem dX1_places_97 : decode cX1_places 97 = .ok (.if_icmp .eq 26, 3) := dk_159 0 26 (dk_at dksX1_places_4 5 rfl rfl)
theorem dX1_places_100 : decode cX1_places 100 = .ok (.aload_n 0, 1) := dk_42 (dk_at dksX1_places_4 8 rfl rfl)
theorem dX1_places_101 : decode cX1_places 101 = .ok (.aload_n 1, 1) := dk_43 (dk_at dksX1_places_4 9 rfl rfl)
theorem dX1_places_102 : decode cX1_places 102 = .ok (.getfield 206, 3) := dk_180 0 206 (dk_at dksX1_places_4 10 rfl rfl)
theorem dX1_places_105 : decode cX1_places 105 = .ok (.iload_n 3, 1) := dk_29 (dk_at dksX1_places_4 13 rfl rfl)
theorem dX1_places_106 : decode cX1_places 106 = .ok (.iaload, 1) := dk_46 (dk_at dksX1_places_4 14 rfl rfl)
theorem dX1_places_107 : decode cX1_places 107 = .ok (.aload_n 1, 1) := dk_43 (dk_at dksX1_places_4 15 rfl rfl)
theorem dX1_places_108 : decode cX1_places 108 = .ok (.getfield 437, 3) := dk_180 1 181 (dk_at dksX1_places_4 16 rfl rfl)
theorem dX1_places_111 : decode cX1_places 111 = .ok (.iload_n 2, 1) := dk_28 (dk_at dksX1_places_4 19 rfl rfl)
theorem dX1_places_112 : decode cX1_places 112 = .ok (.aload_n 1, 1) := dk_43 (dk_at dksX1_places_4 20 rfl rfl)
theorem dX1_places_113 : decode cX1_places 113 = .ok (.getfield 434, 3) := dk_180 1 178 (dk_at dksX1_places_4 21 rfl rfl)
theorem dX1_places_116 : decode cX1_places 116 = .ok (.iload_n 3, 1) := dk_29 (dk_at dksX1_places_5 0 rfl rfl)
theorem dX1_places_117 : decode cX1_places 117 = .ok (.iaload, 1) := dk_46 (dk_at dksX1_places_5 1 rfl rfl)
theorem dX1_places_118 : decode cX1_places 118 = .ok (.isub, 1) := dk_100 (dk_at dksX1_places_5 2 rfl rfl)
theorem dX1_places_119 : decode cX1_places 119 = .ok (.imul, 1) := dk_104 (dk_at dksX1_places_5 3 rfl rfl)
theorem dX1_places_120 : decode cX1_places 120 = .ok (.invokevirtual 440, 3) := dk_182 1 184 (dk_at dksX1_places_5 4 rfl rfl)
theorem dX1_places_123 : decode cX1_places 123 = .ok (.iload 4, 2) := dk_21 4 (dk_at dksX1_places_5 7 rfl rfl)
theorem dX1_places_125 : decode cX1_places 125 = .ok (.iconst (-1), 1) := dk_2 (dk_at dksX1_places_5 9 rfl rfl)
theorem dX1_places_126 : decode cX1_places 126 = .ok (.if_icmp .eq 28, 3) := dk_159 0 28 (dk_at dksX1_places_5 10 rfl rfl)
theorem dX1_places_129 : decode cX1_places 129 = .ok (.aload_n 0, 1) := dk_42 (dk_at dksX1_places_5 13 rfl rfl)
theorem dX1_places_130 : decode cX1_places 130 = .ok (.aload_n 1, 1) := dk_43 (dk_at dksX1_places_5 14 rfl rfl)
theorem dX1_places_131 : decode cX1_places 131 = .ok (.getfield 206, 3) := dk_180 0 206 (dk_at dksX1_places_5 15 rfl rfl)
theorem dX1_places_134 : decode cX1_places 134 = .ok (.iload 4, 2) := dk_21 4 (dk_at dksX1_places_5 18 rfl rfl)
theorem dX1_places_136 : decode cX1_places 136 = .ok (.iaload, 1) := dk_46 (dk_at dksX1_places_5 20 rfl rfl)
theorem dX1_places_137 : decode cX1_places 137 = .ok (.aload_n 1, 1) := dk_43 (dk_at dksX1_places_5 21 rfl rfl)
theorem dX1_places_138 : decode cX1_places 138 = .ok (.getfield 437, 3) := dk_180 1 181 (dk_at dksX1_places_6 0 rfl rfl)
theorem dX1_places_141 : decode cX1_places 141 = .ok (.aload_n 1, 1) := dk_43 (dk_at dksX1_places_6 3 rfl rfl)
theorem dX1_places_142 : decode cX1_places 142 = .ok (.getfield 434, 3) := dk_180 1 178 (dk_at dksX1_places_6 4 rfl rfl)
theorem dX1_places_145 : decode cX1_places 145 = .ok (.iload 4, 2) := dk_21 4 (dk_at dksX1_places_6 7 rfl rfl)
theorem dX1_places_147 : decode cX1_places 147 = .ok (.iaload, 1) := dk_46 (dk_at dksX1_places_6 9 rfl rfl)
theorem dX1_places_148 : decode cX1_places 148 = .ok (.iload_n 2, 1) := dk_28 (dk_at dksX1_places_6 10 rfl rfl)
theorem dX1_places_149 : decode cX1_places 149 = .ok (.isub, 1) := dk_100 (dk_at dksX1_places_6 11 rfl rfl)
theorem dX1_places_150 : decode cX1_places 150 = .ok (.imul, 1) := dk_104 (dk_at dksX1_places_6 12 rfl rfl)
theorem dX1_places_151 : decode cX1_places 151 = .ok (.invokevirtual 440, 3) := dk_182 1 184 (dk_at dksX1_places_6 13 rfl rfl)
theorem dX1_places_154 : decode cX1_places 154 = .ok (.return_, 1) := dk_177 (dk_at dksX1_places_6 16 rfl rfl)
def dkwX1_near_2 : List UInt8 := [3, 126, 84, 132, 3, 1, 167, 255, 220, 177]
abbrev dktX1_near_2 : List UInt8 := dkwX1_near_2 ++ []
def dkwX1_near_1 : List UInt8 := [42, 180, 0, 140, 29, 92, 51, 42, 180, 0, 64, 180, 1, 193, 29, 46, 28, 163, 0, 7, 4, 167, 0, 4]
abbrev dktX1_near_1 : List UInt8 := dkwX1_near_1 ++ dktX1_near_2
def dkwX1_near_0 : List UInt8 := [42, 182, 1, 187, 42, 180, 0, 64, 27, 42, 180, 0, 143, 182, 1, 190, 3, 62, 29, 16, 64, 162, 0, 36]
abbrev dktX1_near_0 : List UInt8 := dkwX1_near_0 ++ dktX1_near_1
theorem dksX1_near_0 : cX1_near.data.toList.drop 0 = dktX1_near_0 := by decide +kernel
theorem dksX1_near_1 : cX1_near.data.toList.drop 24 = dktX1_near_1 := dk_seg dksX1_near_0 24 rfl rfl
theorem dksX1_near_2 : cX1_near.data.toList.drop 48 = dktX1_near_2 := dk_seg dksX1_near_1 24 rfl rfl
theorem dX1_near_0 : decode cX1_near 0 = .ok (.aload_n 0, 1) := dk_42 (dk_at dksX1_near_0 0 rfl rfl)
theorem dX1_near_1 : decode cX1_near 1 = .ok (.invokevirtual 443, 3) := dk_182 1 187 (dk_at dksX1_near_0 1 rfl rfl)
theorem dX1_near_4 : decode cX1_near 4 = .ok (.aload_n 0, 1) := dk_42 (dk_at dksX1_near_0 4 rfl rfl)
theorem dX1_near_5 : decode cX1_near 5 = .ok (.getfield 64, 3) := dk_180 0 64 (dk_at dksX1_near_0 5 rfl rfl)
theorem dX1_near_8 : decode cX1_near 8 = .ok (.iload_n 1, 1) := dk_27 (dk_at dksX1_near_0 8 rfl rfl)
theorem dX1_near_9 : decode cX1_near 9 = .ok (.aload_n 0, 1) := dk_42 (dk_at dksX1_near_0 9 rfl rfl)
theorem dX1_near_10 : decode cX1_near 10 = .ok (.getfield 143, 3) := dk_180 0 143 (dk_at dksX1_near_0 10 rfl rfl)
theorem dX1_near_13 : decode cX1_near 13 = .ok (.invokevirtual 446, 3) := dk_182 1 190 (dk_at dksX1_near_0 13 rfl rfl)
theorem dX1_near_16 : decode cX1_near 16 = .ok (.iconst 0, 1) := dk_3 (dk_at dksX1_near_0 16 rfl rfl)
theorem dX1_near_17 : decode cX1_near 17 = .ok (.istore_n 3, 1) := dk_62 (dk_at dksX1_near_0 17 rfl rfl)
theorem dX1_near_18 : decode cX1_near 18 = .ok (.iload_n 3, 1) := dk_29 (dk_at dksX1_near_0 18 rfl rfl)
theorem dX1_near_19 : decode cX1_near 19 = .ok (.bipush 64, 2) := dk_16 64 (dk_at dksX1_near_0 19 rfl rfl)
theorem dX1_near_21 : decode cX1_near 21 = .ok (.if_icmp .ge 36, 3) := dk_162 0 36 (dk_at dksX1_near_0 21 rfl rfl)
theorem dX1_near_24 : decode cX1_near 24 = .ok (.aload_n 0, 1) := dk_42 (dk_at dksX1_near_1 0 rfl rfl)
theorem dX1_near_25 : decode cX1_near 25 = .ok (.getfield 140, 3) := dk_180 0 140 (dk_at dksX1_near_1 1 rfl rfl)
theorem dX1_near_28 : decode cX1_near 28 = .ok (.iload_n 3, 1) := dk_29 (dk_at dksX1_near_1 4 rfl rfl)
theorem dX1_near_29 : decode cX1_near 29 = .ok (.dup2, 1) := dk_92 (dk_at dksX1_near_1 5 rfl rfl)
theorem dX1_near_30 : decode cX1_near 30 = .ok (.baload, 1) := dk_51 (dk_at dksX1_near_1 6 rfl rfl)
theorem dX1_near_31 : decode cX1_near 31 = .ok (.aload_n 0, 1) := dk_42 (dk_at dksX1_near_1 7 rfl rfl)
theorem dX1_near_32 : decode cX1_near 32 = .ok (.getfield 64, 3) := dk_180 0 64 (dk_at dksX1_near_1 8 rfl rfl)
theorem dX1_near_35 : decode cX1_near 35 = .ok (.getfield 449, 3) := dk_180 1 193 (dk_at dksX1_near_1 11 rfl rfl)
theorem dX1_near_38 : decode cX1_near 38 = .ok (.iload_n 3, 1) := dk_29 (dk_at dksX1_near_1 14 rfl rfl)
theorem dX1_near_39 : decode cX1_near 39 = .ok (.iaload, 1) := dk_46 (dk_at dksX1_near_1 15 rfl rfl)
theorem dX1_near_40 : decode cX1_near 40 = .ok (.iload_n 2, 1) := dk_28 (dk_at dksX1_near_1 16 rfl rfl)
theorem dX1_near_41 : decode cX1_near 41 = .ok (.if_icmp .gt 7, 3) := dk_163 0 7 (dk_at dksX1_near_1 17 rfl rfl)
theorem dX1_near_44 : decode cX1_near 44 = .ok (.iconst 1, 1) := dk_4 (dk_at dksX1_near_1 20 rfl rfl)
theorem dX1_near_45 : decode cX1_near 45 = .ok (.goto 4, 3) := dk_167 0 4 (dk_at dksX1_near_1 21 rfl rfl)
theorem dX1_near_48 : decode cX1_near 48 = .ok (.iconst 0, 1) := dk_3 (dk_at dksX1_near_2 0 rfl rfl)
theorem dX1_near_49 : decode cX1_near 49 = .ok (.iand, 1) := dk_126 (dk_at dksX1_near_2 1 rfl rfl)
theorem dX1_near_50 : decode cX1_near 50 = .ok (.bastore, 1) := dk_84 (dk_at dksX1_near_2 2 rfl rfl)
theorem dX1_near_51 : decode cX1_near 51 = .ok (.iinc 3 1, 3) := dk_132 3 1 (dk_at dksX1_near_2 3 rfl rfl)
theorem dX1_near_54 : decode cX1_near 54 = .ok (.goto (-36), 3) := dk_167 255 220 (dk_at dksX1_near_2 6 rfl rfl)
theorem dX1_near_57 : decode cX1_near 57 = .ok (.return_, 1) := dk_177 (dk_at dksX1_near_2 9 rfl rfl)
def dkwX1_rivers_1 : List UInt8 := [4, 167, 0, 4, 3, 84, 132, 1, 1, 167, 255, 225, 177]
abbrev dktX1_rivers_1 : List UInt8 := dkwX1_rivers_1 ++ []
def dkwX1_rivers_0 : List UInt8 := [3, 60, 27, 16, 64, 162, 0, 31, 42, 180, 0, 143, 27, 42, 180, 0, 44, 27, 182, 1, 93, 154, 0, 7]
abbrev dktX1_rivers_0 : List UInt8 := dkwX1_rivers_0 ++ dktX1_rivers_1
theorem dksX1_rivers_0 : cX1_rivers.data.toList.drop 0 = dktX1_rivers_0 := by decide +kernel
theorem dksX1_rivers_1 : cX1_rivers.data.toList.drop 24 = dktX1_rivers_1 := dk_seg dksX1_rivers_0 24 rfl rfl
theorem dX1_rivers_0 : decode cX1_rivers 0 = .ok (.iconst 0, 1) := dk_3 (dk_at dksX1_rivers_0 0 rfl rfl)
theorem dX1_rivers_1 : decode cX1_rivers 1 = .ok (.istore_n 1, 1) := dk_60 (dk_at dksX1_rivers_0 1 rfl rfl)
theorem dX1_rivers_2 : decode cX1_rivers 2 = .ok (.iload_n 1, 1) := dk_27 (dk_at dksX1_rivers_0 2 rfl rfl)
theorem dX1_rivers_3 : decode cX1_rivers 3 = .ok (.bipush 64, 2) := dk_16 64 (dk_at dksX1_rivers_0 3 rfl rfl)
theorem dX1_rivers_5 : decode cX1_rivers 5 = .ok (.if_icmp .ge 31, 3) := dk_162 0 31 (dk_at dksX1_rivers_0 5 rfl rfl)
theorem dX1_rivers_8 : decode cX1_rivers 8 = .ok (.aload_n 0, 1) := dk_42 (dk_at dksX1_rivers_0 8 rfl rfl)
theorem dX1_rivers_9 : decode cX1_rivers 9 = .ok (.getfield 143, 3) := dk_180 0 143 (dk_at dksX1_rivers_0 9 rfl rfl)
theorem dX1_rivers_12 : decode cX1_rivers 12 = .ok (.iload_n 1, 1) := dk_27 (dk_at dksX1_rivers_0 12 rfl rfl)
theorem dX1_rivers_13 : decode cX1_rivers 13 = .ok (.aload_n 0, 1) := dk_42 (dk_at dksX1_rivers_0 13 rfl rfl)
theorem dX1_rivers_14 : decode cX1_rivers 14 = .ok (.getfield 44, 3) := dk_180 0 44 (dk_at dksX1_rivers_0 14 rfl rfl)
theorem dX1_rivers_17 : decode cX1_rivers 17 = .ok (.iload_n 1, 1) := dk_27 (dk_at dksX1_rivers_0 17 rfl rfl)
theorem dX1_rivers_18 : decode cX1_rivers 18 = .ok (.invokevirtual 349, 3) := dk_182 1 93 (dk_at dksX1_rivers_0 18 rfl rfl)
theorem dX1_rivers_21 : decode cX1_rivers 21 = .ok (.ifCond .ne 7, 3) := dk_154 0 7 (dk_at dksX1_rivers_0 21 rfl rfl)
theorem dX1_rivers_24 : decode cX1_rivers 24 = .ok (.iconst 1, 1) := dk_4 (dk_at dksX1_rivers_1 0 rfl rfl)
theorem dX1_rivers_25 : decode cX1_rivers 25 = .ok (.goto 4, 3) := dk_167 0 4 (dk_at dksX1_rivers_1 1 rfl rfl)
theorem dX1_rivers_28 : decode cX1_rivers 28 = .ok (.iconst 0, 1) := dk_3 (dk_at dksX1_rivers_1 4 rfl rfl)
theorem dX1_rivers_29 : decode cX1_rivers 29 = .ok (.bastore, 1) := dk_84 (dk_at dksX1_rivers_1 5 rfl rfl)
theorem dX1_rivers_30 : decode cX1_rivers 30 = .ok (.iinc 1 1, 3) := dk_132 1 1 (dk_at dksX1_rivers_1 6 rfl rfl)
theorem dX1_rivers_33 : decode cX1_rivers 33 = .ok (.goto (-31), 3) := dk_167 255 225 (dk_at dksX1_rivers_1 9 rfl rfl)
theorem dX1_rivers_36 : decode cX1_rivers 36 = .ok (.return_, 1) := dk_177 (dk_at dksX1_rivers_1 12 rfl rfl)
def dkwX1_mayBe_1 : List UInt8 := [180, 0, 140, 29, 51, 172]
abbrev dktX1_mayBe_1 : List UInt8 := dkwX1_mayBe_1 ++ []
def dkwX1_mayBe_0 : List UInt8 := [42, 27, 182, 1, 12, 58, 4, 29, 184, 0, 170, 28, 184, 1, 196, 42, 25, 4, 28, 182, 1, 199, 42]
abbrev dktX1_mayBe_0 : List UInt8 := dkwX1_mayBe_0 ++ dktX1_mayBe_1
theorem dksX1_mayBe_0 : cX1_mayBe.data.toList.drop 0 = dktX1_mayBe_0 := by decide +kernel
theorem dksX1_mayBe_1 : cX1_mayBe.data.toList.drop 23 = dktX1_mayBe_1 := dk_seg dksX1_mayBe_0 23 rfl rfl
theorem dX1_mayBe_0 : decode cX1_mayBe 0 = .ok (.aload_n 0, 1) := dk_42 (dk_at dksX1_mayBe_0 0 rfl rfl)
theorem dX1_mayBe_1 : decode cX1_mayBe 1 = .ok (.iload_n 1, 1) := dk_27 (dk_at dksX1_mayBe_0 1 rfl rfl)
theorem dX1_mayBe_2 : decode cX1_mayBe 2 = .ok (.invokevirtual 268, 3) := dk_182 1 12 (dk_at dksX1_mayBe_0 2 rfl rfl)
theorem dX1_mayBe_5 : decode cX1_mayBe 5 = .ok (.astore 4, 2) := dk_58 4 (dk_at dksX1_mayBe_0 5 rfl rfl)
theorem dX1_mayBe_7 : decode cX1_mayBe 7 = .ok (.iload_n 3, 1) := dk_29 (dk_at dksX1_mayBe_0 7 rfl rfl)
theorem dX1_mayBe_8 : decode cX1_mayBe 8 = .ok (.invokestatic 170, 3) := dk_184 0 170 (dk_at dksX1_mayBe_0 8 rfl rfl)
theorem dX1_mayBe_11 : decode cX1_mayBe 11 = .ok (.iload_n 2, 1) := dk_28 (dk_at dksX1_mayBe_0 11 rfl rfl)
theorem dX1_mayBe_12 : decode cX1_mayBe 12 = .ok (.invokestatic 452, 3) := dk_184 1 196 (dk_at dksX1_mayBe_0 12 rfl rfl)
theorem dX1_mayBe_15 : decode cX1_mayBe 15 = .ok (.aload_n 0, 1) := dk_42 (dk_at dksX1_mayBe_0 15 rfl rfl)
theorem dX1_mayBe_16 : decode cX1_mayBe 16 = .ok (.aload 4, 2) := dk_25 4 (dk_at dksX1_mayBe_0 16 rfl rfl)
theorem dX1_mayBe_18 : decode cX1_mayBe 18 = .ok (.iload_n 2, 1) := dk_28 (dk_at dksX1_mayBe_0 18 rfl rfl)
theorem dX1_mayBe_19 : decode cX1_mayBe 19 = .ok (.invokevirtual 455, 3) := dk_182 1 199 (dk_at dksX1_mayBe_0 19 rfl rfl)
theorem dX1_mayBe_22 : decode cX1_mayBe 22 = .ok (.aload_n 0, 1) := dk_42 (dk_at dksX1_mayBe_0 22 rfl rfl)
theorem dX1_mayBe_23 : decode cX1_mayBe 23 = .ok (.getfield 140, 3) := dk_180 0 140 (dk_at dksX1_mayBe_1 0 rfl rfl)
theorem dX1_mayBe_26 : decode cX1_mayBe 26 = .ok (.iload_n 3, 1) := dk_29 (dk_at dksX1_mayBe_1 3 rfl rfl)
theorem dX1_mayBe_27 : decode cX1_mayBe 27 = .ok (.baload, 1) := dk_51 (dk_at dksX1_mayBe_1 4 rfl rfl)
theorem dX1_mayBe_28 : decode cX1_mayBe 28 = .ok (.ireturn, 1) := dk_172 (dk_at dksX1_mayBe_1 5 rfl rfl)
def dkwX1_spots_2 : List UInt8 := [21, 4, 21, 8, 153, 0, 7, 4, 167, 0, 4, 3, 96, 54, 4, 132, 7, 1, 167, 255, 224, 21, 4, 172]
abbrev dktX1_spots_2 : List UInt8 := dkwX1_spots_2 ++ []
def dkwX1_spots_1 : List UInt8 := [58, 5, 25, 5, 190, 54, 6, 3, 54, 7, 21, 7, 21, 6, 162, 0, 31, 25, 5, 21, 7, 51, 54, 8]
abbrev dktX1_spots_1 : List UInt8 := dkwX1_spots_1 ++ dktX1_spots_2
def dkwX1_spots_0 : List UInt8 := [42, 27, 182, 1, 12, 78, 28, 184, 1, 196, 42, 45, 28, 182, 1, 199, 3, 54, 4, 42, 180, 0, 140]
abbrev dktX1_spots_0 : List UInt8 := dkwX1_spots_0 ++ dktX1_spots_1
theorem dksX1_spots_0 : cX1_spots.data.toList.drop 0 = dktX1_spots_0 := by decide +kernel
theorem dksX1_spots_1 : cX1_spots.data.toList.drop 23 = dktX1_spots_1 := dk_seg dksX1_spots_0 23 rfl rfl
theorem dksX1_spots_2 : cX1_spots.data.toList.drop 47 = dktX1_spots_2 := dk_seg dksX1_spots_1 24 rfl rfl
theorem dX1_spots_0 : decode cX1_spots 0 = .ok (.aload_n 0, 1) := dk_42 (dk_at dksX1_spots_0 0 rfl rfl)
theorem dX1_spots_1 : decode cX1_spots 1 = .ok (.iload_n 1, 1) := dk_27 (dk_at dksX1_spots_0 1 rfl rfl)
theorem dX1_spots_2 : decode cX1_spots 2 = .ok (.invokevirtual 268, 3) := dk_182 1 12 (dk_at dksX1_spots_0 2 rfl rfl)
theorem dX1_spots_5 : decode cX1_spots 5 = .ok (.astore_n 3, 1) := dk_78 (dk_at dksX1_spots_0 5 rfl rfl)
theorem dX1_spots_6 : decode cX1_spots 6 = .ok (.iload_n 2, 1) := dk_28 (dk_at dksX1_spots_0 6 rfl rfl)
theorem dX1_spots_7 : decode cX1_spots 7 = .ok (.invokestatic 452, 3) := dk_184 1 196 (dk_at dksX1_spots_0 7 rfl rfl)
theorem dX1_spots_10 : decode cX1_spots 10 = .ok (.aload_n 0, 1) := dk_42 (dk_at dksX1_spots_0 10 rfl rfl)
theorem dX1_spots_11 : decode cX1_spots 11 = .ok (.aload_n 3, 1) := dk_45 (dk_at dksX1_spots_0 11 rfl rfl)
theorem dX1_spots_12 : decode cX1_spots 12 = .ok (.iload_n 2, 1) := dk_28 (dk_at dksX1_spots_0 12 rfl rfl)
theorem dX1_spots_13 : decode cX1_spots 13 = .ok (.invokevirtual 455, 3) := dk_182 1 199 (dk_at dksX1_spots_0 13 rfl rfl)
theorem dX1_spots_16 : decode cX1_spots 16 = .ok (.iconst 0, 1) := dk_3 (dk_at dksX1_spots_0 16 rfl rfl)
theorem dX1_spots_17 : decode cX1_spots 17 = .ok (.istore 4, 2) := dk_54 4 (dk_at dksX1_spots_0 17 rfl rfl)
theorem dX1_spots_19 : decode cX1_spots 19 = .ok (.aload_n 0, 1) := dk_42 (dk_at dksX1_spots_0 19 rfl rfl)
theorem dX1_spots_20 : decode cX1_spots 20 = .ok (.getfield 140, 3) := dk_180 0 140 (dk_at dksX1_spots_0 20 rfl rfl)
theorem dX1_spots_23 : decode cX1_spots 23 = .ok (.astore 5, 2) := dk_58 5 (dk_at dksX1_spots_1 0 rfl rfl)
theorem dX1_spots_25 : decode cX1_spots 25 = .ok (.aload 5, 2) := dk_25 5 (dk_at dksX1_spots_1 2 rfl rfl)
theorem dX1_spots_27 : decode cX1_spots 27 = .ok (.arraylength, 1) := dk_190 (dk_at dksX1_spots_1 4 rfl rfl)
theorem dX1_spots_28 : decode cX1_spots 28 = .ok (.istore 6, 2) := dk_54 6 (dk_at dksX1_spots_1 5 rfl rfl)
theorem dX1_spots_30 : decode cX1_spots 30 = .ok (.iconst 0, 1) := dk_3 (dk_at dksX1_spots_1 7 rfl rfl)
theorem dX1_spots_31 : decode cX1_spots 31 = .ok (.istore 7, 2) := dk_54 7 (dk_at dksX1_spots_1 8 rfl rfl)
theorem dX1_spots_33 : decode cX1_spots 33 = .ok (.iload 7, 2) := dk_21 7 (dk_at dksX1_spots_1 10 rfl rfl)
theorem dX1_spots_35 : decode cX1_spots 35 = .ok (.iload 6, 2) := dk_21 6 (dk_at dksX1_spots_1 12 rfl rfl)
theorem dX1_spots_37 : decode cX1_spots 37 = .ok (.if_icmp .ge 31, 3) := dk_162 0 31 (dk_at dksX1_spots_1 14 rfl rfl)
theorem dX1_spots_40 : decode cX1_spots 40 = .ok (.aload 5, 2) := dk_25 5 (dk_at dksX1_spots_1 17 rfl rfl)
theorem dX1_spots_42 : decode cX1_spots 42 = .ok (.iload 7, 2) := dk_21 7 (dk_at dksX1_spots_1 19 rfl rfl)
theorem dX1_spots_44 : decode cX1_spots 44 = .ok (.baload, 1) := dk_51 (dk_at dksX1_spots_1 21 rfl rfl)
theorem dX1_spots_45 : decode cX1_spots 45 = .ok (.istore 8, 2) := dk_54 8 (dk_at dksX1_spots_1 22 rfl rfl)
theorem dX1_spots_47 : decode cX1_spots 47 = .ok (.iload 4, 2) := dk_21 4 (dk_at dksX1_spots_2 0 rfl rfl)
theorem dX1_spots_49 : decode cX1_spots 49 = .ok (.iload 8, 2) := dk_21 8 (dk_at dksX1_spots_2 2 rfl rfl)
theorem dX1_spots_51 : decode cX1_spots 51 = .ok (.ifCond .eq 7, 3) := dk_153 0 7 (dk_at dksX1_spots_2 4 rfl rfl)
theorem dX1_spots_54 : decode cX1_spots 54 = .ok (.iconst 1, 1) := dk_4 (dk_at dksX1_spots_2 7 rfl rfl)
theorem dX1_spots_55 : decode cX1_spots 55 = .ok (.goto 4, 3) := dk_167 0 4 (dk_at dksX1_spots_2 8 rfl rfl)
theorem dX1_spots_58 : decode cX1_spots 58 = .ok (.iconst 0, 1) := dk_3 (dk_at dksX1_spots_2 11 rfl rfl)
theorem dX1_spots_59 : decode cX1_spots 59 = .ok (.iadd, 1) := dk_96 (dk_at dksX1_spots_2 12 rfl rfl)
theorem dX1_spots_60 : decode cX1_spots 60 = .ok (.istore 4, 2) := dk_54 4 (dk_at dksX1_spots_2 13 rfl rfl)
theorem dX1_spots_62 : decode cX1_spots 62 = .ok (.iinc 7 1, 3) := dk_132 7 1 (dk_at dksX1_spots_2 15 rfl rfl)
theorem dX1_spots_65 : decode cX1_spots 65 = .ok (.goto (-32), 3) := dk_167 255 224 (dk_at dksX1_spots_2 18 rfl rfl)
theorem dX1_spots_68 : decode cX1_spots 68 = .ok (.iload 4, 2) := dk_21 4 (dk_at dksX1_spots_2 21 rfl rfl)
theorem dX1_spots_70 : decode cX1_spots 70 = .ok (.ireturn, 1) := dk_172 (dk_at dksX1_spots_2 23 rfl rfl)
def dkwX1_wire_2 : List UInt8 := [183, 1, 205, 182, 1, 5, 87, 42, 180, 0, 78, 182, 0, 189, 4, 100, 172]
abbrev dktX1_wire_2 : List UInt8 := dkwX1_wire_2 ++ []
def dkwX1_wire_1 : List UInt8 := [180, 0, 78, 182, 0, 189, 16, 10, 160, 0, 5, 2, 172, 42, 180, 0, 78, 187, 1, 203, 89, 27, 28, 29]
abbrev dktX1_wire_1 : List UInt8 := dkwX1_wire_1 ++ dktX1_wire_2
def dkwX1_wire_0 : List UInt8 := [27, 28, 184, 0, 227, 29, 3, 16, 12, 184, 0, 163, 154, 0, 7, 4, 167, 0, 4, 3, 184, 0, 178, 42]
abbrev dktX1_wire_0 : List UInt8 := dkwX1_wire_0 ++ dktX1_wire_1
theorem dksX1_wire_0 : cX1_wire.data.toList.drop 0 = dktX1_wire_0 := by decide +kernel
theorem dksX1_wire_1 : cX1_wire.data.toList.drop 24 = dktX1_wire_1 := dk_seg dksX1_wire_0 24 rfl rfl
theorem dksX1_wire_2 : cX1_wire.data.toList.drop 48 = dktX1_wire_2 := dk_seg dksX1_wire_1 24 rfl rfl
theorem dX1_wire_0 : decode cX1_wire 0 = .ok (.iload_n 1, 1) := dk_27 (dk_at dksX1_wire_0 0 rfl rfl)
theorem dX1_wire_1 : decode cX1_wire 1 = .ok (.iload_n 2, 1) := dk_28 (dk_at dksX1_wire_0 1 rfl rfl)
theorem dX1_wire_2 : decode cX1_wire 2 = .ok (.invokestatic 227, 3) := dk_184 0 227 (dk_at dksX1_wire_0 2 rfl rfl)
theorem dX1_wire_5 : decode cX1_wire 5 = .ok (.iload_n 3, 1) := dk_29 (dk_at dksX1_wire_0 5 rfl rfl)
theorem dX1_wire_6 : decode cX1_wire 6 = .ok (.iconst 0, 1) := dk_3 (dk_at dksX1_wire_0 6 rfl rfl)
theorem dX1_wire_7 : decode cX1_wire 7 = .ok (.bipush 12, 2) := dk_16 12 (dk_at dksX1_wire_0 7 rfl rfl)
theorem dX1_wire_9 : decode cX1_wire 9 = .ok (.invokestatic 163, 3) := dk_184 0 163 (dk_at dksX1_wire_0 9 rfl rfl)
theorem dX1_wire_12 : decode cX1_wire 12 = .ok (.ifCond .ne 7, 3) := dk_154 0 7 (dk_at dksX1_wire_0 12 rfl rfl)
theorem dX1_wire_15 : decode cX1_wire 15 = .ok (.iconst 1, 1) := dk_4 (dk_at dksX1_wire_0 15 rfl rfl)
theorem dX1_wire_16 : decode cX1_wire 16 = .ok (.goto 4, 3) := dk_167 0 4 (dk_at dksX1_wire_0 16 rfl rfl)
theorem dX1_wire_19 : decode cX1_wire 19 = .ok (.iconst 0, 1) := dk_3 (dk_at dksX1_wire_0 19 rfl rfl)
theorem dX1_wire_20 : decode cX1_wire 20 = .ok (.invokestatic 178, 3) := dk_184 0 178 (dk_at dksX1_wire_0 20 rfl rfl)
theorem dX1_wire_23 : decode cX1_wire 23 = .ok (.aload_n 0, 1) := dk_42 (dk_at dksX1_wire_0 23 rfl rfl)
theorem dX1_wire_24 : decode cX1_wire 24 = .ok (.getfield 78, 3) := dk_180 0 78 (dk_at dksX1_wire_1 0 rfl rfl)
theorem dX1_wire_27 : decode cX1_wire 27 = .ok (.invokevirtual 189, 3) := dk_182 0 189 (dk_at dksX1_wire_1 3 rfl rfl)
theorem dX1_wire_30 : decode cX1_wire 30 = .ok (.bipush 10, 2) := dk_16 10 (dk_at dksX1_wire_1 6 rfl rfl)
theorem dX1_wire_32 : decode cX1_wire 32 = .ok (.if_icmp .ne 5, 3) := dk_160 0 5 (dk_at dksX1_wire_1 8 rfl rfl)
theorem dX1_wire_35 : decode cX1_wire 35 = .ok (.iconst (-1), 1) := dk_2 (dk_at dksX1_wire_1 11 rfl rfl)
theorem dX1_wire_36 : decode cX1_wire 36 = .ok (.ireturn, 1) := dk_172 (dk_at dksX1_wire_1 12 rfl rfl)
theorem dX1_wire_37 : decode cX1_wire 37 = .ok (.aload_n 0, 1) := dk_42 (dk_at dksX1_wire_1 13 rfl rfl)
theorem dX1_wire_38 : decode cX1_wire 38 = .ok (.getfield 78, 3) := dk_180 0 78 (dk_at dksX1_wire_1 14 rfl rfl)
theorem dX1_wire_41 : decode cX1_wire 41 = .ok (.new 459, 3) := dk_187 1 203 (dk_at dksX1_wire_1 17 rfl rfl)
theorem dX1_wire_44 : decode cX1_wire 44 = .ok (.dup, 1) := dk_89 (dk_at dksX1_wire_1 20 rfl rfl)
theorem dX1_wire_45 : decode cX1_wire 45 = .ok (.iload_n 1, 1) := dk_27 (dk_at dksX1_wire_1 21 rfl rfl)
theorem dX1_wire_46 : decode cX1_wire 46 = .ok (.iload_n 2, 1) := dk_28 (dk_at dksX1_wire_1 22 rfl rfl)
theorem dX1_wire_47 : decode cX1_wire 47 = .ok (.iload_n 3, 1) := dk_29 (dk_at dksX1_wire_1 23 rfl rfl)
theorem dX1_wire_48 : decode cX1_wire 48 = .ok (.invokespecial 461, 3) := dk_183 1 205 (dk_at dksX1_wire_2 0 rfl rfl)
theorem dX1_wire_51 : decode cX1_wire 51 = .ok (.invokevirtual 261, 3) := dk_182 1 5 (dk_at dksX1_wire_2 3 rfl rfl)
theorem dX1_wire_54 : decode cX1_wire 54 = .ok (.pop, 1) := dk_87 (dk_at dksX1_wire_2 6 rfl rfl)
theorem dX1_wire_55 : decode cX1_wire 55 = .ok (.aload_n 0, 1) := dk_42 (dk_at dksX1_wire_2 7 rfl rfl)
theorem dX1_wire_56 : decode cX1_wire 56 = .ok (.getfield 78, 3) := dk_180 0 78 (dk_at dksX1_wire_2 8 rfl rfl)
theorem dX1_wire_59 : decode cX1_wire 59 = .ok (.invokevirtual 189, 3) := dk_182 0 189 (dk_at dksX1_wire_2 11 rfl rfl)
theorem dX1_wire_62 : decode cX1_wire 62 = .ok (.iconst 1, 1) := dk_4 (dk_at dksX1_wire_2 14 rfl rfl)
theorem dX1_wire_63 : decode cX1_wire 63 = .ok (.isub, 1) := dk_100 (dk_at dksX1_wire_2 15 rfl rfl)
theorem dX1_wire_64 : decode cX1_wire 64 = .ok (.ireturn, 1) := dk_172 (dk_at dksX1_wire_2 16 rfl rfl)
def dkwX1_wind_3 : List UInt8 := [180, 1, 206, 29, 4, 96, 184, 1, 99, 181, 1, 206, 21, 4, 172]
abbrev dktX1_wind_3 : List UInt8 := dkwX1_wind_3 ++ []
def dkwX1_wind_2 : List UInt8 := [29, 46, 167, 0, 4, 3, 54, 4, 42, 180, 0, 106, 29, 27, 79, 42, 180, 0, 109, 29, 28, 79, 42, 42]
abbrev dktX1_wind_2 : List UInt8 := dkwX1_wind_2 ++ dktX1_wind_3
def dkwX1_wind_1 : List UInt8 := [182, 1, 209, 62, 29, 16, 60, 160, 0, 5, 2, 172, 29, 42, 180, 1, 206, 162, 0, 12, 42, 180, 0, 109]
abbrev dktX1_wind_1 : List UInt8 := dkwX1_wind_1 ++ dktX1_wind_2
def dkwX1_wind_0 : List UInt8 := [27, 184, 1, 196, 28, 3, 16, 12, 184, 0, 163, 154, 0, 7, 4, 167, 0, 4, 3, 184, 0, 178, 42, 27]
abbrev dktX1_wind_0 : List UInt8 := dkwX1_wind_0 ++ dktX1_wind_1
theorem dksX1_wind_0 : cX1_wind.data.toList.drop 0 = dktX1_wind_0 := by decide +kernel
theorem dksX1_wind_1 : cX1_wind.data.toList.drop 24 = dktX1_wind_1 := dk_seg dksX1_wind_0 24 rfl rfl
theorem dksX1_wind_2 : cX1_wind.data.toList.drop 48 = dktX1_wind_2 := dk_seg dksX1_wind_1 24 rfl rfl
theorem dksX1_wind_3 : cX1_wind.data.toList.drop 72 = dktX1_wind_3 := dk_seg dksX1_wind_2 24 rfl rfl
theorem dX1_wind_0 : decode cX1_wind 0 = .ok (.iload_n 1, 1) := dk_27 (dk_at dksX1_wind_0 0 rfl rfl)
theorem dX1_wind_1 : decode cX1_wind 1 = .ok (.invokestatic 452, 3) := dk_184 1 196 (dk_at dksX1_wind_0 1 rfl rfl)
theorem dX1_wind_4 : decode cX1_wind 4 = .ok (.iload_n 2, 1) := dk_28 (dk_at dksX1_wind_0 4 rfl rfl)
theorem dX1_wind_5 : decode cX1_wind 5 = .ok (.iconst 0, 1) := dk_3 (dk_at dksX1_wind_0 5 rfl rfl)
theorem dX1_wind_6 : decode cX1_wind 6 = .ok (.bipush 12, 2) := dk_16 12 (dk_at dksX1_wind_0 6 rfl rfl)
theorem dX1_wind_8 : decode cX1_wind 8 = .ok (.invokestatic 163, 3) := dk_184 0 163 (dk_at dksX1_wind_0 8 rfl rfl)
theorem dX1_wind_11 : decode cX1_wind 11 = .ok (.ifCond .ne 7, 3) := dk_154 0 7 (dk_at dksX1_wind_0 11 rfl rfl)
theorem dX1_wind_14 : decode cX1_wind 14 = .ok (.iconst 1, 1) := dk_4 (dk_at dksX1_wind_0 14 rfl rfl)
theorem dX1_wind_15 : decode cX1_wind 15 = .ok (.goto 4, 3) := dk_167 0 4 (dk_at dksX1_wind_0 15 rfl rfl)
theorem dX1_wind_18 : decode cX1_wind 18 = .ok (.iconst 0, 1) := dk_3 (dk_at dksX1_wind_0 18 rfl rfl)
theorem dX1_wind_19 : decode cX1_wind 19 = .ok (.invokestatic 178, 3) := dk_184 0 178 (dk_at dksX1_wind_0 19 rfl rfl)
theorem dX1_wind_22 : decode cX1_wind 22 = .ok (.aload_n 0, 1) := dk_42 (dk_at dksX1_wind_0 22 rfl rfl)
theorem dX1_wind_23 : decode cX1_wind 23 = .ok (.iload_n 1, 1) := dk_27 (dk_at dksX1_wind_0 23 rfl rfl)
theorem dX1_wind_24 : decode cX1_wind 24 = .ok (.invokevirtual 465, 3) := dk_182 1 209 (dk_at dksX1_wind_1 0 rfl rfl)
theorem dX1_wind_27 : decode cX1_wind 27 = .ok (.istore_n 3, 1) := dk_62 (dk_at dksX1_wind_1 3 rfl rfl)
theorem dX1_wind_28 : decode cX1_wind 28 = .ok (.iload_n 3, 1) := dk_29 (dk_at dksX1_wind_1 4 rfl rfl)
theorem dX1_wind_29 : decode cX1_wind 29 = .ok (.bipush 60, 2) := dk_16 60 (dk_at dksX1_wind_1 5 rfl rfl)
theorem dX1_wind_31 : decode cX1_wind 31 = .ok (.if_icmp .ne 5, 3) := dk_160 0 5 (dk_at dksX1_wind_1 7 rfl rfl)
theorem dX1_wind_34 : decode cX1_wind 34 = .ok (.iconst (-1), 1) := dk_2 (dk_at dksX1_wind_1 10 rfl rfl)
theorem dX1_wind_35 : decode cX1_wind 35 = .ok (.ireturn, 1) := dk_172 (dk_at dksX1_wind_1 11 rfl rfl)
theorem dX1_wind_36 : decode cX1_wind 36 = .ok (.iload_n 3, 1) := dk_29 (dk_at dksX1_wind_1 12 rfl rfl)
theorem dX1_wind_37 : decode cX1_wind 37 = .ok (.aload_n 0, 1) := dk_42 (dk_at dksX1_wind_1 13 rfl rfl)
theorem dX1_wind_38 : decode cX1_wind 38 = .ok (.getfield 462, 3) := dk_180 1 206 (dk_at dksX1_wind_1 14 rfl rfl)
theorem dX1_wind_41 : decode cX1_wind 41 = .ok (.if_icmp .ge 12, 3) := dk_162 0 12 (dk_at dksX1_wind_1 17 rfl rfl)
theorem dX1_wind_44 : decode cX1_wind 44 = .ok (.aload_n 0, 1) := dk_42 (dk_at dksX1_wind_1 20 rfl rfl)
theorem dX1_wind_45 : decode cX1_wind 45 = .ok (.getfield 109, 3) := dk_180 0 109 (dk_at dksX1_wind_1 21 rfl rfl)
theorem dX1_wind_48 : decode cX1_wind 48 = .ok (.iload_n 3, 1) := dk_29 (dk_at dksX1_wind_2 0 rfl rfl)
theorem dX1_wind_49 : decode cX1_wind 49 = .ok (.iaload, 1) := dk_46 (dk_at dksX1_wind_2 1 rfl rfl)
theorem dX1_wind_50 : decode cX1_wind 50 = .ok (.goto 4, 3) := dk_167 0 4 (dk_at dksX1_wind_2 2 rfl rfl)
theorem dX1_wind_53 : decode cX1_wind 53 = .ok (.iconst 0, 1) := dk_3 (dk_at dksX1_wind_2 5 rfl rfl)
theorem dX1_wind_54 : decode cX1_wind 54 = .ok (.istore 4, 2) := dk_54 4 (dk_at dksX1_wind_2 6 rfl rfl)
theorem dX1_wind_56 : decode cX1_wind 56 = .ok (.aload_n 0, 1) := dk_42 (dk_at dksX1_wind_2 8 rfl rfl)
theorem dX1_wind_57 : decode cX1_wind 57 = .ok (.getfield 106, 3) := dk_180 0 106 (dk_at dksX1_wind_2 9 rfl rfl)
theorem dX1_wind_60 : decode cX1_wind 60 = .ok (.iload_n 3, 1) := dk_29 (dk_at dksX1_wind_2 12 rfl rfl)
theorem dX1_wind_61 : decode cX1_wind 61 = .ok (.iload_n 1, 1) := dk_27 (dk_at dksX1_wind_2 13 rfl rfl)
theorem dX1_wind_62 : decode cX1_wind 62 = .ok (.iastore, 1) := dk_79 (dk_at dksX1_wind_2 14 rfl rfl)
theorem dX1_wind_63 : decode cX1_wind 63 = .ok (.aload_n 0, 1) := dk_42 (dk_at dksX1_wind_2 15 rfl rfl)
theorem dX1_wind_64 : decode cX1_wind 64 = .ok (.getfield 109, 3) := dk_180 0 109 (dk_at dksX1_wind_2 16 rfl rfl)
theorem dX1_wind_67 : decode cX1_wind 67 = .ok (.iload_n 3, 1) := dk_29 (dk_at dksX1_wind_2 19 rfl rfl)
theorem dX1_wind_68 : decode cX1_wind 68 = .ok (.iload_n 2, 1) := dk_28 (dk_at dksX1_wind_2 20 rfl rfl)
theorem dX1_wind_69 : decode cX1_wind 69 = .ok (.iastore, 1) := dk_79 (dk_at dksX1_wind_2 21 rfl rfl)
theorem dX1_wind_70 : decode cX1_wind 70 = .ok (.aload_n 0, 1) := dk_42 (dk_at dksX1_wind_2 22 rfl rfl)
theorem dX1_wind_71 : decode cX1_wind 71 = .ok (.aload_n 0, 1) := dk_42 (dk_at dksX1_wind_2 23 rfl rfl)
theorem dX1_wind_72 : decode cX1_wind 72 = .ok (.getfield 462, 3) := dk_180 1 206 (dk_at dksX1_wind_3 0 rfl rfl)
theorem dX1_wind_75 : decode cX1_wind 75 = .ok (.iload_n 3, 1) := dk_29 (dk_at dksX1_wind_3 3 rfl rfl)
theorem dX1_wind_76 : decode cX1_wind 76 = .ok (.iconst 1, 1) := dk_4 (dk_at dksX1_wind_3 4 rfl rfl)
theorem dX1_wind_77 : decode cX1_wind 77 = .ok (.iadd, 1) := dk_96 (dk_at dksX1_wind_3 5 rfl rfl)
theorem dX1_wind_78 : decode cX1_wind 78 = .ok (.invokestatic 355, 3) := dk_184 1 99 (dk_at dksX1_wind_3 6 rfl rfl)
theorem dX1_wind_81 : decode cX1_wind 81 = .ok (.putfield 462, 3) := dk_181 1 206 (dk_at dksX1_wind_3 9 rfl rfl)
theorem dX1_wind_84 : decode cX1_wind 84 = .ok (.iload 4, 2) := dk_21 4 (dk_at dksX1_wind_3 12 rfl rfl)
theorem dX1_wind_86 : decode cX1_wind 86 = .ok (.ireturn, 1) := dk_172 (dk_at dksX1_wind_3 14 rfl rfl)
def dkwX1_windOf_1 : List UInt8 := [167, 255, 235, 28, 172]
abbrev dktX1_windOf_1 : List UInt8 := dkwX1_windOf_1 ++ []
def dkwX1_windOf_0 : List UInt8 := [3, 61, 28, 42, 180, 1, 206, 162, 0, 19, 42, 180, 0, 106, 28, 46, 27, 159, 0, 9, 132, 2, 1]
abbrev dktX1_windOf_0 : List UInt8 := dkwX1_windOf_0 ++ dktX1_windOf_1
theorem dksX1_windOf_0 : cX1_windOf.data.toList.drop 0 = dktX1_windOf_0 := by decide +kernel
theorem dksX1_windOf_1 : cX1_windOf.data.toList.drop 23 = dktX1_windOf_1 := dk_seg dksX1_windOf_0 23 rfl rfl
theorem dX1_windOf_0 : decode cX1_windOf 0 = .ok (.iconst 0, 1) := dk_3 (dk_at dksX1_windOf_0 0 rfl rfl)
theorem dX1_windOf_1 : decode cX1_windOf 1 = .ok (.istore_n 2, 1) := dk_61 (dk_at dksX1_windOf_0 1 rfl rfl)
theorem dX1_windOf_2 : decode cX1_windOf 2 = .ok (.iload_n 2, 1) := dk_28 (dk_at dksX1_windOf_0 2 rfl rfl)
theorem dX1_windOf_3 : decode cX1_windOf 3 = .ok (.aload_n 0, 1) := dk_42 (dk_at dksX1_windOf_0 3 rfl rfl)
theorem dX1_windOf_4 : decode cX1_windOf 4 = .ok (.getfield 462, 3) := dk_180 1 206 (dk_at dksX1_windOf_0 4 rfl rfl)
theorem dX1_windOf_7 : decode cX1_windOf 7 = .ok (.if_icmp .ge 19, 3) := dk_162 0 19 (dk_at dksX1_windOf_0 7 rfl rfl)
theorem dX1_windOf_10 : decode cX1_windOf 10 = .ok (.aload_n 0, 1) := dk_42 (dk_at dksX1_windOf_0 10 rfl rfl)
theorem dX1_windOf_11 : decode cX1_windOf 11 = .ok (.getfield 106, 3) := dk_180 0 106 (dk_at dksX1_windOf_0 11 rfl rfl)
theorem dX1_windOf_14 : decode cX1_windOf 14 = .ok (.iload_n 2, 1) := dk_28 (dk_at dksX1_windOf_0 14 rfl rfl)
theorem dX1_windOf_15 : decode cX1_windOf 15 = .ok (.iaload, 1) := dk_46 (dk_at dksX1_windOf_0 15 rfl rfl)
theorem dX1_windOf_16 : decode cX1_windOf 16 = .ok (.iload_n 1, 1) := dk_27 (dk_at dksX1_windOf_0 16 rfl rfl)
theorem dX1_windOf_17 : decode cX1_windOf 17 = .ok (.if_icmp .eq 9, 3) := dk_159 0 9 (dk_at dksX1_windOf_0 17 rfl rfl)
theorem dX1_windOf_20 : decode cX1_windOf 20 = .ok (.iinc 2 1, 3) := dk_132 2 1 (dk_at dksX1_windOf_0 20 rfl rfl)
theorem dX1_windOf_23 : decode cX1_windOf 23 = .ok (.goto (-21), 3) := dk_167 255 235 (dk_at dksX1_windOf_1 0 rfl rfl)
theorem dX1_windOf_26 : decode cX1_windOf 26 = .ok (.iload_n 2, 1) := dk_28 (dk_at dksX1_windOf_1 3 rfl rfl)
theorem dX1_windOf_27 : decode cX1_windOf 27 = .ok (.ireturn, 1) := dk_172 (dk_at dksX1_windOf_1 4 rfl rfl)
def dkwX1_trip_2 : List UInt8 := [4, 100, 172]
abbrev dktX1_trip_2 : List UInt8 := dkwX1_trip_2 ++ []
def dkwX1_trip_1 : List UInt8 := [42, 180, 0, 81, 187, 1, 212, 89, 45, 28, 183, 1, 218, 182, 1, 5, 87, 42, 180, 0, 81, 182, 0, 189]
abbrev dktX1_trip_1 : List UInt8 := dkwX1_trip_1 ++ dktX1_trip_2
def dkwX1_trip_0 : List UInt8 := [42, 27, 182, 1, 214, 78, 28, 184, 1, 196, 42, 180, 0, 81, 182, 0, 189, 16, 60, 160, 0, 5, 2, 172]
abbrev dktX1_trip_0 : List UInt8 := dkwX1_trip_0 ++ dktX1_trip_1
theorem dksX1_trip_0 : cX1_trip.data.toList.drop 0 = dktX1_trip_0 := by decide +kernel
theorem dksX1_trip_1 : cX1_trip.data.toList.drop 24 = dktX1_trip_1 := dk_seg dksX1_trip_0 24 rfl rfl
theorem dksX1_trip_2 : cX1_trip.data.toList.drop 48 = dktX1_trip_2 := dk_seg dksX1_trip_1 24 rfl rfl
theorem dX1_trip_0 : decode cX1_trip 0 = .ok (.aload_n 0, 1) := dk_42 (dk_at dksX1_trip_0 0 rfl rfl)
theorem dX1_trip_1 : decode cX1_trip 1 = .ok (.iload_n 1, 1) := dk_27 (dk_at dksX1_trip_0 1 rfl rfl)
theorem dX1_trip_2 : decode cX1_trip 2 = .ok (.invokevirtual 470, 3) := dk_182 1 214 (dk_at dksX1_trip_0 2 rfl rfl)
theorem dX1_trip_5 : decode cX1_trip 5 = .ok (.astore_n 3, 1) := dk_78 (dk_at dksX1_trip_0 5 rfl rfl)
theorem dX1_trip_6 : decode cX1_trip 6 = .ok (.iload_n 2, 1) := dk_28 (dk_at dksX1_trip_0 6 rfl rfl)
theorem dX1_trip_7 : decode cX1_trip 7 = .ok (.invokestatic 452, 3) := dk_184 1 196 (dk_at dksX1_trip_0 7 rfl rfl)
theorem dX1_trip_10 : decode cX1_trip 10 = .ok (.aload_n 0, 1) := dk_42 (dk_at dksX1_trip_0 10 rfl rfl)
theorem dX1_trip_11 : decode cX1_trip 11 = .ok (.getfield 81, 3) := dk_180 0 81 (dk_at dksX1_trip_0 11 rfl rfl)
theorem dX1_trip_14 : decode cX1_trip 14 = .ok (.invokevirtual 189, 3) := dk_182 0 189 (dk_at dksX1_trip_0 14 rfl rfl)
theorem dX1_trip_17 : decode cX1_trip 17 = .ok (.bipush 60, 2) := dk_16 60 (dk_at dksX1_trip_0 17 rfl rfl)
theorem dX1_trip_19 : decode cX1_trip 19 = .ok (.if_icmp .ne 5, 3) := dk_160 0 5 (dk_at dksX1_trip_0 19 rfl rfl)
theorem dX1_trip_22 : decode cX1_trip 22 = .ok (.iconst (-1), 1) := dk_2 (dk_at dksX1_trip_0 22 rfl rfl)
theorem dX1_trip_23 : decode cX1_trip 23 = .ok (.ireturn, 1) := dk_172 (dk_at dksX1_trip_0 23 rfl rfl)
theorem dX1_trip_24 : decode cX1_trip 24 = .ok (.aload_n 0, 1) := dk_42 (dk_at dksX1_trip_1 0 rfl rfl)
theorem dX1_trip_25 : decode cX1_trip 25 = .ok (.getfield 81, 3) := dk_180 0 81 (dk_at dksX1_trip_1 1 rfl rfl)
theorem dX1_trip_28 : decode cX1_trip 28 = .ok (.new 468, 3) := dk_187 1 212 (dk_at dksX1_trip_1 4 rfl rfl)
theorem dX1_trip_31 : decode cX1_trip 31 = .ok (.dup, 1) := dk_89 (dk_at dksX1_trip_1 7 rfl rfl)
theorem dX1_trip_32 : decode cX1_trip 32 = .ok (.aload_n 3, 1) := dk_45 (dk_at dksX1_trip_1 8 rfl rfl)
theorem dX1_trip_33 : decode cX1_trip 33 = .ok (.iload_n 2, 1) := dk_28 (dk_at dksX1_trip_1 9 rfl rfl)
theorem dX1_trip_34 : decode cX1_trip 34 = .ok (.invokespecial 474, 3) := dk_183 1 218 (dk_at dksX1_trip_1 10 rfl rfl)
theorem dX1_trip_37 : decode cX1_trip 37 = .ok (.invokevirtual 261, 3) := dk_182 1 5 (dk_at dksX1_trip_1 13 rfl rfl)
theorem dX1_trip_40 : decode cX1_trip 40 = .ok (.pop, 1) := dk_87 (dk_at dksX1_trip_1 16 rfl rfl)
theorem dX1_trip_41 : decode cX1_trip 41 = .ok (.aload_n 0, 1) := dk_42 (dk_at dksX1_trip_1 17 rfl rfl)
theorem dX1_trip_42 : decode cX1_trip 42 = .ok (.getfield 81, 3) := dk_180 0 81 (dk_at dksX1_trip_1 18 rfl rfl)
theorem dX1_trip_45 : decode cX1_trip 45 = .ok (.invokevirtual 189, 3) := dk_182 0 189 (dk_at dksX1_trip_1 21 rfl rfl)
theorem dX1_trip_48 : decode cX1_trip 48 = .ok (.iconst 1, 1) := dk_4 (dk_at dksX1_trip_2 0 rfl rfl)
theorem dX1_trip_49 : decode cX1_trip 49 = .ok (.isub, 1) := dk_100 (dk_at dksX1_trip_2 1 rfl rfl)
theorem dX1_trip_50 : decode cX1_trip 50 = .ok (.ireturn, 1) := dk_172 (dk_at dksX1_trip_2 2 rfl rfl)
def dkwX1_wireAt_1 : List UInt8 := [191, 42, 180, 0, 78, 27, 182, 0, 193, 192, 1, 203, 176]
abbrev dktX1_wireAt_1 : List UInt8 := dkwX1_wireAt_1 ++ []
def dkwX1_wireAt_0 : List UInt8 := [27, 3, 42, 180, 0, 78, 182, 0, 189, 4, 100, 184, 0, 163, 154, 0, 11, 187, 1, 9, 89, 183, 1, 11]
abbrev dktX1_wireAt_0 : List UInt8 := dkwX1_wireAt_0 ++ dktX1_wireAt_1
theorem dksX1_wireAt_0 : cX1_wireAt.data.toList.drop 0 = dktX1_wireAt_0 := by decide +kernel
theorem dksX1_wireAt_1 : cX1_wireAt.data.toList.drop 24 = dktX1_wireAt_1 := dk_seg dksX1_wireAt_0 24 rfl rfl
theorem dX1_wireAt_0 : decode cX1_wireAt 0 = .ok (.iload_n 1, 1) := dk_27 (dk_at dksX1_wireAt_0 0 rfl rfl)
theorem dX1_wireAt_1 : decode cX1_wireAt 1 = .ok (.iconst 0, 1) := dk_3 (dk_at dksX1_wireAt_0 1 rfl rfl)
theorem dX1_wireAt_2 : decode cX1_wireAt 2 = .ok (.aload_n 0, 1) := dk_42 (dk_at dksX1_wireAt_0 2 rfl rfl)
theorem dX1_wireAt_3 : decode cX1_wireAt 3 = .ok (.getfield 78, 3) := dk_180 0 78 (dk_at dksX1_wireAt_0 3 rfl rfl)
theorem dX1_wireAt_6 : decode cX1_wireAt 6 = .ok (.invokevirtual 189, 3) := dk_182 0 189 (dk_at dksX1_wireAt_0 6 rfl rfl)
theorem dX1_wireAt_9 : decode cX1_wireAt 9 = .ok (.iconst 1, 1) := dk_4 (dk_at dksX1_wireAt_0 9 rfl rfl)
theorem dX1_wireAt_10 : decode cX1_wireAt 10 = .ok (.isub, 1) := dk_100 (dk_at dksX1_wireAt_0 10 rfl rfl)
theorem dX1_wireAt_11 : decode cX1_wireAt 11 = .ok (.invokestatic 163, 3) := dk_184 0 163 (dk_at dksX1_wireAt_0 11 rfl rfl)
theorem dX1_wireAt_14 : decode cX1_wireAt 14 = .ok (.ifCond .ne 11, 3) := dk_154 0 11 (dk_at dksX1_wireAt_0 14 rfl rfl)
theorem dX1_wireAt_17 : decode cX1_wireAt 17 = .ok (.new 265, 3) := dk_187 1 9 (dk_at dksX1_wireAt_0 17 rfl rfl)
theorem dX1_wireAt_20 : decode cX1_wireAt 20 = .ok (.dup, 1) := dk_89 (dk_at dksX1_wireAt_0 20 rfl rfl)
theorem dX1_wireAt_21 : decode cX1_wireAt 21 = .ok (.invokespecial 267, 3) := dk_183 1 11 (dk_at dksX1_wireAt_0 21 rfl rfl)
theorem dX1_wireAt_24 : decode cX1_wireAt 24 = .ok (.athrow, 1) := dk_191 (dk_at dksX1_wireAt_1 0 rfl rfl)
theorem dX1_wireAt_25 : decode cX1_wireAt 25 = .ok (.aload_n 0, 1) := dk_42 (dk_at dksX1_wireAt_1 1 rfl rfl)
theorem dX1_wireAt_26 : decode cX1_wireAt 26 = .ok (.getfield 78, 3) := dk_180 0 78 (dk_at dksX1_wireAt_1 2 rfl rfl)
theorem dX1_wireAt_29 : decode cX1_wireAt 29 = .ok (.iload_n 1, 1) := dk_27 (dk_at dksX1_wireAt_1 5 rfl rfl)
theorem dX1_wireAt_30 : decode cX1_wireAt 30 = .ok (.invokevirtual 193, 3) := dk_182 0 193 (dk_at dksX1_wireAt_1 6 rfl rfl)
theorem dX1_wireAt_33 : decode cX1_wireAt 33 = .ok (.checkcast 459, 3) := dk_192 1 203 (dk_at dksX1_wireAt_1 9 rfl rfl)
theorem dX1_wireAt_36 : decode cX1_wireAt 36 = .ok (.areturn, 1) := dk_176 (dk_at dksX1_wireAt_1 12 rfl rfl)
def dkwX1_cause_0 : List UInt8 := [42, 42, 27, 182, 1, 235, 182, 1, 239, 172]
abbrev dktX1_cause_0 : List UInt8 := dkwX1_cause_0 ++ []
theorem dksX1_cause_0 : cX1_cause.data.toList.drop 0 = dktX1_cause_0 := by decide +kernel
theorem dX1_cause_0 : decode cX1_cause 0 = .ok (.aload_n 0, 1) := dk_42 (dk_at dksX1_cause_0 0 rfl rfl)
theorem dX1_cause_1 : decode cX1_cause 1 = .ok (.aload_n 0, 1) := dk_42 (dk_at dksX1_cause_0 1 rfl rfl)
theorem dX1_cause_2 : decode cX1_cause 2 = .ok (.iload_n 1, 1) := dk_27 (dk_at dksX1_cause_0 2 rfl rfl)
theorem dX1_cause_3 : decode cX1_cause 3 = .ok (.invokevirtual 491, 3) := dk_182 1 235 (dk_at dksX1_cause_0 3 rfl rfl)
theorem dX1_cause_6 : decode cX1_cause 6 = .ok (.invokevirtual 495, 3) := dk_182 1 239 (dk_at dksX1_cause_0 6 rfl rfl)
theorem dX1_cause_9 : decode cX1_cause 9 = .ok (.ireturn, 1) := dk_172 (dk_at dksX1_cause_0 9 rfl rfl)
def dkwX1_tripAt_1 : List UInt8 := [191, 42, 180, 0, 81, 27, 182, 0, 193, 192, 1, 212, 176]
abbrev dktX1_tripAt_1 : List UInt8 := dkwX1_tripAt_1 ++ []
def dkwX1_tripAt_0 : List UInt8 := [27, 3, 42, 180, 0, 81, 182, 0, 189, 4, 100, 184, 0, 163, 154, 0, 11, 187, 1, 9, 89, 183, 1, 11]
abbrev dktX1_tripAt_0 : List UInt8 := dkwX1_tripAt_0 ++ dktX1_tripAt_1
theorem dksX1_tripAt_0 : cX1_tripAt.data.toList.drop 0 = dktX1_tripAt_0 := by decide +kernel
theorem dksX1_tripAt_1 : cX1_tripAt.data.toList.drop 24 = dktX1_tripAt_1 := dk_seg dksX1_tripAt_0 24 rfl rfl
theorem dX1_tripAt_0 : decode cX1_tripAt 0 = .ok (.iload_n 1, 1) := dk_27 (dk_at dksX1_tripAt_0 0 rfl rfl)
theorem dX1_tripAt_1 : decode cX1_tripAt 1 = .ok (.iconst 0, 1) := dk_3 (dk_at dksX1_tripAt_0 1 rfl rfl)
theorem dX1_tripAt_2 : decode cX1_tripAt 2 = .ok (.aload_n 0, 1) := dk_42 (dk_at dksX1_tripAt_0 2 rfl rfl)
theorem dX1_tripAt_3 : decode cX1_tripAt 3 = .ok (.getfield 81, 3) := dk_180 0 81 (dk_at dksX1_tripAt_0 3 rfl rfl)
theorem dX1_tripAt_6 : decode cX1_tripAt 6 = .ok (.invokevirtual 189, 3) := dk_182 0 189 (dk_at dksX1_tripAt_0 6 rfl rfl)
theorem dX1_tripAt_9 : decode cX1_tripAt 9 = .ok (.iconst 1, 1) := dk_4 (dk_at dksX1_tripAt_0 9 rfl rfl)
theorem dX1_tripAt_10 : decode cX1_tripAt 10 = .ok (.isub, 1) := dk_100 (dk_at dksX1_tripAt_0 10 rfl rfl)
theorem dX1_tripAt_11 : decode cX1_tripAt 11 = .ok (.invokestatic 163, 3) := dk_184 0 163 (dk_at dksX1_tripAt_0 11 rfl rfl)
theorem dX1_tripAt_14 : decode cX1_tripAt 14 = .ok (.ifCond .ne 11, 3) := dk_154 0 11 (dk_at dksX1_tripAt_0 14 rfl rfl)
theorem dX1_tripAt_17 : decode cX1_tripAt 17 = .ok (.new 265, 3) := dk_187 1 9 (dk_at dksX1_tripAt_0 17 rfl rfl)
theorem dX1_tripAt_20 : decode cX1_tripAt 20 = .ok (.dup, 1) := dk_89 (dk_at dksX1_tripAt_0 20 rfl rfl)
theorem dX1_tripAt_21 : decode cX1_tripAt 21 = .ok (.invokespecial 267, 3) := dk_183 1 11 (dk_at dksX1_tripAt_0 21 rfl rfl)
theorem dX1_tripAt_24 : decode cX1_tripAt 24 = .ok (.athrow, 1) := dk_191 (dk_at dksX1_tripAt_1 0 rfl rfl)
theorem dX1_tripAt_25 : decode cX1_tripAt 25 = .ok (.aload_n 0, 1) := dk_42 (dk_at dksX1_tripAt_1 1 rfl rfl)
theorem dX1_tripAt_26 : decode cX1_tripAt 26 = .ok (.getfield 81, 3) := dk_180 0 81 (dk_at dksX1_tripAt_1 2 rfl rfl)
theorem dX1_tripAt_29 : decode cX1_tripAt 29 = .ok (.iload_n 1, 1) := dk_27 (dk_at dksX1_tripAt_1 5 rfl rfl)
theorem dX1_tripAt_30 : decode cX1_tripAt 30 = .ok (.invokevirtual 193, 3) := dk_182 0 193 (dk_at dksX1_tripAt_1 6 rfl rfl)
theorem dX1_tripAt_33 : decode cX1_tripAt 33 = .ok (.checkcast 468, 3) := dk_192 1 212 (dk_at dksX1_tripAt_1 9 rfl rfl)
theorem dX1_tripAt_36 : decode cX1_tripAt 36 = .ok (.areturn, 1) := dk_176 (dk_at dksX1_tripAt_1 12 rfl rfl)
def dkwX1_causeOf_5 : List UInt8 := [3, 54, 4, 28, 153, 0, 7, 4, 167, 0, 4, 3, 21, 4, 153, 0, 7, 5, 167, 0, 4, 3, 96, 172]
abbrev dktX1_causeOf_5 : List UInt8 := dkwX1_causeOf_5 ++ []
def dkwX1_causeOf_4 : List UInt8 := [42, 180, 0, 109, 29, 46, 167, 0, 4, 3, 43, 180, 1, 223, 180, 1, 232, 161, 0, 7, 4, 167, 0, 4]
abbrev dktX1_causeOf_4 : List UInt8 := dkwX1_causeOf_4 ++ dktX1_causeOf_5
def dkwX1_causeOf_3 : List UInt8 := [61, 132, 3, 1, 167, 255, 185, 42, 43, 180, 1, 221, 182, 1, 209, 62, 29, 42, 180, 1, 206, 162, 0, 12]
abbrev dktX1_causeOf_3 : List UInt8 := dkwX1_causeOf_3 ++ dktX1_causeOf_4
def dkwX1_causeOf_2 : List UInt8 := [154, 0, 18, 42, 180, 0, 140, 43, 180, 1, 223, 180, 1, 230, 51, 153, 0, 7, 4, 167, 0, 4, 3, 128]
abbrev dktX1_causeOf_2 : List UInt8 := dkwX1_causeOf_2 ++ dktX1_causeOf_3
def dkwX1_causeOf_1 : List UInt8 := [192, 0, 197, 43, 180, 1, 221, 182, 1, 199, 28, 42, 180, 0, 140, 43, 180, 1, 223, 180, 1, 227, 51]
abbrev dktX1_causeOf_1 : List UInt8 := dkwX1_causeOf_1 ++ dktX1_causeOf_2
def dkwX1_causeOf_0 : List UInt8 := [3, 61, 3, 62, 29, 42, 180, 0, 71, 182, 0, 189, 162, 0, 66, 42, 42, 180, 0, 71, 29, 182, 0, 193]
abbrev dktX1_causeOf_0 : List UInt8 := dkwX1_causeOf_0 ++ dktX1_causeOf_1
theorem dksX1_causeOf_0 : cX1_causeOf.data.toList.drop 0 = dktX1_causeOf_0 := by decide +kernel
theorem dksX1_causeOf_1 : cX1_causeOf.data.toList.drop 24 = dktX1_causeOf_1 := dk_seg dksX1_causeOf_0 24 rfl rfl
theorem dksX1_causeOf_2 : cX1_causeOf.data.toList.drop 47 = dktX1_causeOf_2 := dk_seg dksX1_causeOf_1 23 rfl rfl
theorem dksX1_causeOf_3 : cX1_causeOf.data.toList.drop 71 = dktX1_causeOf_3 := dk_seg dksX1_causeOf_2 24 rfl rfl
theorem dksX1_causeOf_4 : cX1_causeOf.data.toList.drop 95 = dktX1_causeOf_4 := dk_seg dksX1_causeOf_3 24 rfl rfl
theorem dksX1_causeOf_5 : cX1_causeOf.data.toList.drop 119 = dktX1_causeOf_5 := dk_seg dksX1_causeOf_4 24 rfl rfl
theorem dX1_causeOf_0 : decode cX1_causeOf 0 = .ok (.iconst 0, 1) := dk_3 (dk_at dksX1_causeOf_0 0 rfl rfl)
theorem dX1_causeOf_1 : decode cX1_causeOf 1 = .ok (.istore_n 2, 1) := dk_61 (dk_at dksX1_causeOf_0 1 rfl rfl)
theorem dX1_causeOf_2 : decode cX1_causeOf 2 = .ok (.iconst 0, 1) := dk_3 (dk_at dksX1_causeOf_0 2 rfl rfl)
theorem dX1_causeOf_3 : decode cX1_causeOf 3 = .ok (.istore_n 3, 1) := dk_62 (dk_at dksX1_causeOf_0 3 rfl rfl)
theorem dX1_causeOf_4 : decode cX1_causeOf 4 = .ok (.iload_n 3, 1) := dk_29 (dk_at dksX1_causeOf_0 4 rfl rfl)
theorem dX1_causeOf_5 : decode cX1_causeOf 5 = .ok (.aload_n 0, 1) := dk_42 (dk_at dksX1_causeOf_0 5 rfl rfl)
theorem dX1_causeOf_6 : decode cX1_causeOf 6 = .ok (.getfield 71, 3) := dk_180 0 71 (dk_at dksX1_causeOf_0 6 rfl rfl)
theorem dX1_causeOf_9 : decode cX1_causeOf 9 = .ok (.invokevirtual 189, 3) := dk_182 0 189 (dk_at dksX1_causeOf_0 9 rfl rfl)
theorem dX1_causeOf_12 : decode cX1_causeOf 12 = .ok (.if_icmp .ge 66, 3) := dk_162 0 66 (dk_at dksX1_causeOf_0 12 rfl rfl)
theorem dX1_causeOf_15 : decode cX1_causeOf 15 = .ok (.aload_n 0, 1) := dk_42 (dk_at dksX1_causeOf_0 15 rfl rfl)
theorem dX1_causeOf_16 : decode cX1_causeOf 16 = .ok (.aload_n 0, 1) := dk_42 (dk_at dksX1_causeOf_0 16 rfl rfl)
theorem dX1_causeOf_17 : decode cX1_causeOf 17 = .ok (.getfield 71, 3) := dk_180 0 71 (dk_at dksX1_causeOf_0 17 rfl rfl)
theorem dX1_causeOf_20 : decode cX1_causeOf 20 = .ok (.iload_n 3, 1) := dk_29 (dk_at dksX1_causeOf_0 20 rfl rfl)
theorem dX1_causeOf_21 : decode cX1_causeOf 21 = .ok (.invokevirtual 193, 3) := dk_182 0 193 (dk_at dksX1_causeOf_0 21 rfl rfl)
theorem dX1_causeOf_24 : decode cX1_causeOf 24 = .ok (.checkcast 197, 3) := dk_192 0 197 (dk_at dksX1_causeOf_1 0 rfl rfl)
theorem dX1_causeOf_27 : decode cX1_causeOf 27 = .ok (.aload_n 1, 1) := dk_43 (dk_at dksX1_causeOf_1 3 rfl rfl)
theorem dX1_causeOf_28 : decode cX1_causeOf 28 = .ok (.getfield 477, 3) := dk_180 1 221 (dk_at dksX1_causeOf_1 4 rfl rfl)
theorem dX1_causeOf_31 : decode cX1_causeOf 31 = .ok (.invokevirtual 455, 3) := dk_182 1 199 (dk_at dksX1_causeOf_1 7 rfl rfl)
theorem dX1_causeOf_34 : decode cX1_causeOf 34 = .ok (.iload_n 2, 1) := dk_28 (dk_at dksX1_causeOf_1 10 rfl rfl)
theorem dX1_causeOf_35 : decode cX1_causeOf 35 = .ok (.aload_n 0, 1) := dk_42 (dk_at dksX1_causeOf_1 11 rfl rfl)
theorem dX1_causeOf_36 : decode cX1_causeOf 36 = .ok (.getfield 140, 3) := dk_180 0 140 (dk_at dksX1_causeOf_1 12 rfl rfl)
theorem dX1_causeOf_39 : decode cX1_causeOf 39 = .ok (.aload_n 1, 1) := dk_43 (dk_at dksX1_causeOf_1 15 rfl rfl)
theorem dX1_causeOf_40 : decode cX1_causeOf 40 = .ok (.getfield 479, 3) := dk_180 1 223 (dk_at dksX1_causeOf_1 16 rfl rfl)
theorem dX1_causeOf_43 : decode cX1_causeOf 43 = .ok (.getfield 483, 3) := dk_180 1 227 (dk_at dksX1_causeOf_1 19 rfl rfl)
theorem dX1_causeOf_46 : decode cX1_causeOf 46 = .ok (.baload, 1) := dk_51 (dk_at dksX1_causeOf_1 22 rfl rfl)
theorem dX1_causeOf_47 : decode cX1_causeOf 47 = .ok (.ifCond .ne 18, 3) := dk_154 0 18 (dk_at dksX1_causeOf_2 0 rfl rfl)
theorem dX1_causeOf_50 : decode cX1_causeOf 50 = .ok (.aload_n 0, 1) := dk_42 (dk_at dksX1_causeOf_2 3 rfl rfl)
theorem dX1_causeOf_51 : decode cX1_causeOf 51 = .ok (.getfield 140, 3) := dk_180 0 140 (dk_at dksX1_causeOf_2 4 rfl rfl)
theorem dX1_causeOf_54 : decode cX1_causeOf 54 = .ok (.aload_n 1, 1) := dk_43 (dk_at dksX1_causeOf_2 7 rfl rfl)
theorem dX1_causeOf_55 : decode cX1_causeOf 55 = .ok (.getfield 479, 3) := dk_180 1 223 (dk_at dksX1_causeOf_2 8 rfl rfl)
theorem dX1_causeOf_58 : decode cX1_causeOf 58 = .ok (.getfield 486, 3) := dk_180 1 230 (dk_at dksX1_causeOf_2 11 rfl rfl)
theorem dX1_causeOf_61 : decode cX1_causeOf 61 = .ok (.baload, 1) := dk_51 (dk_at dksX1_causeOf_2 14 rfl rfl)
theorem dX1_causeOf_62 : decode cX1_causeOf 62 = .ok (.ifCond .eq 7, 3) := dk_153 0 7 (dk_at dksX1_causeOf_2 15 rfl rfl)
theorem dX1_causeOf_65 : decode cX1_causeOf 65 = .ok (.iconst 1, 1) := dk_4 (dk_at dksX1_causeOf_2 18 rfl rfl)
theorem dX1_causeOf_66 : decode cX1_causeOf 66 = .ok (.goto 4, 3) := dk_167 0 4 (dk_at dksX1_causeOf_2 19 rfl rfl)
theorem dX1_causeOf_69 : decode cX1_causeOf 69 = .ok (.iconst 0, 1) := dk_3 (dk_at dksX1_causeOf_2 22 rfl rfl)
theorem dX1_causeOf_70 : decode cX1_causeOf 70 = .ok (.ior, 1) := dk_128 (dk_at dksX1_causeOf_2 23 rfl rfl)
theorem dX1_causeOf_71 : decode cX1_causeOf 71 = .ok (.istore_n 2, 1) := dk_61 (dk_at dksX1_causeOf_3 0 rfl rfl)
theorem dX1_causeOf_72 : decode cX1_causeOf 72 = .ok (.iinc 3 1, 3) := dk_132 3 1 (dk_at dksX1_causeOf_3 1 rfl rfl)
theorem dX1_causeOf_75 : decode cX1_causeOf 75 = .ok (.goto (-71), 3) := dk_167 255 185 (dk_at dksX1_causeOf_3 4 rfl rfl)
theorem dX1_causeOf_78 : decode cX1_causeOf 78 = .ok (.aload_n 0, 1) := dk_42 (dk_at dksX1_causeOf_3 7 rfl rfl)
theorem dX1_causeOf_79 : decode cX1_causeOf 79 = .ok (.aload_n 1, 1) := dk_43 (dk_at dksX1_causeOf_3 8 rfl rfl)
theorem dX1_causeOf_80 : decode cX1_causeOf 80 = .ok (.getfield 477, 3) := dk_180 1 221 (dk_at dksX1_causeOf_3 9 rfl rfl)
theorem dX1_causeOf_83 : decode cX1_causeOf 83 = .ok (.invokevirtual 465, 3) := dk_182 1 209 (dk_at dksX1_causeOf_3 12 rfl rfl)
theorem dX1_causeOf_86 : decode cX1_causeOf 86 = .ok (.istore_n 3, 1) := dk_62 (dk_at dksX1_causeOf_3 15 rfl rfl)
theorem dX1_causeOf_87 : decode cX1_causeOf 87 = .ok (.iload_n 3, 1) := dk_29 (dk_at dksX1_causeOf_3 16 rfl rfl)
theorem dX1_causeOf_88 : decode cX1_causeOf 88 = .ok (.aload_n 0, 1) := dk_42 (dk_at dksX1_causeOf_3 17 rfl rfl)
theorem dX1_causeOf_89 : decode cX1_causeOf 89 = .ok (.getfield 462, 3) := dk_180 1 206 (dk_at dksX1_causeOf_3 18 rfl rfl)
theorem dX1_causeOf_92 : decode cX1_causeOf 92 = .ok (.if_icmp .ge 12, 3) := dk_162 0 12 (dk_at dksX1_causeOf_3 21 rfl rfl)
theorem dX1_causeOf_95 : decode cX1_causeOf 95 = .ok (.aload_n 0, 1) := dk_42 (dk_at dksX1_causeOf_4 0 rfl rfl)
theorem dX1_causeOf_96 : decode cX1_causeOf 96 = .ok (.getfield 109, 3) := dk_180 0 109 (dk_at dksX1_causeOf_4 1 rfl rfl)
theorem dX1_causeOf_99 : decode cX1_causeOf 99 = .ok (.iload_n 3, 1) := dk_29 (dk_at dksX1_causeOf_4 4 rfl rfl)
theorem dX1_causeOf_100 : decode cX1_causeOf 100 = .ok (.iaload, 1) := dk_46 (dk_at dksX1_causeOf_4 5 rfl rfl)
theorem dX1_causeOf_101 : decode cX1_causeOf 101 = .ok (.goto 4, 3) := dk_167 0 4 (dk_at dksX1_causeOf_4 6 rfl rfl)
theorem dX1_causeOf_104 : decode cX1_causeOf 104 = .ok (.iconst 0, 1) := dk_3 (dk_at dksX1_causeOf_4 9 rfl rfl)
theorem dX1_causeOf_105 : decode cX1_causeOf 105 = .ok (.aload_n 1, 1) := dk_43 (dk_at dksX1_causeOf_4 10 rfl rfl)
theorem dX1_causeOf_106 : decode cX1_causeOf 106 = .ok (.getfield 479, 3) := dk_180 1 223 (dk_at dksX1_causeOf_4 11 rfl rfl)
theorem dX1_causeOf_109 : decode cX1_causeOf 109 = .ok (.getfield 488, 3) := dk_180 1 232 (dk_at dksX1_causeOf_4 14 rfl rfl)
theorem dX1_causeOf_112 : decode cX1_causeOf 112 = .ok (.if_icmp .lt 7, 3) := dk_161 0 7 (dk_at dksX1_causeOf_4 17 rfl rfl)
theorem dX1_causeOf_115 : decode cX1_causeOf 115 = .ok (.iconst 1, 1) := dk_4 (dk_at dksX1_causeOf_4 20 rfl rfl)
theorem dX1_causeOf_116 : decode cX1_causeOf 116 = .ok (.goto 4, 3) := dk_167 0 4 (dk_at dksX1_causeOf_4 21 rfl rfl)
theorem dX1_causeOf_119 : decode cX1_causeOf 119 = .ok (.iconst 0, 1) := dk_3 (dk_at dksX1_causeOf_5 0 rfl rfl)
theorem dX1_causeOf_120 : decode cX1_causeOf 120 = .ok (.istore 4, 2) := dk_54 4 (dk_at dksX1_causeOf_5 1 rfl rfl)
theorem dX1_causeOf_122 : decode cX1_causeOf 122 = .ok (.iload_n 2, 1) := dk_28 (dk_at dksX1_causeOf_5 3 rfl rfl)
theorem dX1_causeOf_123 : decode cX1_causeOf 123 = .ok (.ifCond .eq 7, 3) := dk_153 0 7 (dk_at dksX1_causeOf_5 4 rfl rfl)
theorem dX1_causeOf_126 : decode cX1_causeOf 126 = .ok (.iconst 1, 1) := dk_4 (dk_at dksX1_causeOf_5 7 rfl rfl)
theorem dX1_causeOf_127 : decode cX1_causeOf 127 = .ok (.goto 4, 3) := dk_167 0 4 (dk_at dksX1_causeOf_5 8 rfl rfl)
theorem dX1_causeOf_130 : decode cX1_causeOf 130 = .ok (.iconst 0, 1) := dk_3 (dk_at dksX1_causeOf_5 11 rfl rfl)
theorem dX1_causeOf_131 : decode cX1_causeOf 131 = .ok (.iload 4, 2) := dk_21 4 (dk_at dksX1_causeOf_5 12 rfl rfl)
theorem dX1_causeOf_133 : decode cX1_causeOf 133 = .ok (.ifCond .eq 7, 3) := dk_153 0 7 (dk_at dksX1_causeOf_5 14 rfl rfl)
theorem dX1_causeOf_136 : decode cX1_causeOf 136 = .ok (.iconst 2, 1) := dk_5 (dk_at dksX1_causeOf_5 17 rfl rfl)
theorem dX1_causeOf_137 : decode cX1_causeOf 137 = .ok (.goto 4, 3) := dk_167 0 4 (dk_at dksX1_causeOf_5 18 rfl rfl)
theorem dX1_causeOf_140 : decode cX1_causeOf 140 = .ok (.iconst 0, 1) := dk_3 (dk_at dksX1_causeOf_5 21 rfl rfl)
theorem dX1_causeOf_141 : decode cX1_causeOf 141 = .ok (.iadd, 1) := dk_96 (dk_at dksX1_causeOf_5 22 rfl rfl)
theorem dX1_causeOf_142 : decode cX1_causeOf 142 = .ok (.ireturn, 1) := dk_172 (dk_at dksX1_causeOf_5 23 rfl rfl)
def dkwX1_causes_4 : List UInt8 := [167, 255, 192, 21, 4, 172]
abbrev dktX1_causes_4 : List UInt8 := dkwX1_causes_4 ++ []
def dkwX1_causes_3 : List UInt8 := [182, 0, 193, 192, 1, 212, 182, 1, 239, 28, 160, 0, 7, 4, 167, 0, 4, 3, 96, 54, 4, 132, 5, 1]
abbrev dktX1_causes_3 : List UInt8 := dkwX1_causes_3 ++ dktX1_causes_4
def dkwX1_causes_2 : List UInt8 := [21, 5, 182, 0, 193, 192, 1, 212, 180, 1, 223, 45, 166, 0, 27, 42, 42, 180, 0, 81, 21, 5]
abbrev dktX1_causes_2 : List UInt8 := dkwX1_causes_2 ++ dktX1_causes_3
def dkwX1_causes_1 : List UInt8 := [54, 4, 3, 54, 5, 21, 5, 42, 180, 0, 81, 182, 0, 189, 162, 0, 58, 21, 4, 42, 180, 0, 81]
abbrev dktX1_causes_1 : List UInt8 := dkwX1_causes_1 ++ dktX1_causes_2
def dkwX1_causes_0 : List UInt8 := [42, 27, 182, 1, 214, 78, 28, 3, 6, 184, 0, 163, 154, 0, 7, 4, 167, 0, 4, 3, 184, 0, 178, 3]
abbrev dktX1_causes_0 : List UInt8 := dkwX1_causes_0 ++ dktX1_causes_1
theorem dksX1_causes_0 : cX1_causes.data.toList.drop 0 = dktX1_causes_0 := by decide +kernel
theorem dksX1_causes_1 : cX1_causes.data.toList.drop 24 = dktX1_causes_1 := dk_seg dksX1_causes_0 24 rfl rfl
theorem dksX1_causes_2 : cX1_causes.data.toList.drop 47 = dktX1_causes_2 := dk_seg dksX1_causes_1 23 rfl rfl
theorem dksX1_causes_3 : cX1_causes.data.toList.drop 69 = dktX1_causes_3 := dk_seg dksX1_causes_2 22 rfl rfl
theorem dksX1_causes_4 : cX1_causes.data.toList.drop 93 = dktX1_causes_4 := dk_seg dksX1_causes_3 24 rfl rfl
theorem dX1_causes_0 : decode cX1_causes 0 = .ok (.aload_n 0, 1) := dk_42 (dk_at dksX1_causes_0 0 rfl rfl)
theorem dX1_causes_1 : decode cX1_causes 1 = .ok (.iload_n 1, 1) := dk_27 (dk_at dksX1_causes_0 1 rfl rfl)
theorem dX1_causes_2 : decode cX1_causes 2 = .ok (.invokevirtual 470, 3) := dk_182 1 214 (dk_at dksX1_causes_0 2 rfl rfl)
theorem dX1_causes_5 : decode cX1_causes 5 = .ok (.astore_n 3, 1) := dk_78 (dk_at dksX1_causes_0 5 rfl rfl)
theorem dX1_causes_6 : decode cX1_causes 6 = .ok (.iload_n 2, 1) := dk_28 (dk_at dksX1_causes_0 6 rfl rfl)
theorem dX1_causes_7 : decode cX1_causes 7 = .ok (.iconst 0, 1) := dk_3 (dk_at dksX1_causes_0 7 rfl rfl)
theorem dX1_causes_8 : decode cX1_causes 8 = .ok (.iconst 3, 1) := dk_6 (dk_at dksX1_causes_0 8 rfl rfl)
theorem dX1_causes_9 : decode cX1_causes 9 = .ok (.invokestatic 163, 3) := dk_184 0 163 (dk_at dksX1_causes_0 9 rfl rfl)
theorem dX1_causes_12 : decode cX1_causes 12 = .ok (.ifCond .ne 7, 3) := dk_154 0 7 (dk_at dksX1_causes_0 12 rfl rfl)
theorem dX1_causes_15 : decode cX1_causes 15 = .ok (.iconst 1, 1) := dk_4 (dk_at dksX1_causes_0 15 rfl rfl)
theorem dX1_causes_16 : decode cX1_causes 16 = .ok (.goto 4, 3) := dk_167 0 4 (dk_at dksX1_causes_0 16 rfl rfl)
theorem dX1_causes_19 : decode cX1_causes 19 = .ok (.iconst 0, 1) := dk_3 (dk_at dksX1_causes_0 19 rfl rfl)
theorem dX1_causes_20 : decode cX1_causes 20 = .ok (.invokestatic 178, 3) := dk_184 0 178 (dk_at dksX1_causes_0 20 rfl rfl)
theorem dX1_causes_23 : decode cX1_causes 23 = .ok (.iconst 0, 1) := dk_3 (dk_at dksX1_causes_0 23 rfl rfl)
theorem dX1_causes_24 : decode cX1_causes 24 = .ok (.istore 4, 2) := dk_54 4 (dk_at dksX1_causes_1 0 rfl rfl)
theorem dX1_causes_26 : decode cX1_causes 26 = .ok (.iconst 0, 1) := dk_3 (dk_at dksX1_causes_1 2 rfl rfl)
theorem dX1_causes_27 : decode cX1_causes 27 = .ok (.istore 5, 2) := dk_54 5 (dk_at dksX1_causes_1 3 rfl rfl)
theorem dX1_causes_29 : decode cX1_causes 29 = .ok (.iload 5, 2) := dk_21 5 (dk_at dksX1_causes_1 5 rfl rfl)
theorem dX1_causes_31 : decode cX1_causes 31 = .ok (.aload_n 0, 1) := dk_42 (dk_at dksX1_causes_1 7 rfl rfl)
theorem dX1_causes_32 : decode cX1_causes 32 = .ok (.getfield 81, 3) := dk_180 0 81 (dk_at dksX1_causes_1 8 rfl rfl)
theorem dX1_causes_35 : decode cX1_causes 35 = .ok (.invokevirtual 189, 3) := dk_182 0 189 (dk_at dksX1_causes_1 11 rfl rfl)
theorem dX1_causes_38 : decode cX1_causes 38 = .ok (.if_icmp .ge 58, 3) := dk_162 0 58 (dk_at dksX1_causes_1 14 rfl rfl)
theorem dX1_causes_41 : decode cX1_causes 41 = .ok (.iload 4, 2) := dk_21 4 (dk_at dksX1_causes_1 17 rfl rfl)
theorem dX1_causes_43 : decode cX1_causes 43 = .ok (.aload_n 0, 1) := dk_42 (dk_at dksX1_causes_1 19 rfl rfl)
theorem dX1_causes_44 : decode cX1_causes 44 = .ok (.getfield 81, 3) := dk_180 0 81 (dk_at dksX1_causes_1 20 rfl rfl)
theorem dX1_causes_47 : decode cX1_causes 47 = .ok (.iload 5, 2) := dk_21 5 (dk_at dksX1_causes_2 0 rfl rfl)
theorem dX1_causes_49 : decode cX1_causes 49 = .ok (.invokevirtual 193, 3) := dk_182 0 193 (dk_at dksX1_causes_2 2 rfl rfl)
theorem dX1_causes_52 : decode cX1_causes 52 = .ok (.checkcast 468, 3) := dk_192 1 212 (dk_at dksX1_causes_2 5 rfl rfl)
theorem dX1_causes_55 : decode cX1_causes 55 = .ok (.getfield 479, 3) := dk_180 1 223 (dk_at dksX1_causes_2 8 rfl rfl)
theorem dX1_causes_58 : decode cX1_causes 58 = .ok (.aload_n 3, 1) := dk_45 (dk_at dksX1_causes_2 11 rfl rfl)
theorem dX1_causes_59 : decode cX1_causes 59 = .ok (.if_acmp .ne 27, 3) := dk_166 0 27 (dk_at dksX1_causes_2 12 rfl rfl)
theorem dX1_causes_62 : decode cX1_causes 62 = .ok (.aload_n 0, 1) := dk_42 (dk_at dksX1_causes_2 15 rfl rfl)
theorem dX1_causes_63 : decode cX1_causes 63 = .ok (.aload_n 0, 1) := dk_42 (dk_at dksX1_causes_2 16 rfl rfl)
theorem dX1_causes_64 : decode cX1_causes 64 = .ok (.getfield 81, 3) := dk_180 0 81 (dk_at dksX1_causes_2 17 rfl rfl)
theorem dX1_causes_67 : decode cX1_causes 67 = .ok (.iload 5, 2) := dk_21 5 (dk_at dksX1_causes_2 20 rfl rfl)
theorem dX1_causes_69 : decode cX1_causes 69 = .ok (.invokevirtual 193, 3) := dk_182 0 193 (dk_at dksX1_causes_3 0 rfl rfl)
theorem dX1_causes_72 : decode cX1_causes 72 = .ok (.checkcast 468, 3) := dk_192 1 212 (dk_at dksX1_causes_3 3 rfl rfl)
theorem dX1_causes_75 : decode cX1_causes 75 = .ok (.invokevirtual 495, 3) := dk_182 1 239 (dk_at dksX1_causes_3 6 rfl rfl)
theorem dX1_causes_78 : decode cX1_causes 78 = .ok (.iload_n 2, 1) := dk_28 (dk_at dksX1_causes_3 9 rfl rfl)
theorem dX1_causes_79 : decode cX1_causes 79 = .ok (.if_icmp .ne 7, 3) := dk_160 0 7 (dk_at dksX1_causes_3 10 rfl rfl)
theorem dX1_causes_82 : decode cX1_causes 82 = .ok (.iconst 1, 1) := dk_4 (dk_at dksX1_causes_3 13 rfl rfl)
theorem dX1_causes_83 : decode cX1_causes 83 = .ok (.goto 4, 3) := dk_167 0 4 (dk_at dksX1_causes_3 14 rfl rfl)
theorem dX1_causes_86 : decode cX1_causes 86 = .ok (.iconst 0, 1) := dk_3 (dk_at dksX1_causes_3 17 rfl rfl)
theorem dX1_causes_87 : decode cX1_causes 87 = .ok (.iadd, 1) := dk_96 (dk_at dksX1_causes_3 18 rfl rfl)
theorem dX1_causes_88 : decode cX1_causes 88 = .ok (.istore 4, 2) := dk_54 4 (dk_at dksX1_causes_3 19 rfl rfl)
theorem dX1_causes_90 : decode cX1_causes 90 = .ok (.iinc 5 1, 3) := dk_132 5 1 (dk_at dksX1_causes_3 21 rfl rfl)
theorem dX1_causes_93 : decode cX1_causes 93 = .ok (.goto (-64), 3) := dk_167 255 192 (dk_at dksX1_causes_4 0 rfl rfl)
theorem dX1_causes_96 : decode cX1_causes 96 = .ok (.iload 4, 2) := dk_21 4 (dk_at dksX1_causes_4 3 rfl rfl)
theorem dX1_causes_98 : decode cX1_causes 98 = .ok (.ireturn, 1) := dk_172 (dk_at dksX1_causes_4 5 rfl rfl)
def dkwX1_called_10 : List UInt8 := [167, 255, 154, 2, 172]
abbrev dktX1_called_10 : List UInt8 := dkwX1_called_10 ++ []
def dkwX1_called_9 : List UInt8 := [160, 0, 19, 42, 180, 0, 118, 21, 4, 46, 19, 1, 26, 162, 0, 6, 21, 4, 172, 132, 4, 1]
abbrev dktX1_called_9 : List UInt8 := dkwX1_called_9 ++ dktX1_called_10
def dkwX1_called_8 : List UInt8 := [21, 4, 162, 0, 7, 4, 167, 0, 4, 3, 96, 54, 5, 132, 6, 1, 167, 255, 195, 21, 5, 28]
abbrev dktX1_called_8 : List UInt8 := dkwX1_called_8 ++ dktX1_called_9
def dkwX1_called_7 : List UInt8 := [46, 161, 0, 27, 42, 180, 0, 118, 21, 6, 46, 42, 180, 0, 118, 21, 4, 46, 160, 0, 14, 21, 6]
abbrev dktX1_called_7 : List UInt8 := dkwX1_called_7 ++ dktX1_called_8
def dkwX1_called_6 : List UInt8 := [54, 6, 21, 6, 16, 10, 162, 0, 60, 21, 5, 42, 180, 0, 118, 21, 6, 46, 42, 180, 0, 118, 21, 4]
abbrev dktX1_called_6 : List UInt8 := dkwX1_called_6 ++ dktX1_called_7
def dkwX1_called_5 : List UInt8 := [184, 1, 55, 79, 132, 4, 1, 167, 255, 169, 3, 54, 4, 21, 4, 16, 10, 162, 0, 101, 3, 54, 5, 3]
abbrev dktX1_called_5 : List UInt8 := dkwX1_called_5 ++ dktX1_called_6
def dkwX1_called_4 : List UInt8 := [184, 1, 243, 184, 1, 55, 54, 6, 42, 180, 0, 118, 21, 5, 42, 180, 0, 118, 21, 5, 46, 21, 6]
abbrev dktX1_called_4 : List UInt8 := dkwX1_called_4 ++ dktX1_called_5
def dkwX1_called_3 : List UInt8 := [54, 5, 21, 4, 45, 180, 1, 223, 180, 1, 227, 184, 1, 243, 21, 4, 45, 180, 1, 223, 180, 1, 230]
abbrev dktX1_called_3 : List UInt8 := dkwX1_called_3 ++ dktX1_called_4
def dkwX1_called_2 : List UInt8 := [180, 0, 183, 21, 4, 46, 5, 159, 0, 6, 167, 0, 63, 42, 180, 0, 44, 180, 0, 222, 21, 4, 46]
abbrev dktX1_called_2 : List UInt8 := dkwX1_called_2 ++ dktX1_called_3
def dkwX1_called_1 : List UInt8 := [19, 1, 26, 79, 132, 4, 1, 167, 255, 236, 3, 54, 4, 21, 4, 16, 64, 162, 0, 86, 42, 180, 0, 44]
abbrev dktX1_called_1 : List UInt8 := dkwX1_called_1 ++ dktX1_called_2
def dkwX1_called_0 : List UInt8 := [42, 27, 182, 1, 235, 78, 3, 54, 4, 21, 4, 16, 10, 162, 0, 19, 42, 180, 0, 118, 21, 4]
abbrev dktX1_called_0 : List UInt8 := dkwX1_called_0 ++ dktX1_called_1
theorem dksX1_called_0 : cX1_called.data.toList.drop 0 = dktX1_called_0 := by decide +kernel
theorem dksX1_called_1 : cX1_called.data.toList.drop 22 = dktX1_called_1 := dk_seg dksX1_called_0 22 rfl rfl
theorem dksX1_called_2 : cX1_called.data.toList.drop 46 = dktX1_called_2 := dk_seg dksX1_called_1 24 rfl rfl
theorem dksX1_called_3 : cX1_called.data.toList.drop 69 = dktX1_called_3 := dk_seg dksX1_called_2 23 rfl rfl
theorem dksX1_called_4 : cX1_called.data.toList.drop 92 = dktX1_called_4 := dk_seg dksX1_called_3 23 rfl rfl
theorem dksX1_called_5 : cX1_called.data.toList.drop 115 = dktX1_called_5 := dk_seg dksX1_called_4 23 rfl rfl
theorem dksX1_called_6 : cX1_called.data.toList.drop 139 = dktX1_called_6 := dk_seg dksX1_called_5 24 rfl rfl
theorem dksX1_called_7 : cX1_called.data.toList.drop 163 = dktX1_called_7 := dk_seg dksX1_called_6 24 rfl rfl
theorem dksX1_called_8 : cX1_called.data.toList.drop 186 = dktX1_called_8 := dk_seg dksX1_called_7 23 rfl rfl
theorem dksX1_called_9 : cX1_called.data.toList.drop 208 = dktX1_called_9 := dk_seg dksX1_called_8 22 rfl rfl
theorem dksX1_called_10 : cX1_called.data.toList.drop 230 = dktX1_called_10 := dk_seg dksX1_called_9 22 rfl rfl
theorem dX1_called_0 : decode cX1_called 0 = .ok (.aload_n 0, 1) := dk_42 (dk_at dksX1_called_0 0 rfl rfl)
theorem dX1_called_1 : decode cX1_called 1 = .ok (.iload_n 1, 1) := dk_27 (dk_at dksX1_called_0 1 rfl rfl)
theorem dX1_called_2 : decode cX1_called 2 = .ok (.invokevirtual 491, 3) := dk_182 1 235 (dk_at dksX1_called_0 2 rfl rfl)
theorem dX1_called_5 : decode cX1_called 5 = .ok (.astore_n 3, 1) := dk_78 (dk_at dksX1_called_0 5 rfl rfl)
theorem dX1_called_6 : decode cX1_called 6 = .ok (.iconst 0, 1) := dk_3 (dk_at dksX1_called_0 6 rfl rfl)
theorem dX1_called_7 : decode cX1_called 7 = .ok (.istore 4, 2) := dk_54 4 (dk_at dksX1_called_0 7 rfl rfl)
theorem dX1_called_9 : decode cX1_called 9 = .ok (.iload 4, 2) := dk_21 4 (dk_at dksX1_called_0 9 rfl rfl)
theorem dX1_called_11 : decode cX1_called 11 = .ok (.bipush 10, 2) := dk_16 10 (dk_at dksX1_called_0 11 rfl rfl)
theorem dX1_called_13 : decode cX1_called 13 = .ok (.if_icmp .ge 19, 3) := dk_162 0 19 (dk_at dksX1_called_0 13 rfl rfl)
theorem dX1_called_16 : decode cX1_called 16 = .ok (.aload_n 0, 1) := dk_42 (dk_at dksX1_called_0 16 rfl rfl)
theorem dX1_called_17 : decode cX1_called 17 = .ok (.getfield 118, 3) := dk_180 0 118 (dk_at dksX1_called_0 17 rfl rfl)
theorem dX1_called_20 : decode cX1_called 20 = .ok (.iload 4, 2) := dk_21 4 (dk_at dksX1_called_0 20 rfl rfl)
theorem dX1_called_22 : decode cX1_called 22 = .ok (.ldc_w 282, 3) := dk_19 1 26 (dk_at dksX1_called_1 0 rfl rfl)
theorem dX1_called_25 : decode cX1_called 25 = .ok (.iastore, 1) := dk_79 (dk_at dksX1_called_1 3 rfl rfl)
theorem dX1_called_26 : decode cX1_called 26 = .ok (.iinc 4 1, 3) := dk_132 4 1 (dk_at dksX1_called_1 4 rfl rfl)
theorem dX1_called_29 : decode cX1_called 29 = .ok (.goto (-20), 3) := dk_167 255 236 (dk_at dksX1_called_1 7 rfl rfl)
theorem dX1_called_32 : decode cX1_called 32 = .ok (.iconst 0, 1) := dk_3 (dk_at dksX1_called_1 10 rfl rfl)
theorem dX1_called_33 : decode cX1_called 33 = .ok (.istore 4, 2) := dk_54 4 (dk_at dksX1_called_1 11 rfl rfl)
theorem dX1_called_35 : decode cX1_called 35 = .ok (.iload 4, 2) := dk_21 4 (dk_at dksX1_called_1 13 rfl rfl)
theorem dX1_called_37 : decode cX1_called 37 = .ok (.bipush 64, 2) := dk_16 64 (dk_at dksX1_called_1 15 rfl rfl)
theorem dX1_called_39 : decode cX1_called 39 = .ok (.if_icmp .ge 86, 3) := dk_162 0 86 (dk_at dksX1_called_1 17 rfl rfl)
theorem dX1_called_42 : decode cX1_called 42 = .ok (.aload_n 0, 1) := dk_42 (dk_at dksX1_called_1 20 rfl rfl)
theorem dX1_called_43 : decode cX1_called 43 = .ok (.getfield 44, 3) := dk_180 0 44 (dk_at dksX1_called_1 21 rfl rfl)
theorem dX1_called_46 : decode cX1_called 46 = .ok (.getfield 183, 3) := dk_180 0 183 (dk_at dksX1_called_2 0 rfl rfl)
theorem dX1_called_49 : decode cX1_called 49 = .ok (.iload 4, 2) := dk_21 4 (dk_at dksX1_called_2 3 rfl rfl)
theorem dX1_called_51 : decode cX1_called 51 = .ok (.iaload, 1) := dk_46 (dk_at dksX1_called_2 5 rfl rfl)
theorem dX1_called_52 : decode cX1_called 52 = .ok (.iconst 2, 1) := dk_5 (dk_at dksX1_called_2 6 rfl rfl)
theorem dX1_called_53 : decode cX1_called 53 = .ok (.if_icmp .eq 6, 3) := dk_159 0 6 (dk_at dksX1_called_2 7 rfl rfl)
theorem dX1_called_56 : decode cX1_called 56 = .ok (.goto 63, 3) := dk_167 0 63 (dk_at dksX1_called_2 10 rfl rfl)
theorem dX1_called_59 : decode cX1_called 59 = .ok (.aload_n 0, 1) := dk_42 (dk_at dksX1_called_2 13 rfl rfl)
theorem dX1_called_60 : decode cX1_called 60 = .ok (.getfield 44, 3) := dk_180 0 44 (dk_at dksX1_called_2 14 rfl rfl)
theorem dX1_called_63 : decode cX1_called 63 = .ok (.getfield 222, 3) := dk_180 0 222 (dk_at dksX1_called_2 17 rfl rfl)
theorem dX1_called_66 : decode cX1_called 66 = .ok (.iload 4, 2) := dk_21 4 (dk_at dksX1_called_2 20 rfl rfl)
theorem dX1_called_68 : decode cX1_called 68 = .ok (.iaload, 1) := dk_46 (dk_at dksX1_called_2 22 rfl rfl)
theorem dX1_called_69 : decode cX1_called 69 = .ok (.istore 5, 2) := dk_54 5 (dk_at dksX1_called_3 0 rfl rfl)
theorem dX1_called_71 : decode cX1_called 71 = .ok (.iload 4, 2) := dk_21 4 (dk_at dksX1_called_3 2 rfl rfl)
theorem dX1_called_73 : decode cX1_called 73 = .ok (.aload_n 3, 1) := dk_45 (dk_at dksX1_called_3 4 rfl rfl)
theorem dX1_called_74 : decode cX1_called 74 = .ok (.getfield 479, 3) := dk_180 1 223 (dk_at dksX1_called_3 5 rfl rfl)
theorem dX1_called_77 : decode cX1_called 77 = .ok (.getfield 483, 3) := dk_180 1 227 (dk_at dksX1_called_3 8 rfl rfl)
theorem dX1_called_80 : decode cX1_called 80 = .ok (.invokestatic 499, 3) := dk_184 1 243 (dk_at dksX1_called_3 11 rfl rfl)
theorem dX1_called_83 : decode cX1_called 83 = .ok (.iload 4, 2) := dk_21 4 (dk_at dksX1_called_3 14 rfl rfl)
theorem dX1_called_85 : decode cX1_called 85 = .ok (.aload_n 3, 1) := dk_45 (dk_at dksX1_called_3 16 rfl rfl)
theorem dX1_called_86 : decode cX1_called 86 = .ok (.getfield 479, 3) := dk_180 1 223 (dk_at dksX1_called_3 17 rfl rfl)
theorem dX1_called_89 : decode cX1_called 89 = .ok (.getfield 486, 3) := dk_180 1 230 (dk_at dksX1_called_3 20 rfl rfl)
theorem dX1_called_92 : decode cX1_called 92 = .ok (.invokestatic 499, 3) := dk_184 1 243 (dk_at dksX1_called_4 0 rfl rfl)
theorem dX1_called_95 : decode cX1_called 95 = .ok (.invokestatic 311, 3) := dk_184 1 55 (dk_at dksX1_called_4 3 rfl rfl)
theorem dX1_called_98 : decode cX1_called 98 = .ok (.istore 6, 2) := dk_54 6 (dk_at dksX1_called_4 6 rfl rfl)
theorem dX1_called_100 : decode cX1_called 100 = .ok (.aload_n 0, 1) := dk_42 (dk_at dksX1_called_4 8 rfl rfl)
theorem dX1_called_101 : decode cX1_called 101 = .ok (.getfield 118, 3) := dk_180 0 118 (dk_at dksX1_called_4 9 rfl rfl)
theorem dX1_called_104 : decode cX1_called 104 = .ok (.iload 5, 2) := dk_21 5 (dk_at dksX1_called_4 12 rfl rfl)
theorem dX1_called_106 : decode cX1_called 106 = .ok (.aload_n 0, 1) := dk_42 (dk_at dksX1_called_4 14 rfl rfl)
theorem dX1_called_107 : decode cX1_called 107 = .ok (.getfield 118, 3) := dk_180 0 118 (dk_at dksX1_called_4 15 rfl rfl)
theorem dX1_called_110 : decode cX1_called 110 = .ok (.iload 5, 2) := dk_21 5 (dk_at dksX1_called_4 18 rfl rfl)
theorem dX1_called_112 : decode cX1_called 112 = .ok (.iaload, 1) := dk_46 (dk_at dksX1_called_4 20 rfl rfl)
theorem dX1_called_113 : decode cX1_called 113 = .ok (.iload 6, 2) := dk_21 6 (dk_at dksX1_called_4 21 rfl rfl)
theorem dX1_called_115 : decode cX1_called 115 = .ok (.invokestatic 311, 3) := dk_184 1 55 (dk_at dksX1_called_5 0 rfl rfl)
theorem dX1_called_118 : decode cX1_called 118 = .ok (.iastore, 1) := dk_79 (dk_at dksX1_called_5 3 rfl rfl)
theorem dX1_called_119 : decode cX1_called 119 = .ok (.iinc 4 1, 3) := dk_132 4 1 (dk_at dksX1_called_5 4 rfl rfl)
theorem dX1_called_122 : decode cX1_called 122 = .ok (.goto (-87), 3) := dk_167 255 169 (dk_at dksX1_called_5 7 rfl rfl)
theorem dX1_called_125 : decode cX1_called 125 = .ok (.iconst 0, 1) := dk_3 (dk_at dksX1_called_5 10 rfl rfl)
theorem dX1_called_126 : decode cX1_called 126 = .ok (.istore 4, 2) := dk_54 4 (dk_at dksX1_called_5 11 rfl rfl)
theorem dX1_called_128 : decode cX1_called 128 = .ok (.iload 4, 2) := dk_21 4 (dk_at dksX1_called_5 13 rfl rfl)
theorem dX1_called_130 : decode cX1_called 130 = .ok (.bipush 10, 2) := dk_16 10 (dk_at dksX1_called_5 15 rfl rfl)
theorem dX1_called_132 : decode cX1_called 132 = .ok (.if_icmp .ge 101, 3) := dk_162 0 101 (dk_at dksX1_called_5 17 rfl rfl)
theorem dX1_called_135 : decode cX1_called 135 = .ok (.iconst 0, 1) := dk_3 (dk_at dksX1_called_5 20 rfl rfl)
theorem dX1_called_136 : decode cX1_called 136 = .ok (.istore 5, 2) := dk_54 5 (dk_at dksX1_called_5 21 rfl rfl)
theorem dX1_called_138 : decode cX1_called 138 = .ok (.iconst 0, 1) := dk_3 (dk_at dksX1_called_5 23 rfl rfl)
theorem dX1_called_139 : decode cX1_called 139 = .ok (.istore 6, 2) := dk_54 6 (dk_at dksX1_called_6 0 rfl rfl)
theorem dX1_called_141 : decode cX1_called 141 = .ok (.iload 6, 2) := dk_21 6 (dk_at dksX1_called_6 2 rfl rfl)
theorem dX1_called_143 : decode cX1_called 143 = .ok (.bipush 10, 2) := dk_16 10 (dk_at dksX1_called_6 4 rfl rfl)
theorem dX1_called_145 : decode cX1_called 145 = .ok (.if_icmp .ge 60, 3) := dk_162 0 60 (dk_at dksX1_called_6 6 rfl rfl)
theorem dX1_called_148 : decode cX1_called 148 = .ok (.iload 5, 2) := dk_21 5 (dk_at dksX1_called_6 9 rfl rfl)
theorem dX1_called_150 : decode cX1_called 150 = .ok (.aload_n 0, 1) := dk_42 (dk_at dksX1_called_6 11 rfl rfl)
theorem dX1_called_151 : decode cX1_called 151 = .ok (.getfield 118, 3) := dk_180 0 118 (dk_at dksX1_called_6 12 rfl rfl)
theorem dX1_called_154 : decode cX1_called 154 = .ok (.iload 6, 2) := dk_21 6 (dk_at dksX1_called_6 15 rfl rfl)
theorem dX1_called_156 : decode cX1_called 156 = .ok (.iaload, 1) := dk_46 (dk_at dksX1_called_6 17 rfl rfl)
theorem dX1_called_157 : decode cX1_called 157 = .ok (.aload_n 0, 1) := dk_42 (dk_at dksX1_called_6 18 rfl rfl)
theorem dX1_called_158 : decode cX1_called 158 = .ok (.getfield 118, 3) := dk_180 0 118 (dk_at dksX1_called_6 19 rfl rfl)
theorem dX1_called_161 : decode cX1_called 161 = .ok (.iload 4, 2) := dk_21 4 (dk_at dksX1_called_6 22 rfl rfl)
theorem dX1_called_163 : decode cX1_called 163 = .ok (.iaload, 1) := dk_46 (dk_at dksX1_called_7 0 rfl rfl)
theorem dX1_called_164 : decode cX1_called 164 = .ok (.if_icmp .lt 27, 3) := dk_161 0 27 (dk_at dksX1_called_7 1 rfl rfl)
theorem dX1_called_167 : decode cX1_called 167 = .ok (.aload_n 0, 1) := dk_42 (dk_at dksX1_called_7 4 rfl rfl)
theorem dX1_called_168 : decode cX1_called 168 = .ok (.getfield 118, 3) := dk_180 0 118 (dk_at dksX1_called_7 5 rfl rfl)
theorem dX1_called_171 : decode cX1_called 171 = .ok (.iload 6, 2) := dk_21 6 (dk_at dksX1_called_7 8 rfl rfl)
theorem dX1_called_173 : decode cX1_called 173 = .ok (.iaload, 1) := dk_46 (dk_at dksX1_called_7 10 rfl rfl)
theorem dX1_called_174 : decode cX1_called 174 = .ok (.aload_n 0, 1) := dk_42 (dk_at dksX1_called_7 11 rfl rfl)
theorem dX1_called_175 : decode cX1_called 175 = .ok (.getfield 118, 3) := dk_180 0 118 (dk_at dksX1_called_7 12 rfl rfl)
theorem dX1_called_178 : decode cX1_called 178 = .ok (.iload 4, 2) := dk_21 4 (dk_at dksX1_called_7 15 rfl rfl)
theorem dX1_called_180 : decode cX1_called 180 = .ok (.iaload, 1) := dk_46 (dk_at dksX1_called_7 17 rfl rfl)
theorem dX1_called_181 : decode cX1_called 181 = .ok (.if_icmp .ne 14, 3) := dk_160 0 14 (dk_at dksX1_called_7 18 rfl rfl)
theorem dX1_called_184 : decode cX1_called 184 = .ok (.iload 6, 2) := dk_21 6 (dk_at dksX1_called_7 21 rfl rfl)
theorem dX1_called_186 : decode cX1_called 186 = .ok (.iload 4, 2) := dk_21 4 (dk_at dksX1_called_8 0 rfl rfl)
theorem dX1_called_188 : decode cX1_called 188 = .ok (.if_icmp .ge 7, 3) := dk_162 0 7 (dk_at dksX1_called_8 2 rfl rfl)
theorem dX1_called_191 : decode cX1_called 191 = .ok (.iconst 1, 1) := dk_4 (dk_at dksX1_called_8 5 rfl rfl)
theorem dX1_called_192 : decode cX1_called 192 = .ok (.goto 4, 3) := dk_167 0 4 (dk_at dksX1_called_8 6 rfl rfl)
theorem dX1_called_195 : decode cX1_called 195 = .ok (.iconst 0, 1) := dk_3 (dk_at dksX1_called_8 9 rfl rfl)
theorem dX1_called_196 : decode cX1_called 196 = .ok (.iadd, 1) := dk_96 (dk_at dksX1_called_8 10 rfl rfl)
theorem dX1_called_197 : decode cX1_called 197 = .ok (.istore 5, 2) := dk_54 5 (dk_at dksX1_called_8 11 rfl rfl)
theorem dX1_called_199 : decode cX1_called 199 = .ok (.iinc 6 1, 3) := dk_132 6 1 (dk_at dksX1_called_8 13 rfl rfl)
theorem dX1_called_202 : decode cX1_called 202 = .ok (.goto (-61), 3) := dk_167 255 195 (dk_at dksX1_called_8 16 rfl rfl)
theorem dX1_called_205 : decode cX1_called 205 = .ok (.iload 5, 2) := dk_21 5 (dk_at dksX1_called_8 19 rfl rfl)
theorem dX1_called_207 : decode cX1_called 207 = .ok (.iload_n 2, 1) := dk_28 (dk_at dksX1_called_8 21 rfl rfl)
theorem dX1_called_208 : decode cX1_called 208 = .ok (.if_icmp .ne 19, 3) := dk_160 0 19 (dk_at dksX1_called_9 0 rfl rfl)
theorem dX1_called_211 : decode cX1_called 211 = .ok (.aload_n 0, 1) := dk_42 (dk_at dksX1_called_9 3 rfl rfl)
theorem dX1_called_212 : decode cX1_called 212 = .ok (.getfield 118, 3) := dk_180 0 118 (dk_at dksX1_called_9 4 rfl rfl)
theorem dX1_called_215 : decode cX1_called 215 = .ok (.iload 4, 2) := dk_21 4 (dk_at dksX1_called_9 7 rfl rfl)
theorem dX1_called_217 : decode cX1_called 217 = .ok (.iaload, 1) := dk_46 (dk_at dksX1_called_9 9 rfl rfl)
theorem dX1_called_218 : decode cX1_called 218 = .ok (.ldc_w 282, 3) := dk_19 1 26 (dk_at dksX1_called_9 10 rfl rfl)
theorem dX1_called_221 : decode cX1_called 221 = .ok (.if_icmp .ge 6, 3) := dk_162 0 6 (dk_at dksX1_called_9 13 rfl rfl)
theorem dX1_called_224 : decode cX1_called 224 = .ok (.iload 4, 2) := dk_21 4 (dk_at dksX1_called_9 16 rfl rfl)
theorem dX1_called_226 : decode cX1_called 226 = .ok (.ireturn, 1) := dk_172 (dk_at dksX1_called_9 18 rfl rfl)
theorem dX1_called_227 : decode cX1_called 227 = .ok (.iinc 4 1, 3) := dk_132 4 1 (dk_at dksX1_called_9 19 rfl rfl)
theorem dX1_called_230 : decode cX1_called 230 = .ok (.goto (-102), 3) := dk_167 255 154 (dk_at dksX1_called_10 0 rfl rfl)
theorem dX1_called_233 : decode cX1_called 233 = .ok (.iconst (-1), 1) := dk_2 (dk_at dksX1_called_10 3 rfl rfl)
theorem dX1_called_234 : decode cX1_called 234 = .ok (.ireturn, 1) := dk_172 (dk_at dksX1_called_10 4 rfl rfl)
def dkwX1_apart_1 : List UInt8 := [96, 172]
abbrev dktX1_apart_1 : List UInt8 := dkwX1_apart_1 ++ []
def dkwX1_apart_0 : List UInt8 := [26, 16, 8, 112, 27, 16, 8, 112, 100, 184, 0, 25, 26, 16, 8, 108, 27, 16, 8, 108, 100, 184, 0, 25]
abbrev dktX1_apart_0 : List UInt8 := dkwX1_apart_0 ++ dktX1_apart_1
theorem dksX1_apart_0 : cX1_apart.data.toList.drop 0 = dktX1_apart_0 := by decide +kernel
theorem dksX1_apart_1 : cX1_apart.data.toList.drop 24 = dktX1_apart_1 := dk_seg dksX1_apart_0 24 rfl rfl
theorem dX1_apart_0 : decode cX1_apart 0 = .ok (.iload_n 0, 1) := dk_26 (dk_at dksX1_apart_0 0 rfl rfl)
theorem dX1_apart_1 : decode cX1_apart 1 = .ok (.bipush 8, 2) := dk_16 8 (dk_at dksX1_apart_0 1 rfl rfl)
theorem dX1_apart_3 : decode cX1_apart 3 = .ok (.irem, 1) := dk_112 (dk_at dksX1_apart_0 3 rfl rfl)
theorem dX1_apart_4 : decode cX1_apart 4 = .ok (.iload_n 1, 1) := dk_27 (dk_at dksX1_apart_0 4 rfl rfl)
theorem dX1_apart_5 : decode cX1_apart 5 = .ok (.bipush 8, 2) := dk_16 8 (dk_at dksX1_apart_0 5 rfl rfl)
theorem dX1_apart_7 : decode cX1_apart 7 = .ok (.irem, 1) := dk_112 (dk_at dksX1_apart_0 7 rfl rfl)
theorem dX1_apart_8 : decode cX1_apart 8 = .ok (.isub, 1) := dk_100 (dk_at dksX1_apart_0 8 rfl rfl)
theorem dX1_apart_9 : decode cX1_apart 9 = .ok (.invokestatic 25, 3) := dk_184 0 25 (dk_at dksX1_apart_0 9 rfl rfl)
theorem dX1_apart_12 : decode cX1_apart 12 = .ok (.iload_n 0, 1) := dk_26 (dk_at dksX1_apart_0 12 rfl rfl)
theorem dX1_apart_13 : decode cX1_apart 13 = .ok (.bipush 8, 2) := dk_16 8 (dk_at dksX1_apart_0 13 rfl rfl)
theorem dX1_apart_15 : decode cX1_apart 15 = .ok (.idiv, 1) := dk_108 (dk_at dksX1_apart_0 15 rfl rfl)
theorem dX1_apart_16 : decode cX1_apart 16 = .ok (.iload_n 1, 1) := dk_27 (dk_at dksX1_apart_0 16 rfl rfl)
theorem dX1_apart_17 : decode cX1_apart 17 = .ok (.bipush 8, 2) := dk_16 8 (dk_at dksX1_apart_0 17 rfl rfl)
theorem dX1_apart_19 : decode cX1_apart 19 = .ok (.idiv, 1) := dk_108 (dk_at dksX1_apart_0 19 rfl rfl)
theorem dX1_apart_20 : decode cX1_apart 20 = .ok (.isub, 1) := dk_100 (dk_at dksX1_apart_0 20 rfl rfl)
theorem dX1_apart_21 : decode cX1_apart 21 = .ok (.invokestatic 25, 3) := dk_184 0 25 (dk_at dksX1_apart_0 21 rfl rfl)
theorem dX1_apart_24 : decode cX1_apart 24 = .ok (.iadd, 1) := dk_96 (dk_at dksX1_apart_1 0 rfl rfl)
theorem dX1_apart_25 : decode cX1_apart 25 = .ok (.ireturn, 1) := dk_172 (dk_at dksX1_apart_1 1 rfl rfl)
def dkwX1_dusk_7 : List UInt8 := [180, 1, 193, 28, 46, 172]
abbrev dktX1_dusk_7 : List UInt8 := dkwX1_dusk_7 ++ []
def dkwX1_dusk_6 : List UInt8 := [180, 0, 64, 180, 1, 193, 28, 46, 19, 1, 26, 160, 0, 7, 2, 167, 0, 12, 42, 180, 0, 64]
abbrev dktX1_dusk_6 : List UInt8 := dkwX1_dusk_6 ++ dktX1_dusk_7
def dkwX1_dusk_5 : List UInt8 := [132, 6, 1, 167, 255, 231, 132, 5, 1, 167, 255, 193, 42, 180, 0, 64, 27, 25, 4, 182, 1, 190, 42]
abbrev dktX1_dusk_5 : List UInt8 := dkwX1_dusk_5 ++ dktX1_dusk_6
def dkwX1_dusk_4 : List UInt8 := [21, 6, 16, 64, 162, 0, 24, 25, 4, 21, 6, 92, 51, 42, 180, 0, 140, 21, 6, 51, 128, 84]
abbrev dktX1_dusk_4 : List UInt8 := dkwX1_dusk_4 ++ dktX1_dusk_5
def dkwX1_dusk_3 : List UInt8 := [162, 0, 57, 42, 42, 180, 0, 71, 21, 5, 182, 0, 193, 192, 0, 197, 29, 182, 1, 199, 3, 54, 6]
abbrev dktX1_dusk_3 : List UInt8 := dkwX1_dusk_3 ++ dktX1_dusk_4
def dkwX1_dusk_2 : List UInt8 := [167, 0, 4, 3, 84, 132, 5, 1, 167, 255, 224, 3, 54, 5, 21, 5, 42, 180, 0, 71, 182, 0, 189]
abbrev dktX1_dusk_2 : List UInt8 := dkwX1_dusk_2 ++ dktX1_dusk_3
def dkwX1_dusk_1 : List UInt8 := [16, 64, 162, 0, 31, 25, 4, 21, 5, 42, 180, 0, 44, 21, 5, 182, 1, 93, 154, 0, 7, 4]
abbrev dktX1_dusk_1 : List UInt8 := dkwX1_dusk_1 ++ dktX1_dusk_2
def dkwX1_dusk_0 : List UInt8 := [27, 184, 0, 170, 28, 184, 0, 170, 29, 184, 1, 196, 16, 64, 188, 4, 58, 4, 3, 54, 5, 21, 5]
abbrev dktX1_dusk_0 : List UInt8 := dkwX1_dusk_0 ++ dktX1_dusk_1
theorem dksX1_dusk_0 : cX1_dusk.data.toList.drop 0 = dktX1_dusk_0 := by decide +kernel
theorem dksX1_dusk_1 : cX1_dusk.data.toList.drop 23 = dktX1_dusk_1 := dk_seg dksX1_dusk_0 23 rfl rfl
theorem dksX1_dusk_2 : cX1_dusk.data.toList.drop 45 = dktX1_dusk_2 := dk_seg dksX1_dusk_1 22 rfl rfl
theorem dksX1_dusk_3 : cX1_dusk.data.toList.drop 68 = dktX1_dusk_3 := dk_seg dksX1_dusk_2 23 rfl rfl
theorem dksX1_dusk_4 : cX1_dusk.data.toList.drop 91 = dktX1_dusk_4 := dk_seg dksX1_dusk_3 23 rfl rfl
theorem dksX1_dusk_5 : cX1_dusk.data.toList.drop 113 = dktX1_dusk_5 := dk_seg dksX1_dusk_4 22 rfl rfl
theorem dksX1_dusk_6 : cX1_dusk.data.toList.drop 136 = dktX1_dusk_6 := dk_seg dksX1_dusk_5 23 rfl rfl
theorem dksX1_dusk_7 : cX1_dusk.data.toList.drop 158 = dktX1_dusk_7 := dk_seg dksX1_dusk_6 22 rfl rfl
theorem dX1_dusk_0 : decode cX1_dusk 0 = .ok (.iload_n 1, 1) := dk_27 (dk_at dksX1_dusk_0 0 rfl rfl)
theorem dX1_dusk_1 : decode cX1_dusk 1 = .ok (.invokestatic 170, 3) := dk_184 0 170 (dk_at dksX1_dusk_0 1 rfl rfl)
theorem dX1_dusk_4 : decode cX1_dusk 4 = .ok (.iload_n 2, 1) := dk_28 (dk_at dksX1_dusk_0 4 rfl rfl)
theorem dX1_dusk_5 : decode cX1_dusk 5 = .ok (.invokestatic 170, 3) := dk_184 0 170 (dk_at dksX1_dusk_0 5 rfl rfl)
theorem dX1_dusk_8 : decode cX1_dusk 8 = .ok (.iload_n 3, 1) := dk_29 (dk_at dksX1_dusk_0 8 rfl rfl)
theorem dX1_dusk_9 : decode cX1_dusk 9 = .ok (.invokestatic 452, 3) := dk_184 1 196 (dk_at dksX1_dusk_0 9 rfl rfl)
theorem dX1_dusk_12 : decode cX1_dusk 12 = .ok (.bipush 64, 2) := dk_16 64 (dk_at dksX1_dusk_0 12 rfl rfl)
theorem dX1_dusk_14 : decode cX1_dusk 14 = .ok (.newarray .boolean, 2) := dk_188_4 (dk_at dksX1_dusk_0 14 rfl rfl)
theorem dX1_dusk_16 : decode cX1_dusk 16 = .ok (.astore 4, 2) := dk_58 4 (dk_at dksX1_dusk_0 16 rfl rfl)
theorem dX1_dusk_18 : decode cX1_dusk 18 = .ok (.iconst 0, 1) := dk_3 (dk_at dksX1_dusk_0 18 rfl rfl)
theorem dX1_dusk_19 : decode cX1_dusk 19 = .ok (.istore 5, 2) := dk_54 5 (dk_at dksX1_dusk_0 19 rfl rfl)
theorem dX1_dusk_21 : decode cX1_dusk 21 = .ok (.iload 5, 2) := dk_21 5 (dk_at dksX1_dusk_0 21 rfl rfl)
theorem dX1_dusk_23 : decode cX1_dusk 23 = .ok (.bipush 64, 2) := dk_16 64 (dk_at dksX1_dusk_1 0 rfl rfl)
theorem dX1_dusk_25 : decode cX1_dusk 25 = .ok (.if_icmp .ge 31, 3) := dk_162 0 31 (dk_at dksX1_dusk_1 2 rfl rfl)
theorem dX1_dusk_28 : decode cX1_dusk 28 = .ok (.aload 4, 2) := dk_25 4 (dk_at dksX1_dusk_1 5 rfl rfl)
theorem dX1_dusk_30 : decode cX1_dusk 30 = .ok (.iload 5, 2) := dk_21 5 (dk_at dksX1_dusk_1 7 rfl rfl)
theorem dX1_dusk_32 : decode cX1_dusk 32 = .ok (.aload_n 0, 1) := dk_42 (dk_at dksX1_dusk_1 9 rfl rfl)
theorem dX1_dusk_33 : decode cX1_dusk 33 = .ok (.getfield 44, 3) := dk_180 0 44 (dk_at dksX1_dusk_1 10 rfl rfl)
theorem dX1_dusk_36 : decode cX1_dusk 36 = .ok (.iload 5, 2) := dk_21 5 (dk_at dksX1_dusk_1 13 rfl rfl)
theorem dX1_dusk_38 : decode cX1_dusk 38 = .ok (.invokevirtual 349, 3) := dk_182 1 93 (dk_at dksX1_dusk_1 15 rfl rfl)
theorem dX1_dusk_41 : decode cX1_dusk 41 = .ok (.ifCond .ne 7, 3) := dk_154 0 7 (dk_at dksX1_dusk_1 18 rfl rfl)
theorem dX1_dusk_44 : decode cX1_dusk 44 = .ok (.iconst 1, 1) := dk_4 (dk_at dksX1_dusk_1 21 rfl rfl)
theorem dX1_dusk_45 : decode cX1_dusk 45 = .ok (.goto 4, 3) := dk_167 0 4 (dk_at dksX1_dusk_2 0 rfl rfl)
theorem dX1_dusk_48 : decode cX1_dusk 48 = .ok (.iconst 0, 1) := dk_3 (dk_at dksX1_dusk_2 3 rfl rfl)
theorem dX1_dusk_49 : decode cX1_dusk 49 = .ok (.bastore, 1) := dk_84 (dk_at dksX1_dusk_2 4 rfl rfl)
theorem dX1_dusk_50 : decode cX1_dusk 50 = .ok (.iinc 5 1, 3) := dk_132 5 1 (dk_at dksX1_dusk_2 5 rfl rfl)
theorem dX1_dusk_53 : decode cX1_dusk 53 = .ok (.goto (-32), 3) := dk_167 255 224 (dk_at dksX1_dusk_2 8 rfl rfl)
theorem dX1_dusk_56 : decode cX1_dusk 56 = .ok (.iconst 0, 1) := dk_3 (dk_at dksX1_dusk_2 11 rfl rfl)
theorem dX1_dusk_57 : decode cX1_dusk 57 = .ok (.istore 5, 2) := dk_54 5 (dk_at dksX1_dusk_2 12 rfl rfl)
theorem dX1_dusk_59 : decode cX1_dusk 59 = .ok (.iload 5, 2) := dk_21 5 (dk_at dksX1_dusk_2 14 rfl rfl)
theorem dX1_dusk_61 : decode cX1_dusk 61 = .ok (.aload_n 0, 1) := dk_42 (dk_at dksX1_dusk_2 16 rfl rfl)
theorem dX1_dusk_62 : decode cX1_dusk 62 = .ok (.getfield 71, 3) := dk_180 0 71 (dk_at dksX1_dusk_2 17 rfl rfl)
theorem dX1_dusk_65 : decode cX1_dusk 65 = .ok (.invokevirtual 189, 3) := dk_182 0 189 (dk_at dksX1_dusk_2 20 rfl rfl)
theorem dX1_dusk_68 : decode cX1_dusk 68 = .ok (.if_icmp .ge 57, 3) := dk_162 0 57 (dk_at dksX1_dusk_3 0 rfl rfl)
theorem dX1_dusk_71 : decode cX1_dusk 71 = .ok (.aload_n 0, 1) := dk_42 (dk_at dksX1_dusk_3 3 rfl rfl)
theorem dX1_dusk_72 : decode cX1_dusk 72 = .ok (.aload_n 0, 1) := dk_42 (dk_at dksX1_dusk_3 4 rfl rfl)
theorem dX1_dusk_73 : decode cX1_dusk 73 = .ok (.getfield 71, 3) := dk_180 0 71 (dk_at dksX1_dusk_3 5 rfl rfl)
theorem dX1_dusk_76 : decode cX1_dusk 76 = .ok (.iload 5, 2) := dk_21 5 (dk_at dksX1_dusk_3 8 rfl rfl)
theorem dX1_dusk_78 : decode cX1_dusk 78 = .ok (.invokevirtual 193, 3) := dk_182 0 193 (dk_at dksX1_dusk_3 10 rfl rfl)
theorem dX1_dusk_81 : decode cX1_dusk 81 = .ok (.checkcast 197, 3) := dk_192 0 197 (dk_at dksX1_dusk_3 13 rfl rfl)
theorem dX1_dusk_84 : decode cX1_dusk 84 = .ok (.iload_n 3, 1) := dk_29 (dk_at dksX1_dusk_3 16 rfl rfl)
theorem dX1_dusk_85 : decode cX1_dusk 85 = .ok (.invokevirtual 455, 3) := dk_182 1 199 (dk_at dksX1_dusk_3 17 rfl rfl)
theorem dX1_dusk_88 : decode cX1_dusk 88 = .ok (.iconst 0, 1) := dk_3 (dk_at dksX1_dusk_3 20 rfl rfl)
theorem dX1_dusk_89 : decode cX1_dusk 89 = .ok (.istore 6, 2) := dk_54 6 (dk_at dksX1_dusk_3 21 rfl rfl)
theorem dX1_dusk_91 : decode cX1_dusk 91 = .ok (.iload 6, 2) := dk_21 6 (dk_at dksX1_dusk_4 0 rfl rfl)
theorem dX1_dusk_93 : decode cX1_dusk 93 = .ok (.bipush 64, 2) := dk_16 64 (dk_at dksX1_dusk_4 2 rfl rfl)
theorem dX1_dusk_95 : decode cX1_dusk 95 = .ok (.if_icmp .ge 24, 3) := dk_162 0 24 (dk_at dksX1_dusk_4 4 rfl rfl)
theorem dX1_dusk_98 : decode cX1_dusk 98 = .ok (.aload 4, 2) := dk_25 4 (dk_at dksX1_dusk_4 7 rfl rfl)
theorem dX1_dusk_100 : decode cX1_dusk 100 = .ok (.iload 6, 2) := dk_21 6 (dk_at dksX1_dusk_4 9 rfl rfl)
theorem dX1_dusk_102 : decode cX1_dusk 102 = .ok (.dup2, 1) := dk_92 (dk_at dksX1_dusk_4 11 rfl rfl)
theorem dX1_dusk_103 : decode cX1_dusk 103 = .ok (.baload, 1) := dk_51 (dk_at dksX1_dusk_4 12 rfl rfl)
theorem dX1_dusk_104 : decode cX1_dusk 104 = .ok (.aload_n 0, 1) := dk_42 (dk_at dksX1_dusk_4 13 rfl rfl)
theorem dX1_dusk_105 : decode cX1_dusk 105 = .ok (.getfield 140, 3) := dk_180 0 140 (dk_at dksX1_dusk_4 14 rfl rfl)
theorem dX1_dusk_108 : decode cX1_dusk 108 = .ok (.iload 6, 2) := dk_21 6 (dk_at dksX1_dusk_4 17 rfl rfl)
theorem dX1_dusk_110 : decode cX1_dusk 110 = .ok (.baload, 1) := dk_51 (dk_at dksX1_dusk_4 19 rfl rfl)
theorem dX1_dusk_111 : decode cX1_dusk 111 = .ok (.ior, 1) := dk_128 (dk_at dksX1_dusk_4 20 rfl rfl)
theorem dX1_dusk_112 : decode cX1_dusk 112 = .ok (.bastore, 1) := dk_84 (dk_at dksX1_dusk_4 21 rfl rfl)
theorem dX1_dusk_113 : decode cX1_dusk 113 = .ok (.iinc 6 1, 3) := dk_132 6 1 (dk_at dksX1_dusk_5 0 rfl rfl)
theorem dX1_dusk_116 : decode cX1_dusk 116 = .ok (.goto (-25), 3) := dk_167 255 231 (dk_at dksX1_dusk_5 3 rfl rfl)
theorem dX1_dusk_119 : decode cX1_dusk 119 = .ok (.iinc 5 1, 3) := dk_132 5 1 (dk_at dksX1_dusk_5 6 rfl rfl)
theorem dX1_dusk_122 : decode cX1_dusk 122 = .ok (.goto (-63), 3) := dk_167 255 193 (dk_at dksX1_dusk_5 9 rfl rfl)
theorem dX1_dusk_125 : decode cX1_dusk 125 = .ok (.aload_n 0, 1) := dk_42 (dk_at dksX1_dusk_5 12 rfl rfl)
theorem dX1_dusk_126 : decode cX1_dusk 126 = .ok (.getfield 64, 3) := dk_180 0 64 (dk_at dksX1_dusk_5 13 rfl rfl)
theorem dX1_dusk_129 : decode cX1_dusk 129 = .ok (.iload_n 1, 1) := dk_27 (dk_at dksX1_dusk_5 16 rfl rfl)
theorem dX1_dusk_130 : decode cX1_dusk 130 = .ok (.aload 4, 2) := dk_25 4 (dk_at dksX1_dusk_5 17 rfl rfl)
theorem dX1_dusk_132 : decode cX1_dusk 132 = .ok (.invokevirtual 446, 3) := dk_182 1 190 (dk_at dksX1_dusk_5 19 rfl rfl)
theorem dX1_dusk_135 : decode cX1_dusk 135 = .ok (.aload_n 0, 1) := dk_42 (dk_at dksX1_dusk_5 22 rfl rfl)
theorem dX1_dusk_136 : decode cX1_dusk 136 = .ok (.getfield 64, 3) := dk_180 0 64 (dk_at dksX1_dusk_6 0 rfl rfl)
theorem dX1_dusk_139 : decode cX1_dusk 139 = .ok (.getfield 449, 3) := dk_180 1 193 (dk_at dksX1_dusk_6 3 rfl rfl)
theorem dX1_dusk_142 : decode cX1_dusk 142 = .ok (.iload_n 2, 1) := dk_28 (dk_at dksX1_dusk_6 6 rfl rfl)
theorem dX1_dusk_143 : decode cX1_dusk 143 = .ok (.iaload, 1) := dk_46 (dk_at dksX1_dusk_6 7 rfl rfl)
theorem dX1_dusk_144 : decode cX1_dusk 144 = .ok (.ldc_w 282, 3) := dk_19 1 26 (dk_at dksX1_dusk_6 8 rfl rfl)
theorem dX1_dusk_147 : decode cX1_dusk 147 = .ok (.if_icmp .ne 7, 3) := dk_160 0 7 (dk_at dksX1_dusk_6 11 rfl rfl)
theorem dX1_dusk_150 : decode cX1_dusk 150 = .ok (.iconst (-1), 1) := dk_2 (dk_at dksX1_dusk_6 14 rfl rfl)
theorem dX1_dusk_151 : decode cX1_dusk 151 = .ok (.goto 12, 3) := dk_167 0 12 (dk_at dksX1_dusk_6 15 rfl rfl)
theorem dX1_dusk_154 : decode cX1_dusk 154 = .ok (.aload_n 0, 1) := dk_42 (dk_at dksX1_dusk_6 18 rfl rfl)
theorem dX1_dusk_155 : decode cX1_dusk 155 = .ok (.getfield 64, 3) := dk_180 0 64 (dk_at dksX1_dusk_6 19 rfl rfl)
theorem dX1_dusk_158 : decode cX1_dusk 158 = .ok (.getfield 449, 3) := dk_180 1 193 (dk_at dksX1_dusk_7 0 rfl rfl)
theorem dX1_dusk_161 : decode cX1_dusk 161 = .ok (.iload_n 2, 1) := dk_28 (dk_at dksX1_dusk_7 3 rfl rfl)
theorem dX1_dusk_162 : decode cX1_dusk 162 = .ok (.iaload, 1) := dk_46 (dk_at dksX1_dusk_7 4 rfl rfl)
theorem dX1_dusk_163 : decode cX1_dusk 163 = .ok (.ireturn, 1) := dk_172 (dk_at dksX1_dusk_7 5 rfl rfl)
def dkwX1_lease_0 : List UInt8 := [27, 184, 0, 170, 42, 180, 0, 137, 27, 51, 62, 42, 180, 0, 137, 27, 28, 84, 29, 172]
abbrev dktX1_lease_0 : List UInt8 := dkwX1_lease_0 ++ []
theorem dksX1_lease_0 : cX1_lease.data.toList.drop 0 = dktX1_lease_0 := by decide +kernel
theorem dX1_lease_0 : decode cX1_lease 0 = .ok (.iload_n 1, 1) := dk_27 (dk_at dksX1_lease_0 0 rfl rfl)
theorem dX1_lease_1 : decode cX1_lease 1 = .ok (.invokestatic 170, 3) := dk_184 0 170 (dk_at dksX1_lease_0 1 rfl rfl)
theorem dX1_lease_4 : decode cX1_lease 4 = .ok (.aload_n 0, 1) := dk_42 (dk_at dksX1_lease_0 4 rfl rfl)
theorem dX1_lease_5 : decode cX1_lease 5 = .ok (.getfield 137, 3) := dk_180 0 137 (dk_at dksX1_lease_0 5 rfl rfl)
theorem dX1_lease_8 : decode cX1_lease 8 = .ok (.iload_n 1, 1) := dk_27 (dk_at dksX1_lease_0 8 rfl rfl)
theorem dX1_lease_9 : decode cX1_lease 9 = .ok (.baload, 1) := dk_51 (dk_at dksX1_lease_0 9 rfl rfl)
theorem dX1_lease_10 : decode cX1_lease 10 = .ok (.istore_n 3, 1) := dk_62 (dk_at dksX1_lease_0 10 rfl rfl)
theorem dX1_lease_11 : decode cX1_lease 11 = .ok (.aload_n 0, 1) := dk_42 (dk_at dksX1_lease_0 11 rfl rfl)
theorem dX1_lease_12 : decode cX1_lease 12 = .ok (.getfield 137, 3) := dk_180 0 137 (dk_at dksX1_lease_0 12 rfl rfl)
theorem dX1_lease_15 : decode cX1_lease 15 = .ok (.iload_n 1, 1) := dk_27 (dk_at dksX1_lease_0 15 rfl rfl)
theorem dX1_lease_16 : decode cX1_lease 16 = .ok (.iload_n 2, 1) := dk_28 (dk_at dksX1_lease_0 16 rfl rfl)
theorem dX1_lease_17 : decode cX1_lease 17 = .ok (.bastore, 1) := dk_84 (dk_at dksX1_lease_0 17 rfl rfl)
theorem dX1_lease_18 : decode cX1_lease 18 = .ok (.iload_n 3, 1) := dk_29 (dk_at dksX1_lease_0 18 rfl rfl)
theorem dX1_lease_19 : decode cX1_lease 19 = .ok (.ireturn, 1) := dk_172 (dk_at dksX1_lease_0 19 rfl rfl)
def dkwX1_rent_1 : List UInt8 := [180, 0, 103, 27, 46, 62, 42, 180, 0, 103, 27, 28, 79, 29, 172]
abbrev dktX1_rent_1 : List UInt8 := dkwX1_rent_1 ++ []
def dkwX1_rent_0 : List UInt8 := [27, 184, 0, 170, 28, 3, 17, 3, 232, 184, 0, 163, 154, 0, 7, 4, 167, 0, 4, 3, 184, 0, 178, 42]
abbrev dktX1_rent_0 : List UInt8 := dkwX1_rent_0 ++ dktX1_rent_1
theorem dksX1_rent_0 : cX1_rent.data.toList.drop 0 = dktX1_rent_0 := by decide +kernel
theorem dksX1_rent_1 : cX1_rent.data.toList.drop 24 = dktX1_rent_1 := dk_seg dksX1_rent_0 24 rfl rfl
theorem dX1_rent_0 : decode cX1_rent 0 = .ok (.iload_n 1, 1) := dk_27 (dk_at dksX1_rent_0 0 rfl rfl)
theorem dX1_rent_1 : decode cX1_rent 1 = .ok (.invokestatic 170, 3) := dk_184 0 170 (dk_at dksX1_rent_0 1 rfl rfl)
theorem dX1_rent_4 : decode cX1_rent 4 = .ok (.iload_n 2, 1) := dk_28 (dk_at dksX1_rent_0 4 rfl rfl)
theorem dX1_rent_5 : decode cX1_rent 5 = .ok (.iconst 0, 1) := dk_3 (dk_at dksX1_rent_0 5 rfl rfl)
theorem dX1_rent_6 : decode cX1_rent 6 = .ok (.sipush 1000, 3) := dk_17 3 232 (dk_at dksX1_rent_0 6 rfl rfl)
theorem dX1_rent_9 : decode cX1_rent 9 = .ok (.invokestatic 163, 3) := dk_184 0 163 (dk_at dksX1_rent_0 9 rfl rfl)
theorem dX1_rent_12 : decode cX1_rent 12 = .ok (.ifCond .ne 7, 3) := dk_154 0 7 (dk_at dksX1_rent_0 12 rfl rfl)
theorem dX1_rent_15 : decode cX1_rent 15 = .ok (.iconst 1, 1) := dk_4 (dk_at dksX1_rent_0 15 rfl rfl)
theorem dX1_rent_16 : decode cX1_rent 16 = .ok (.goto 4, 3) := dk_167 0 4 (dk_at dksX1_rent_0 16 rfl rfl)
theorem dX1_rent_19 : decode cX1_rent 19 = .ok (.iconst 0, 1) := dk_3 (dk_at dksX1_rent_0 19 rfl rfl)
theorem dX1_rent_20 : decode cX1_rent 20 = .ok (.invokestatic 178, 3) := dk_184 0 178 (dk_at dksX1_rent_0 20 rfl rfl)
theorem dX1_rent_23 : decode cX1_rent 23 = .ok (.aload_n 0, 1) := dk_42 (dk_at dksX1_rent_0 23 rfl rfl)
theorem dX1_rent_24 : decode cX1_rent 24 = .ok (.getfield 103, 3) := dk_180 0 103 (dk_at dksX1_rent_1 0 rfl rfl)
theorem dX1_rent_27 : decode cX1_rent 27 = .ok (.iload_n 1, 1) := dk_27 (dk_at dksX1_rent_1 3 rfl rfl)
theorem dX1_rent_28 : decode cX1_rent 28 = .ok (.iaload, 1) := dk_46 (dk_at dksX1_rent_1 4 rfl rfl)
theorem dX1_rent_29 : decode cX1_rent 29 = .ok (.istore_n 3, 1) := dk_62 (dk_at dksX1_rent_1 5 rfl rfl)
theorem dX1_rent_30 : decode cX1_rent 30 = .ok (.aload_n 0, 1) := dk_42 (dk_at dksX1_rent_1 6 rfl rfl)
theorem dX1_rent_31 : decode cX1_rent 31 = .ok (.getfield 103, 3) := dk_180 0 103 (dk_at dksX1_rent_1 7 rfl rfl)
theorem dX1_rent_34 : decode cX1_rent 34 = .ok (.iload_n 1, 1) := dk_27 (dk_at dksX1_rent_1 10 rfl rfl)
theorem dX1_rent_35 : decode cX1_rent 35 = .ok (.iload_n 2, 1) := dk_28 (dk_at dksX1_rent_1 11 rfl rfl)
theorem dX1_rent_36 : decode cX1_rent 36 = .ok (.iastore, 1) := dk_79 (dk_at dksX1_rent_1 12 rfl rfl)
theorem dX1_rent_37 : decode cX1_rent 37 = .ok (.iload_n 3, 1) := dk_29 (dk_at dksX1_rent_1 13 rfl rfl)
theorem dX1_rent_38 : decode cX1_rent 38 = .ok (.ireturn, 1) := dk_172 (dk_at dksX1_rent_1 14 rfl rfl)
def dkwX1_rents_0 : List UInt8 := [27, 184, 0, 170, 28, 184, 0, 170, 42, 27, 28, 182, 2, 0, 172]
abbrev dktX1_rents_0 : List UInt8 := dkwX1_rents_0 ++ []
theorem dksX1_rents_0 : cX1_rents.data.toList.drop 0 = dktX1_rents_0 := by decide +kernel
theorem dX1_rents_0 : decode cX1_rents 0 = .ok (.iload_n 1, 1) := dk_27 (dk_at dksX1_rents_0 0 rfl rfl)
theorem dX1_rents_1 : decode cX1_rents 1 = .ok (.invokestatic 170, 3) := dk_184 0 170 (dk_at dksX1_rents_0 1 rfl rfl)
theorem dX1_rents_4 : decode cX1_rents 4 = .ok (.iload_n 2, 1) := dk_28 (dk_at dksX1_rents_0 4 rfl rfl)
theorem dX1_rents_5 : decode cX1_rents 5 = .ok (.invokestatic 170, 3) := dk_184 0 170 (dk_at dksX1_rents_0 5 rfl rfl)
theorem dX1_rents_8 : decode cX1_rents 8 = .ok (.aload_n 0, 1) := dk_42 (dk_at dksX1_rents_0 8 rfl rfl)
theorem dX1_rents_9 : decode cX1_rents 9 = .ok (.iload_n 1, 1) := dk_27 (dk_at dksX1_rents_0 9 rfl rfl)
theorem dX1_rents_10 : decode cX1_rents 10 = .ok (.iload_n 2, 1) := dk_28 (dk_at dksX1_rents_0 10 rfl rfl)
theorem dX1_rents_11 : decode cX1_rents 11 = .ok (.invokevirtual 512, 3) := dk_182 2 0 (dk_at dksX1_rents_0 11 rfl rfl)
theorem dX1_rents_14 : decode cX1_rents 14 = .ok (.ireturn, 1) := dk_172 (dk_at dksX1_rents_0 14 rfl rfl)
def dkwX1_opens_11 : List UInt8 := [167, 255, 197, 21, 5, 172]
abbrev dktX1_opens_11 : List UInt8 := dkwX1_opens_11 ++ []
def dkwX1_opens_10 : List UInt8 := [21, 5, 42, 180, 0, 103, 21, 6, 46, 96, 54, 5, 42, 45, 21, 6, 28, 182, 1, 252, 54, 6]
abbrev dktX1_opens_10 : List UInt8 := dkwX1_opens_10 ++ dktX1_opens_11
def dkwX1_opens_9 : List UInt8 := [153, 0, 6, 167, 0, 33, 42, 180, 0, 115, 42, 89, 180, 1, 246, 90, 4, 96, 181, 1, 246, 21, 6, 79]
abbrev dktX1_opens_9 : List UInt8 := dkwX1_opens_9 ++ dktX1_opens_10
def dkwX1_opens_8 : List UInt8 := [160, 0, 5, 2, 172, 3, 54, 5, 27, 54, 6, 21, 6, 2, 159, 0, 59, 42, 180, 0, 137, 21, 6, 51]
abbrev dktX1_opens_8 : List UInt8 := dkwX1_opens_8 ++ dktX1_opens_9
def dkwX1_opens_7 : List UInt8 := [4, 54, 4, 132, 6, 1, 167, 255, 177, 132, 5, 1, 167, 255, 161, 167, 255, 147, 45, 27, 46, 19, 1, 26]
abbrev dktX1_opens_7 : List UInt8 := dkwX1_opens_7 ++ dktX1_opens_8
def dkwX1_opens_6 : List UInt8 := [21, 7, 46, 161, 0, 6, 167, 0, 21, 45, 21, 7, 45, 21, 5, 46, 42, 21, 7, 182, 1, 249, 96, 79]
abbrev dktX1_opens_6 : List UInt8 := dkwX1_opens_6 ++ dktX1_opens_7
def dkwX1_opens_5 : List UInt8 := [180, 0, 44, 21, 7, 182, 1, 93, 153, 0, 42, 45, 21, 5, 46, 42, 21, 7, 182, 1, 249, 96, 45]
abbrev dktX1_opens_5 : List UInt8 := dkwX1_opens_5 ++ dktX1_opens_6
def dkwX1_opens_4 : List UInt8 := [162, 0, 79, 45, 21, 5, 46, 19, 1, 26, 162, 0, 69, 21, 5, 21, 6, 184, 0, 21, 54, 7, 42]
abbrev dktX1_opens_4 : List UInt8 := dkwX1_opens_4 ++ dktX1_opens_5
def dkwX1_opens_3 : List UInt8 := [21, 4, 153, 0, 110, 3, 54, 4, 3, 54, 5, 21, 5, 16, 64, 162, 0, 94, 3, 54, 6, 21, 6, 7]
abbrev dktX1_opens_3 : List UInt8 := dkwX1_opens_3 ++ dktX1_opens_4
def dkwX1_opens_2 : List UInt8 := [180, 0, 44, 28, 182, 1, 93, 154, 0, 5, 2, 172, 45, 28, 42, 28, 182, 1, 249, 79, 4, 54, 4]
abbrev dktX1_opens_2 : List UInt8 := dkwX1_opens_2 ++ dktX1_opens_3
def dkwX1_opens_1 : List UInt8 := [132, 4, 1, 167, 255, 239, 42, 3, 181, 1, 246, 42, 180, 0, 44, 27, 182, 1, 93, 153, 0, 14, 42]
abbrev dktX1_opens_1 : List UInt8 := dkwX1_opens_1 ++ dktX1_opens_2
def dkwX1_opens_0 : List UInt8 := [16, 64, 188, 10, 78, 3, 54, 4, 21, 4, 16, 64, 162, 0, 16, 45, 21, 4, 19, 1, 26, 79]
abbrev dktX1_opens_0 : List UInt8 := dkwX1_opens_0 ++ dktX1_opens_1
theorem dksX1_opens_0 : cX1_opens.data.toList.drop 0 = dktX1_opens_0 := by decide +kernel
theorem dksX1_opens_1 : cX1_opens.data.toList.drop 22 = dktX1_opens_1 := dk_seg dksX1_opens_0 22 rfl rfl
theorem dksX1_opens_2 : cX1_opens.data.toList.drop 45 = dktX1_opens_2 := dk_seg dksX1_opens_1 23 rfl rfl
theorem dksX1_opens_3 : cX1_opens.data.toList.drop 68 = dktX1_opens_3 := dk_seg dksX1_opens_2 23 rfl rfl
theorem dksX1_opens_4 : cX1_opens.data.toList.drop 92 = dktX1_opens_4 := dk_seg dksX1_opens_3 24 rfl rfl
theorem dksX1_opens_5 : cX1_opens.data.toList.drop 115 = dktX1_opens_5 := dk_seg dksX1_opens_4 23 rfl rfl
theorem dksX1_opens_6 : cX1_opens.data.toList.drop 138 = dktX1_opens_6 := dk_seg dksX1_opens_5 23 rfl rfl
theorem dksX1_opens_7 : cX1_opens.data.toList.drop 162 = dktX1_opens_7 := dk_seg dksX1_opens_6 24 rfl rfl
theorem dksX1_opens_8 : cX1_opens.data.toList.drop 186 = dktX1_opens_8 := dk_seg dksX1_opens_7 24 rfl rfl
theorem dksX1_opens_9 : cX1_opens.data.toList.drop 210 = dktX1_opens_9 := dk_seg dksX1_opens_8 24 rfl rfl
theorem dksX1_opens_10 : cX1_opens.data.toList.drop 234 = dktX1_opens_10 := dk_seg dksX1_opens_9 24 rfl rfl
theorem dksX1_opens_11 : cX1_opens.data.toList.drop 256 = dktX1_opens_11 := dk_seg dksX1_opens_10 22 rfl rfl
theorem dX1_opens_0 : decode cX1_opens 0 = .ok (.bipush 64, 2) := dk_16 64 (dk_at dksX1_opens_0 0 rfl rfl)
theorem dX1_opens_2 : decode cX1_opens 2 = .ok (.newarray .int, 2) := dk_188_10 (dk_at dksX1_opens_0 2 rfl rfl)
theorem dX1_opens_4 : decode cX1_opens 4 = .ok (.astore_n 3, 1) := dk_78 (dk_at dksX1_opens_0 4 rfl rfl)
theorem dX1_opens_5 : decode cX1_opens 5 = .ok (.iconst 0, 1) := dk_3 (dk_at dksX1_opens_0 5 rfl rfl)
theorem dX1_opens_6 : decode cX1_opens 6 = .ok (.istore 4, 2) := dk_54 4 (dk_at dksX1_opens_0 6 rfl rfl)
theorem dX1_opens_8 : decode cX1_opens 8 = .ok (.iload 4, 2) := dk_21 4 (dk_at dksX1_opens_0 8 rfl rfl)
theorem dX1_opens_10 : decode cX1_opens 10 = .ok (.bipush 64, 2) := dk_16 64 (dk_at dksX1_opens_0 10 rfl rfl)
theorem dX1_opens_12 : decode cX1_opens 12 = .ok (.if_icmp .ge 16, 3) := dk_162 0 16 (dk_at dksX1_opens_0 12 rfl rfl)
theorem dX1_opens_15 : decode cX1_opens 15 = .ok (.aload_n 3, 1) := dk_45 (dk_at dksX1_opens_0 15 rfl rfl)
theorem dX1_opens_16 : decode cX1_opens 16 = .ok (.iload 4, 2) := dk_21 4 (dk_at dksX1_opens_0 16 rfl rfl)
theorem dX1_opens_18 : decode cX1_opens 18 = .ok (.ldc_w 282, 3) := dk_19 1 26 (dk_at dksX1_opens_0 18 rfl rfl)
theorem dX1_opens_21 : decode cX1_opens 21 = .ok (.iastore, 1) := dk_79 (dk_at dksX1_opens_0 21 rfl rfl)
theorem dX1_opens_22 : decode cX1_opens 22 = .ok (.iinc 4 1, 3) := dk_132 4 1 (dk_at dksX1_opens_1 0 rfl rfl)
theorem dX1_opens_25 : decode cX1_opens 25 = .ok (.goto (-17), 3) := dk_167 255 239 (dk_at dksX1_opens_1 3 rfl rfl)
theorem dX1_opens_28 : decode cX1_opens 28 = .ok (.aload_n 0, 1) := dk_42 (dk_at dksX1_opens_1 6 rfl rfl)
theorem dX1_opens_29 : decode cX1_opens 29 = .ok (.iconst 0, 1) := dk_3 (dk_at dksX1_opens_1 7 rfl rfl)
theorem dX1_opens_30 : decode cX1_opens 30 = .ok (.putfield 502, 3) := dk_181 1 246 (dk_at dksX1_opens_1 8 rfl rfl)
theorem dX1_opens_33 : decode cX1_opens 33 = .ok (.aload_n 0, 1) := dk_42 (dk_at dksX1_opens_1 11 rfl rfl)
theorem dX1_opens_34 : decode cX1_opens 34 = .ok (.getfield 44, 3) := dk_180 0 44 (dk_at dksX1_opens_1 12 rfl rfl)
theorem dX1_opens_37 : decode cX1_opens 37 = .ok (.iload_n 1, 1) := dk_27 (dk_at dksX1_opens_1 15 rfl rfl)
theorem dX1_opens_38 : decode cX1_opens 38 = .ok (.invokevirtual 349, 3) := dk_182 1 93 (dk_at dksX1_opens_1 16 rfl rfl)
theorem dX1_opens_41 : decode cX1_opens 41 = .ok (.ifCond .eq 14, 3) := dk_153 0 14 (dk_at dksX1_opens_1 19 rfl rfl)
theorem dX1_opens_44 : decode cX1_opens 44 = .ok (.aload_n 0, 1) := dk_42 (dk_at dksX1_opens_1 22 rfl rfl)
theorem dX1_opens_45 : decode cX1_opens 45 = .ok (.getfield 44, 3) := dk_180 0 44 (dk_at dksX1_opens_2 0 rfl rfl)
theorem dX1_opens_48 : decode cX1_opens 48 = .ok (.iload_n 2, 1) := dk_28 (dk_at dksX1_opens_2 3 rfl rfl)
theorem dX1_opens_49 : decode cX1_opens 49 = .ok (.invokevirtual 349, 3) := dk_182 1 93 (dk_at dksX1_opens_2 4 rfl rfl)
theorem dX1_opens_52 : decode cX1_opens 52 = .ok (.ifCond .ne 5, 3) := dk_154 0 5 (dk_at dksX1_opens_2 7 rfl rfl)
theorem dX1_opens_55 : decode cX1_opens 55 = .ok (.iconst (-1), 1) := dk_2 (dk_at dksX1_opens_2 10 rfl rfl)
theorem dX1_opens_56 : decode cX1_opens 56 = .ok (.ireturn, 1) := dk_172 (dk_at dksX1_opens_2 11 rfl rfl)
theorem dX1_opens_57 : decode cX1_opens 57 = .ok (.aload_n 3, 1) := dk_45 (dk_at dksX1_opens_2 12 rfl rfl)
theorem dX1_opens_58 : decode cX1_opens 58 = .ok (.iload_n 2, 1) := dk_28 (dk_at dksX1_opens_2 13 rfl rfl)
theorem dX1_opens_59 : decode cX1_opens 59 = .ok (.aload_n 0, 1) := dk_42 (dk_at dksX1_opens_2 14 rfl rfl)
theorem dX1_opens_60 : decode cX1_opens 60 = .ok (.iload_n 2, 1) := dk_28 (dk_at dksX1_opens_2 15 rfl rfl)
theorem dX1_opens_61 : decode cX1_opens 61 = .ok (.invokevirtual 505, 3) := dk_182 1 249 (dk_at dksX1_opens_2 16 rfl rfl)
theorem dX1_opens_64 : decode cX1_opens 64 = .ok (.iastore, 1) := dk_79 (dk_at dksX1_opens_2 19 rfl rfl)
theorem dX1_opens_65 : decode cX1_opens 65 = .ok (.iconst 1, 1) := dk_4 (dk_at dksX1_opens_2 20 rfl rfl)
theorem dX1_opens_66 : decode cX1_opens 66 = .ok (.istore 4, 2) := dk_54 4 (dk_at dksX1_opens_2 21 rfl rfl)
theorem dX1_opens_68 : decode cX1_opens 68 = .ok (.iload 4, 2) := dk_21 4 (dk_at dksX1_opens_3 0 rfl rfl)
theorem dX1_opens_70 : decode cX1_opens 70 = .ok (.ifCond .eq 110, 3) := dk_153 0 110 (dk_at dksX1_opens_3 2 rfl rfl)
theorem dX1_opens_73 : decode cX1_opens 73 = .ok (.iconst 0, 1) := dk_3 (dk_at dksX1_opens_3 5 rfl rfl)
theorem dX1_opens_74 : decode cX1_opens 74 = .ok (.istore 4, 2) := dk_54 4 (dk_at dksX1_opens_3 6 rfl rfl)
theorem dX1_opens_76 : decode cX1_opens 76 = .ok (.iconst 0, 1) := dk_3 (dk_at dksX1_opens_3 8 rfl rfl)
theorem dX1_opens_77 : decode cX1_opens 77 = .ok (.istore 5, 2) := dk_54 5 (dk_at dksX1_opens_3 9 rfl rfl)
theorem dX1_opens_79 : decode cX1_opens 79 = .ok (.iload 5, 2) := dk_21 5 (dk_at dksX1_opens_3 11 rfl rfl)
theorem dX1_opens_81 : decode cX1_opens 81 = .ok (.bipush 64, 2) := dk_16 64 (dk_at dksX1_opens_3 13 rfl rfl)
theorem dX1_opens_83 : decode cX1_opens 83 = .ok (.if_icmp .ge 94, 3) := dk_162 0 94 (dk_at dksX1_opens_3 15 rfl rfl)
theorem dX1_opens_86 : decode cX1_opens 86 = .ok (.iconst 0, 1) := dk_3 (dk_at dksX1_opens_3 18 rfl rfl)
theorem dX1_opens_87 : decode cX1_opens 87 = .ok (.istore 6, 2) := dk_54 6 (dk_at dksX1_opens_3 19 rfl rfl)
theorem dX1_opens_89 : decode cX1_opens 89 = .ok (.iload 6, 2) := dk_21 6 (dk_at dksX1_opens_3 21 rfl rfl)
theorem dX1_opens_91 : decode cX1_opens 91 = .ok (.iconst 4, 1) := dk_7 (dk_at dksX1_opens_3 23 rfl rfl)
theorem dX1_opens_92 : decode cX1_opens 92 = .ok (.if_icmp .ge 79, 3) := dk_162 0 79 (dk_at dksX1_opens_4 0 rfl rfl)
theorem dX1_opens_95 : decode cX1_opens 95 = .ok (.aload_n 3, 1) := dk_45 (dk_at dksX1_opens_4 3 rfl rfl)
theorem dX1_opens_96 : decode cX1_opens 96 = .ok (.iload 5, 2) := dk_21 5 (dk_at dksX1_opens_4 4 rfl rfl)
theorem dX1_opens_98 : decode cX1_opens 98 = .ok (.iaload, 1) := dk_46 (dk_at dksX1_opens_4 6 rfl rfl)
theorem dX1_opens_99 : decode cX1_opens 99 = .ok (.ldc_w 282, 3) := dk_19 1 26 (dk_at dksX1_opens_4 7 rfl rfl)
theorem dX1_opens_102 : decode cX1_opens 102 = .ok (.if_icmp .ge 69, 3) := dk_162 0 69 (dk_at dksX1_opens_4 10 rfl rfl)
theorem dX1_opens_105 : decode cX1_opens 105 = .ok (.iload 5, 2) := dk_21 5 (dk_at dksX1_opens_4 13 rfl rfl)
theorem dX1_opens_107 : decode cX1_opens 107 = .ok (.iload 6, 2) := dk_21 6 (dk_at dksX1_opens_4 15 rfl rfl)
theorem dX1_opens_109 : decode cX1_opens 109 = .ok (.invokestatic 21, 3) := dk_184 0 21 (dk_at dksX1_opens_4 17 rfl rfl)
theorem dX1_opens_112 : decode cX1_opens 112 = .ok (.istore 7, 2) := dk_54 7 (dk_at dksX1_opens_4 20 rfl rfl)
theorem dX1_opens_114 : decode cX1_opens 114 = .ok (.aload_n 0, 1) := dk_42 (dk_at dksX1_opens_4 22 rfl rfl)
theorem dX1_opens_115 : decode cX1_opens 115 = .ok (.getfield 44, 3) := dk_180 0 44 (dk_at dksX1_opens_5 0 rfl rfl)
theorem dX1_opens_118 : decode cX1_opens 118 = .ok (.iload 7, 2) := dk_21 7 (dk_at dksX1_opens_5 3 rfl rfl)
theorem dX1_opens_120 : decode cX1_opens 120 = .ok (.invokevirtual 349, 3) := dk_182 1 93 (dk_at dksX1_opens_5 5 rfl rfl)
theorem dX1_opens_123 : decode cX1_opens 123 = .ok (.ifCond .eq 42, 3) := dk_153 0 42 (dk_at dksX1_opens_5 8 rfl rfl)
theorem dX1_opens_126 : decode cX1_opens 126 = .ok (.aload_n 3, 1) := dk_45 (dk_at dksX1_opens_5 11 rfl rfl)
theorem dX1_opens_127 : decode cX1_opens 127 = .ok (.iload 5, 2) := dk_21 5 (dk_at dksX1_opens_5 12 rfl rfl)
theorem dX1_opens_129 : decode cX1_opens 129 = .ok (.iaload, 1) := dk_46 (dk_at dksX1_opens_5 14 rfl rfl)
theorem dX1_opens_130 : decode cX1_opens 130 = .ok (.aload_n 0, 1) := dk_42 (dk_at dksX1_opens_5 15 rfl rfl)
theorem dX1_opens_131 : decode cX1_opens 131 = .ok (.iload 7, 2) := dk_21 7 (dk_at dksX1_opens_5 16 rfl rfl)
theorem dX1_opens_133 : decode cX1_opens 133 = .ok (.invokevirtual 505, 3) := dk_182 1 249 (dk_at dksX1_opens_5 18 rfl rfl)
theorem dX1_opens_136 : decode cX1_opens 136 = .ok (.iadd, 1) := dk_96 (dk_at dksX1_opens_5 21 rfl rfl)
theorem dX1_opens_137 : decode cX1_opens 137 = .ok (.aload_n 3, 1) := dk_45 (dk_at dksX1_opens_5 22 rfl rfl)
theorem dX1_opens_138 : decode cX1_opens 138 = .ok (.iload 7, 2) := dk_21 7 (dk_at dksX1_opens_6 0 rfl rfl)
theorem dX1_opens_140 : decode cX1_opens 140 = .ok (.iaload, 1) := dk_46 (dk_at dksX1_opens_6 2 rfl rfl)
theorem dX1_opens_141 : decode cX1_opens 141 = .ok (.if_icmp .lt 6, 3) := dk_161 0 6 (dk_at dksX1_opens_6 3 rfl rfl)
theorem dX1_opens_144 : decode cX1_opens 144 = .ok (.goto 21, 3) := dk_167 0 21 (dk_at dksX1_opens_6 6 rfl rfl)
theorem dX1_opens_147 : decode cX1_opens 147 = .ok (.aload_n 3, 1) := dk_45 (dk_at dksX1_opens_6 9 rfl rfl)
theorem dX1_opens_148 : decode cX1_opens 148 = .ok (.iload 7, 2) := dk_21 7 (dk_at dksX1_opens_6 10 rfl rfl)
theorem dX1_opens_150 : decode cX1_opens 150 = .ok (.aload_n 3, 1) := dk_45 (dk_at dksX1_opens_6 12 rfl rfl)
theorem dX1_opens_151 : decode cX1_opens 151 = .ok (.iload 5, 2) := dk_21 5 (dk_at dksX1_opens_6 13 rfl rfl)
theorem dX1_opens_153 : decode cX1_opens 153 = .ok (.iaload, 1) := dk_46 (dk_at dksX1_opens_6 15 rfl rfl)
theorem dX1_opens_154 : decode cX1_opens 154 = .ok (.aload_n 0, 1) := dk_42 (dk_at dksX1_opens_6 16 rfl rfl)
theorem dX1_opens_155 : decode cX1_opens 155 = .ok (.iload 7, 2) := dk_21 7 (dk_at dksX1_opens_6 17 rfl rfl)
theorem dX1_opens_157 : decode cX1_opens 157 = .ok (.invokevirtual 505, 3) := dk_182 1 249 (dk_at dksX1_opens_6 19 rfl rfl)
theorem dX1_opens_160 : decode cX1_opens 160 = .ok (.iadd, 1) := dk_96 (dk_at dksX1_opens_6 22 rfl rfl)
theorem dX1_opens_161 : decode cX1_opens 161 = .ok (.iastore, 1) := dk_79 (dk_at dksX1_opens_6 23 rfl rfl)
theorem dX1_opens_162 : decode cX1_opens 162 = .ok (.iconst 1, 1) := dk_4 (dk_at dksX1_opens_7 0 rfl rfl)
theorem dX1_opens_163 : decode cX1_opens 163 = .ok (.istore 4, 2) := dk_54 4 (dk_at dksX1_opens_7 1 rfl rfl)
theorem dX1_opens_165 : decode cX1_opens 165 = .ok (.iinc 6 1, 3) := dk_132 6 1 (dk_at dksX1_opens_7 3 rfl rfl)
theorem dX1_opens_168 : decode cX1_opens 168 = .ok (.goto (-79), 3) := dk_167 255 177 (dk_at dksX1_opens_7 6 rfl rfl)
theorem dX1_opens_171 : decode cX1_opens 171 = .ok (.iinc 5 1, 3) := dk_132 5 1 (dk_at dksX1_opens_7 9 rfl rfl)
theorem dX1_opens_174 : decode cX1_opens 174 = .ok (.goto (-95), 3) := dk_167 255 161 (dk_at dksX1_opens_7 12 rfl rfl)
theorem dX1_opens_177 : decode cX1_opens 177 = .ok (.goto (-109), 3) := dk_167 255 147 (dk_at dksX1_opens_7 15 rfl rfl)
theorem dX1_opens_180 : decode cX1_opens 180 = .ok (.aload_n 3, 1) := dk_45 (dk_at dksX1_opens_7 18 rfl rfl)
theorem dX1_opens_181 : decode cX1_opens 181 = .ok (.iload_n 1, 1) := dk_27 (dk_at dksX1_opens_7 19 rfl rfl)
theorem dX1_opens_182 : decode cX1_opens 182 = .ok (.iaload, 1) := dk_46 (dk_at dksX1_opens_7 20 rfl rfl)
theorem dX1_opens_183 : decode cX1_opens 183 = .ok (.ldc_w 282, 3) := dk_19 1 26 (dk_at dksX1_opens_7 21 rfl rfl)
theorem dX1_opens_186 : decode cX1_opens 186 = .ok (.if_icmp .ne 5, 3) := dk_160 0 5 (dk_at dksX1_opens_8 0 rfl rfl)
theorem dX1_opens_189 : decode cX1_opens 189 = .ok (.iconst (-1), 1) := dk_2 (dk_at dksX1_opens_8 3 rfl rfl)
theorem dX1_opens_190 : decode cX1_opens 190 = .ok (.ireturn, 1) := dk_172 (dk_at dksX1_opens_8 4 rfl rfl)
theorem dX1_opens_191 : decode cX1_opens 191 = .ok (.iconst 0, 1) := dk_3 (dk_at dksX1_opens_8 5 rfl rfl)
theorem dX1_opens_192 : decode cX1_opens 192 = .ok (.istore 5, 2) := dk_54 5 (dk_at dksX1_opens_8 6 rfl rfl)
theorem dX1_opens_194 : decode cX1_opens 194 = .ok (.iload_n 1, 1) := dk_27 (dk_at dksX1_opens_8 8 rfl rfl)
theorem dX1_opens_195 : decode cX1_opens 195 = .ok (.istore 6, 2) := dk_54 6 (dk_at dksX1_opens_8 9 rfl rfl)
theorem dX1_opens_197 : decode cX1_opens 197 = .ok (.iload 6, 2) := dk_21 6 (dk_at dksX1_opens_8 11 rfl rfl)
theorem dX1_opens_199 : decode cX1_opens 199 = .ok (.iconst (-1), 1) := dk_2 (dk_at dksX1_opens_8 13 rfl rfl)
theorem dX1_opens_200 : decode cX1_opens 200 = .ok (.if_icmp .eq 59, 3) := dk_159 0 59 (dk_at dksX1_opens_8 14 rfl rfl)
theorem dX1_opens_203 : decode cX1_opens 203 = .ok (.aload_n 0, 1) := dk_42 (dk_at dksX1_opens_8 17 rfl rfl)
theorem dX1_opens_204 : decode cX1_opens 204 = .ok (.getfield 137, 3) := dk_180 0 137 (dk_at dksX1_opens_8 18 rfl rfl)
theorem dX1_opens_207 : decode cX1_opens 207 = .ok (.iload 6, 2) := dk_21 6 (dk_at dksX1_opens_8 21 rfl rfl)
theorem dX1_opens_209 : decode cX1_opens 209 = .ok (.baload, 1) := dk_51 (dk_at dksX1_opens_8 23 rfl rfl)
theorem dX1_opens_210 : decode cX1_opens 210 = .ok (.ifCond .eq 6, 3) := dk_153 0 6 (dk_at dksX1_opens_9 0 rfl rfl)
theorem dX1_opens_213 : decode cX1_opens 213 = .ok (.goto 33, 3) := dk_167 0 33 (dk_at dksX1_opens_9 3 rfl rfl)
theorem dX1_opens_216 : decode cX1_opens 216 = .ok (.aload_n 0, 1) := dk_42 (dk_at dksX1_opens_9 6 rfl rfl)
theorem dX1_opens_217 : decode cX1_opens 217 = .ok (.getfield 115, 3) := dk_180 0 115 (dk_at dksX1_opens_9 7 rfl rfl)
theorem dX1_opens_220 : decode cX1_opens 220 = .ok (.aload_n 0, 1) := dk_42 (dk_at dksX1_opens_9 10 rfl rfl)
theorem dX1_opens_221 : decode cX1_opens 221 = .ok (.dup, 1) := dk_89 (dk_at dksX1_opens_9 11 rfl rfl)
theorem dX1_opens_222 : decode cX1_opens 222 = .ok (.getfield 502, 3) := dk_180 1 246 (dk_at dksX1_opens_9 12 rfl rfl)
theorem dX1_opens_225 : decode cX1_opens 225 = .ok (.dup_x1, 1) := dk_90 (dk_at dksX1_opens_9 15 rfl rfl)
theorem dX1_opens_226 : decode cX1_opens 226 = .ok (.iconst 1, 1) := dk_4 (dk_at dksX1_opens_9 16 rfl rfl)
theorem dX1_opens_227 : decode cX1_opens 227 = .ok (.iadd, 1) := dk_96 (dk_at dksX1_opens_9 17 rfl rfl)
theorem dX1_opens_228 : decode cX1_opens 228 = .ok (.putfield 502, 3) := dk_181 1 246 (dk_at dksX1_opens_9 18 rfl rfl)
theorem dX1_opens_231 : decode cX1_opens 231 = .ok (.iload 6, 2) := dk_21 6 (dk_at dksX1_opens_9 21 rfl rfl)
theorem dX1_opens_233 : decode cX1_opens 233 = .ok (.iastore, 1) := dk_79 (dk_at dksX1_opens_9 23 rfl rfl)
theorem dX1_opens_234 : decode cX1_opens 234 = .ok (.iload 5, 2) := dk_21 5 (dk_at dksX1_opens_10 0 rfl rfl)
theorem dX1_opens_236 : decode cX1_opens 236 = .ok (.aload_n 0, 1) := dk_42 (dk_at dksX1_opens_10 2 rfl rfl)
theorem dX1_opens_237 : decode cX1_opens 237 = .ok (.getfield 103, 3) := dk_180 0 103 (dk_at dksX1_opens_10 3 rfl rfl)
theorem dX1_opens_240 : decode cX1_opens 240 = .ok (.iload 6, 2) := dk_21 6 (dk_at dksX1_opens_10 6 rfl rfl)
theorem dX1_opens_242 : decode cX1_opens 242 = .ok (.iaload, 1) := dk_46 (dk_at dksX1_opens_10 8 rfl rfl)
theorem dX1_opens_243 : decode cX1_opens 243 = .ok (.iadd, 1) := dk_96 (dk_at dksX1_opens_10 9 rfl rfl)
theorem dX1_opens_244 : decode cX1_opens 244 = .ok (.istore 5, 2) := dk_54 5 (dk_at dksX1_opens_10 10 rfl rfl)
theorem dX1_opens_246 : decode cX1_opens 246 = .ok (.aload_n 0, 1) := dk_42 (dk_at dksX1_opens_10 12 rfl rfl)
theorem dX1_opens_247 : decode cX1_opens 247 = .ok (.aload_n 3, 1) := dk_45 (dk_at dksX1_opens_10 13 rfl rfl)
theorem dX1_opens_248 : decode cX1_opens 248 = .ok (.iload 6, 2) := dk_21 6 (dk_at dksX1_opens_10 14 rfl rfl)
theorem dX1_opens_250 : decode cX1_opens 250 = .ok (.iload_n 2, 1) := dk_28 (dk_at dksX1_opens_10 16 rfl rfl)
theorem dX1_opens_251 : decode cX1_opens 251 = .ok (.invokevirtual 508, 3) := dk_182 1 252 (dk_at dksX1_opens_10 17 rfl rfl)
theorem dX1_opens_254 : decode cX1_opens 254 = .ok (.istore 6, 2) := dk_54 6 (dk_at dksX1_opens_10 20 rfl rfl)
theorem dX1_opens_256 : decode cX1_opens 256 = .ok (.goto (-59), 3) := dk_167 255 197 (dk_at dksX1_opens_11 0 rfl rfl)
theorem dX1_opens_259 : decode cX1_opens 259 = .ok (.iload 5, 2) := dk_21 5 (dk_at dksX1_opens_11 3 rfl rfl)
theorem dX1_opens_261 : decode cX1_opens 261 = .ok (.ireturn, 1) := dk_172 (dk_at dksX1_opens_11 5 rfl rfl)
def dkwX1_weight_1 : List UInt8 := [16, 101, 96, 172]
abbrev dktX1_weight_1 : List UInt8 := dkwX1_weight_1 ++ []
def dkwX1_weight_0 : List UInt8 := [42, 180, 0, 137, 27, 51, 153, 0, 7, 4, 167, 0, 16, 17, 39, 16, 42, 180, 0, 103, 27, 46, 104]
abbrev dktX1_weight_0 : List UInt8 := dkwX1_weight_0 ++ dktX1_weight_1
theorem dksX1_weight_0 : cX1_weight.data.toList.drop 0 = dktX1_weight_0 := by decide +kernel
theorem dksX1_weight_1 : cX1_weight.data.toList.drop 23 = dktX1_weight_1 := dk_seg dksX1_weight_0 23 rfl rfl
theorem dX1_weight_0 : decode cX1_weight 0 = .ok (.aload_n 0, 1) := dk_42 (dk_at dksX1_weight_0 0 rfl rfl)
theorem dX1_weight_1 : decode cX1_weight 1 = .ok (.getfield 137, 3) := dk_180 0 137 (dk_at dksX1_weight_0 1 rfl rfl)
theorem dX1_weight_4 : decode cX1_weight 4 = .ok (.iload_n 1, 1) := dk_27 (dk_at dksX1_weight_0 4 rfl rfl)
theorem dX1_weight_5 : decode cX1_weight 5 = .ok (.baload, 1) := dk_51 (dk_at dksX1_weight_0 5 rfl rfl)
theorem dX1_weight_6 : decode cX1_weight 6 = .ok (.ifCond .eq 7, 3) := dk_153 0 7 (dk_at dksX1_weight_0 6 rfl rfl)
theorem dX1_weight_9 : decode cX1_weight 9 = .ok (.iconst 1, 1) := dk_4 (dk_at dksX1_weight_0 9 rfl rfl)
theorem dX1_weight_10 : decode cX1_weight 10 = .ok (.goto 16, 3) := dk_167 0 16 (dk_at dksX1_weight_0 10 rfl rfl)
theorem dX1_weight_13 : decode cX1_weight 13 = .ok (.sipush 10000, 3) := dk_17 39 16 (dk_at dksX1_weight_0 13 rfl rfl)
theorem dX1_weight_16 : decode cX1_weight 16 = .ok (.aload_n 0, 1) := dk_42 (dk_at dksX1_weight_0 16 rfl rfl)
theorem dX1_weight_17 : decode cX1_weight 17 = .ok (.getfield 103, 3) := dk_180 0 103 (dk_at dksX1_weight_0 17 rfl rfl)
theorem dX1_weight_20 : decode cX1_weight 20 = .ok (.iload_n 1, 1) := dk_27 (dk_at dksX1_weight_0 20 rfl rfl)
theorem dX1_weight_21 : decode cX1_weight 21 = .ok (.iaload, 1) := dk_46 (dk_at dksX1_weight_0 21 rfl rfl)
theorem dX1_weight_22 : decode cX1_weight 22 = .ok (.imul, 1) := dk_104 (dk_at dksX1_weight_0 22 rfl rfl)
theorem dX1_weight_23 : decode cX1_weight 23 = .ok (.bipush 101, 2) := dk_16 101 (dk_at dksX1_weight_1 0 rfl rfl)
theorem dX1_weight_25 : decode cX1_weight 25 = .ok (.iadd, 1) := dk_96 (dk_at dksX1_weight_1 2 rfl rfl)
theorem dX1_weight_26 : decode cX1_weight 26 = .ok (.ireturn, 1) := dk_172 (dk_at dksX1_weight_1 3 rfl rfl)
def dkwX1_onward_2 : List UInt8 := [132, 4, 1, 167, 255, 217, 28, 21, 4, 184, 0, 21, 172]
abbrev dktX1_onward_2 : List UInt8 := dkwX1_onward_2 ++ []
def dkwX1_onward_1 : List UInt8 := [153, 0, 23, 43, 28, 21, 4, 184, 0, 21, 46, 43, 28, 46, 42, 28, 182, 1, 249, 100, 159, 0, 9]
abbrev dktX1_onward_1 : List UInt8 := dkwX1_onward_1 ++ dktX1_onward_2
def dkwX1_onward_0 : List UInt8 := [28, 29, 160, 0, 5, 2, 172, 3, 54, 4, 42, 180, 0, 44, 28, 21, 4, 184, 0, 21, 182, 1, 93]
abbrev dktX1_onward_0 : List UInt8 := dkwX1_onward_0 ++ dktX1_onward_1
theorem dksX1_onward_0 : cX1_onward.data.toList.drop 0 = dktX1_onward_0 := by decide +kernel
theorem dksX1_onward_1 : cX1_onward.data.toList.drop 23 = dktX1_onward_1 := dk_seg dksX1_onward_0 23 rfl rfl
theorem dksX1_onward_2 : cX1_onward.data.toList.drop 46 = dktX1_onward_2 := dk_seg dksX1_onward_1 23 rfl rfl
theorem dX1_onward_0 : decode cX1_onward 0 = .ok (.iload_n 2, 1) := dk_28 (dk_at dksX1_onward_0 0 rfl rfl)
theorem dX1_onward_1 : decode cX1_onward 1 = .ok (.iload_n 3, 1) := dk_29 (dk_at dksX1_onward_0 1 rfl rfl)
theorem dX1_onward_2 : decode cX1_onward 2 = .ok (.if_icmp .ne 5, 3) := dk_160 0 5 (dk_at dksX1_onward_0 2 rfl rfl)
theorem dX1_onward_5 : decode cX1_onward 5 = .ok (.iconst (-1), 1) := dk_2 (dk_at dksX1_onward_0 5 rfl rfl)
theorem dX1_onward_6 : decode cX1_onward 6 = .ok (.ireturn, 1) := dk_172 (dk_at dksX1_onward_0 6 rfl rfl)
theorem dX1_onward_7 : decode cX1_onward 7 = .ok (.iconst 0, 1) := dk_3 (dk_at dksX1_onward_0 7 rfl rfl)
theorem dX1_onward_8 : decode cX1_onward 8 = .ok (.istore 4, 2) := dk_54 4 (dk_at dksX1_onward_0 8 rfl rfl)
theorem dX1_onward_10 : decode cX1_onward 10 = .ok (.aload_n 0, 1) := dk_42 (dk_at dksX1_onward_0 10 rfl rfl)
theorem dX1_onward_11 : decode cX1_onward 11 = .ok (.getfield 44, 3) := dk_180 0 44 (dk_at dksX1_onward_0 11 rfl rfl)
theorem dX1_onward_14 : decode cX1_onward 14 = .ok (.iload_n 2, 1) := dk_28 (dk_at dksX1_onward_0 14 rfl rfl)
theorem dX1_onward_15 : decode cX1_onward 15 = .ok (.iload 4, 2) := dk_21 4 (dk_at dksX1_onward_0 15 rfl rfl)
theorem dX1_onward_17 : decode cX1_onward 17 = .ok (.invokestatic 21, 3) := dk_184 0 21 (dk_at dksX1_onward_0 17 rfl rfl)
theorem dX1_onward_20 : decode cX1_onward 20 = .ok (.invokevirtual 349, 3) := dk_182 1 93 (dk_at dksX1_onward_0 20 rfl rfl)
theorem dX1_onward_23 : decode cX1_onward 23 = .ok (.ifCond .eq 23, 3) := dk_153 0 23 (dk_at dksX1_onward_1 0 rfl rfl)
theorem dX1_onward_26 : decode cX1_onward 26 = .ok (.aload_n 1, 1) := dk_43 (dk_at dksX1_onward_1 3 rfl rfl)
theorem dX1_onward_27 : decode cX1_onward 27 = .ok (.iload_n 2, 1) := dk_28 (dk_at dksX1_onward_1 4 rfl rfl)
theorem dX1_onward_28 : decode cX1_onward 28 = .ok (.iload 4, 2) := dk_21 4 (dk_at dksX1_onward_1 5 rfl rfl)
theorem dX1_onward_30 : decode cX1_onward 30 = .ok (.invokestatic 21, 3) := dk_184 0 21 (dk_at dksX1_onward_1 7 rfl rfl)
theorem dX1_onward_33 : decode cX1_onward 33 = .ok (.iaload, 1) := dk_46 (dk_at dksX1_onward_1 10 rfl rfl)
theorem dX1_onward_34 : decode cX1_onward 34 = .ok (.aload_n 1, 1) := dk_43 (dk_at dksX1_onward_1 11 rfl rfl)
theorem dX1_onward_35 : decode cX1_onward 35 = .ok (.iload_n 2, 1) := dk_28 (dk_at dksX1_onward_1 12 rfl rfl)
theorem dX1_onward_36 : decode cX1_onward 36 = .ok (.iaload, 1) := dk_46 (dk_at dksX1_onward_1 13 rfl rfl)
theorem dX1_onward_37 : decode cX1_onward 37 = .ok (.aload_n 0, 1) := dk_42 (dk_at dksX1_onward_1 14 rfl rfl)
theorem dX1_onward_38 : decode cX1_onward 38 = .ok (.iload_n 2, 1) := dk_28 (dk_at dksX1_onward_1 15 rfl rfl)
theorem dX1_onward_39 : decode cX1_onward 39 = .ok (.invokevirtual 505, 3) := dk_182 1 249 (dk_at dksX1_onward_1 16 rfl rfl)
theorem dX1_onward_42 : decode cX1_onward 42 = .ok (.isub, 1) := dk_100 (dk_at dksX1_onward_1 19 rfl rfl)
theorem dX1_onward_43 : decode cX1_onward 43 = .ok (.if_icmp .eq 9, 3) := dk_159 0 9 (dk_at dksX1_onward_1 20 rfl rfl)
theorem dX1_onward_46 : decode cX1_onward 46 = .ok (.iinc 4 1, 3) := dk_132 4 1 (dk_at dksX1_onward_2 0 rfl rfl)
theorem dX1_onward_49 : decode cX1_onward 49 = .ok (.goto (-39), 3) := dk_167 255 217 (dk_at dksX1_onward_2 3 rfl rfl)
theorem dX1_onward_52 : decode cX1_onward 52 = .ok (.iload_n 2, 1) := dk_28 (dk_at dksX1_onward_2 6 rfl rfl)
theorem dX1_onward_53 : decode cX1_onward 53 = .ok (.iload 4, 2) := dk_21 4 (dk_at dksX1_onward_2 7 rfl rfl)
theorem dX1_onward_55 : decode cX1_onward 55 = .ok (.invokestatic 21, 3) := dk_184 0 21 (dk_at dksX1_onward_2 9 rfl rfl)
theorem dX1_onward_58 : decode cX1_onward 58 = .ok (.ireturn, 1) := dk_172 (dk_at dksX1_onward_2 12 rfl rfl)
def dkwX1_gap_1 : List UInt8 := [4, 100, 184, 0, 163, 153, 0, 12, 42, 180, 0, 115, 29, 46, 167, 0, 4, 2, 172]
abbrev dktX1_gap_1 : List UInt8 := dkwX1_gap_1 ++ []
def dkwX1_gap_0 : List UInt8 := [27, 184, 0, 170, 28, 184, 0, 170, 42, 27, 28, 182, 2, 0, 2, 159, 0, 26, 29, 3, 42, 180, 1, 246]
abbrev dktX1_gap_0 : List UInt8 := dkwX1_gap_0 ++ dktX1_gap_1
theorem dksX1_gap_0 : cX1_gap.data.toList.drop 0 = dktX1_gap_0 := by decide +kernel
theorem dksX1_gap_1 : cX1_gap.data.toList.drop 24 = dktX1_gap_1 := dk_seg dksX1_gap_0 24 rfl rfl
theorem dX1_gap_0 : decode cX1_gap 0 = .ok (.iload_n 1, 1) := dk_27 (dk_at dksX1_gap_0 0 rfl rfl)
theorem dX1_gap_1 : decode cX1_gap 1 = .ok (.invokestatic 170, 3) := dk_184 0 170 (dk_at dksX1_gap_0 1 rfl rfl)
theorem dX1_gap_4 : decode cX1_gap 4 = .ok (.iload_n 2, 1) := dk_28 (dk_at dksX1_gap_0 4 rfl rfl)
theorem dX1_gap_5 : decode cX1_gap 5 = .ok (.invokestatic 170, 3) := dk_184 0 170 (dk_at dksX1_gap_0 5 rfl rfl)
theorem dX1_gap_8 : decode cX1_gap 8 = .ok (.aload_n 0, 1) := dk_42 (dk_at dksX1_gap_0 8 rfl rfl)
theorem dX1_gap_9 : decode cX1_gap 9 = .ok (.iload_n 1, 1) := dk_27 (dk_at dksX1_gap_0 9 rfl rfl)
theorem dX1_gap_10 : decode cX1_gap 10 = .ok (.iload_n 2, 1) := dk_28 (dk_at dksX1_gap_0 10 rfl rfl)
theorem dX1_gap_11 : decode cX1_gap 11 = .ok (.invokevirtual 512, 3) := dk_182 2 0 (dk_at dksX1_gap_0 11 rfl rfl)
theorem dX1_gap_14 : decode cX1_gap 14 = .ok (.iconst (-1), 1) := dk_2 (dk_at dksX1_gap_0 14 rfl rfl)
theorem dX1_gap_15 : decode cX1_gap 15 = .ok (.if_icmp .eq 26, 3) := dk_159 0 26 (dk_at dksX1_gap_0 15 rfl rfl)
theorem dX1_gap_18 : decode cX1_gap 18 = .ok (.iload_n 3, 1) := dk_29 (dk_at dksX1_gap_0 18 rfl rfl)
theorem dX1_gap_19 : decode cX1_gap 19 = .ok (.iconst 0, 1) := dk_3 (dk_at dksX1_gap_0 19 rfl rfl)
theorem dX1_gap_20 : decode cX1_gap 20 = .ok (.aload_n 0, 1) := dk_42 (dk_at dksX1_gap_0 20 rfl rfl)
theorem dX1_gap_21 : decode cX1_gap 21 = .ok (.getfield 502, 3) := dk_180 1 246 (dk_at dksX1_gap_0 21 rfl rfl)
theorem dX1_gap_24 : decode cX1_gap 24 = .ok (.iconst 1, 1) := dk_4 (dk_at dksX1_gap_1 0 rfl rfl)
theorem dX1_gap_25 : decode cX1_gap 25 = .ok (.isub, 1) := dk_100 (dk_at dksX1_gap_1 1 rfl rfl)
theorem dX1_gap_26 : decode cX1_gap 26 = .ok (.invokestatic 163, 3) := dk_184 0 163 (dk_at dksX1_gap_1 2 rfl rfl)
theorem dX1_gap_29 : decode cX1_gap 29 = .ok (.ifCond .eq 12, 3) := dk_153 0 12 (dk_at dksX1_gap_1 5 rfl rfl)
theorem dX1_gap_32 : decode cX1_gap 32 = .ok (.aload_n 0, 1) := dk_42 (dk_at dksX1_gap_1 8 rfl rfl)
theorem dX1_gap_33 : decode cX1_gap 33 = .ok (.getfield 115, 3) := dk_180 0 115 (dk_at dksX1_gap_1 9 rfl rfl)
theorem dX1_gap_36 : decode cX1_gap 36 = .ok (.iload_n 3, 1) := dk_29 (dk_at dksX1_gap_1 12 rfl rfl)
theorem dX1_gap_37 : decode cX1_gap 37 = .ok (.iaload, 1) := dk_46 (dk_at dksX1_gap_1 13 rfl rfl)
theorem dX1_gap_38 : decode cX1_gap 38 = .ok (.goto 4, 3) := dk_167 0 4 (dk_at dksX1_gap_1 14 rfl rfl)
theorem dX1_gap_41 : decode cX1_gap 41 = .ok (.iconst (-1), 1) := dk_2 (dk_at dksX1_gap_1 17 rfl rfl)
theorem dX1_gap_42 : decode cX1_gap 42 = .ok (.ireturn, 1) := dk_172 (dk_at dksX1_gap_1 18 rfl rfl)
