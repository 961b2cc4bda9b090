set_option maxRecDepth 100000
theorem dX10_night_156 : decode cX10_night 156 = .ok (.iaload, 1) := dk_46 (dk_at dksX10_night_6 16 rfl rfl)
theorem dX10_night_157 : decode cX10_night 157 = .ok (.iastore, 1) := dk_79 (dk_at dksX10_night_6 17 rfl rfl)
theorem dX10_night_158 : decode cX10_night 158 = .ok (.iinc 3 1, 3) := dk_132 3 1 (dk_at dksX10_night_6 18 rfl rfl)
theorem dX10_night_161 : decode cX10_night 161 = .ok (.goto (-22), 3) := dk_167 255 234 (dk_at dksX10_night_6 21 rfl rfl)
theorem dX10_night_164 : decode cX10_night 164 = .ok (.iconst 0, 1) := dk_3 (dk_at dksX10_night_7 0 rfl rfl)
theorem dX10_night_165 : decode cX10_night 165 = .ok (.istore_n 3, 1) := dk_62 (dk_at dksX10_night_7 1 rfl rfl)
theorem dX10_night_166 : decode cX10_night 166 = .ok (.iload_n 3, 1) := dk_29 (dk_at dksX10_night_7 2 rfl rfl)
theorem dX10_night_167 : decode cX10_night 167 = .ok (.bipush 10, 2) := dk_16 10 (dk_at dksX10_night_7 3 rfl rfl)
theorem dX10_night_169 : decode cX10_night 169 = .ok (.if_icmp .ge 38, 3) := dk_162 0 38 (dk_at dksX10_night_7 5 rfl rfl)
theorem dX10_night_172 : decode cX10_night 172 = .ok (.aload_n 0, 1) := dk_42 (dk_at dksX10_night_7 8 rfl rfl)
theorem dX10_night_173 : decode cX10_night 173 = .ok (.getfield 107, 3) := dk_180 0 107 (dk_at dksX10_night_7 9 rfl rfl)
theorem dX10_night_176 : decode cX10_night 176 = .ok (.iload_n 3, 1) := dk_29 (dk_at dksX10_night_7 12 rfl rfl)
theorem dX10_night_177 : decode cX10_night 177 = .ok (.iaload, 1) := dk_46 (dk_at dksX10_night_7 13 rfl rfl)
theorem dX10_night_178 : decode cX10_night 178 = .ok (.ifCond .le 23, 3) := dk_158 0 23 (dk_at dksX10_night_7 14 rfl rfl)
theorem dX10_night_181 : decode cX10_night 181 = .ok (.aload_n 0, 1) := dk_42 (dk_at dksX10_night_7 17 rfl rfl)
theorem dX10_night_182 : decode cX10_night 182 = .ok (.getfield 469, 3) := dk_180 1 213 (dk_at dksX10_night_7 18 rfl rfl)
theorem dX10_night_185 : decode cX10_night 185 = .ok (.bipush 60, 2) := dk_16 60 (dk_at dksX10_night_7 21 rfl rfl)
theorem dX10_night_187 : decode cX10_night 187 = .ok (.if_icmp .ge 14, 3) := dk_162 0 14 (dk_at dksX10_night_8 0 rfl rfl)
theorem dX10_night_190 : decode cX10_night 190 = .ok (.aload_n 0, 1) := dk_42 (dk_at dksX10_night_8 3 rfl rfl)
theorem dX10_night_191 : decode cX10_night 191 = .ok (.iload_n 3, 1) := dk_29 (dk_at dksX10_night_8 4 rfl rfl)
theorem dX10_night_192 : decode cX10_night 192 = .ok (.aload_n 0, 1) := dk_42 (dk_at dksX10_night_8 5 rfl rfl)
theorem dX10_night_193 : decode cX10_night 193 = .ok (.getfield 107, 3) := dk_180 0 107 (dk_at dksX10_night_8 6 rfl rfl)
theorem dX10_night_196 : decode cX10_night 196 = .ok (.iload_n 3, 1) := dk_29 (dk_at dksX10_night_8 9 rfl rfl)
theorem dX10_night_197 : decode cX10_night 197 = .ok (.iaload, 1) := dk_46 (dk_at dksX10_night_8 10 rfl rfl)
theorem dX10_night_198 : decode cX10_night 198 = .ok (.invokevirtual 472, 3) := dk_182 1 216 (dk_at dksX10_night_8 11 rfl rfl)
theorem dX10_night_201 : decode cX10_night 201 = .ok (.iinc 3 1, 3) := dk_132 3 1 (dk_at dksX10_night_8 14 rfl rfl)
theorem dX10_night_204 : decode cX10_night 204 = .ok (.goto (-38), 3) := dk_167 255 218 (dk_at dksX10_night_8 17 rfl rfl)
theorem dX10_night_207 : decode cX10_night 207 = .ok (.aload_n 0, 1) := dk_42 (dk_at dksX10_night_8 20 rfl rfl)
theorem dX10_night_208 : decode cX10_night 208 = .ok (.iconst 0, 1) := dk_3 (dk_at dksX10_night_8 21 rfl rfl)
theorem dX10_night_209 : decode cX10_night 209 = .ok (.putfield 474, 3) := dk_181 1 218 (dk_at dksX10_night_9 0 rfl rfl)
theorem dX10_night_212 : decode cX10_night 212 = .ok (.iconst 0, 1) := dk_3 (dk_at dksX10_night_9 3 rfl rfl)
theorem dX10_night_213 : decode cX10_night 213 = .ok (.istore_n 3, 1) := dk_62 (dk_at dksX10_night_9 4 rfl rfl)
theorem dX10_night_214 : decode cX10_night 214 = .ok (.iload_n 3, 1) := dk_29 (dk_at dksX10_night_9 5 rfl rfl)
theorem dX10_night_215 : decode cX10_night 215 = .ok (.aload_n 0, 1) := dk_42 (dk_at dksX10_night_9 6 rfl rfl)
theorem dX10_night_216 : decode cX10_night 216 = .ok (.getfield 406, 3) := dk_180 1 150 (dk_at dksX10_night_9 7 rfl rfl)
theorem dX10_night_219 : decode cX10_night 219 = .ok (.if_icmp .ge 41, 3) := dk_162 0 41 (dk_at dksX10_night_9 10 rfl rfl)
theorem dX10_night_222 : decode cX10_night 222 = .ok (.aload_n 0, 1) := dk_42 (dk_at dksX10_night_9 13 rfl rfl)
theorem dX10_night_223 : decode cX10_night 223 = .ok (.dup, 1) := dk_89 (dk_at dksX10_night_9 14 rfl rfl)
theorem dX10_night_224 : decode cX10_night 224 = .ok (.getfield 474, 3) := dk_180 1 218 (dk_at dksX10_night_9 15 rfl rfl)
theorem dX10_night_227 : decode cX10_night 227 = .ok (.iconst 1, 1) := dk_4 (dk_at dksX10_night_9 18 rfl rfl)
theorem dX10_night_228 : decode cX10_night 228 = .ok (.aload_n 0, 1) := dk_42 (dk_at dksX10_night_9 19 rfl rfl)
theorem dX10_night_229 : decode cX10_night 229 = .ok (.getfield 98, 3) := dk_180 0 98 (dk_at dksX10_night_9 20 rfl rfl)
theorem dX10_night_232 : decode cX10_night 232 = .ok (.iload_n 3, 1) := dk_29 (dk_at dksX10_night_9 23 rfl rfl)
theorem dX10_night_233 : decode cX10_night 233 = .ok (.iaload, 1) := dk_46 (dk_at dksX10_night_10 0 rfl rfl)
theorem dX10_night_234 : decode cX10_night 234 = .ok (.ishl, 1) := dk_120 (dk_at dksX10_night_10 1 rfl rfl)
theorem dX10_night_235 : decode cX10_night 235 = .ok (.ior, 1) := dk_128 (dk_at dksX10_night_10 2 rfl rfl)
theorem dX10_night_236 : decode cX10_night 236 = .ok (.putfield 474, 3) := dk_181 1 218 (dk_at dksX10_night_10 3 rfl rfl)
theorem dX10_night_239 : decode cX10_night 239 = .ok (.aload_n 0, 1) := dk_42 (dk_at dksX10_night_10 6 rfl rfl)
theorem dX10_night_240 : decode cX10_night 240 = .ok (.getfield 116, 3) := dk_180 0 116 (dk_at dksX10_night_10 7 rfl rfl)
theorem dX10_night_243 : decode cX10_night 243 = .ok (.aload_n 0, 1) := dk_42 (dk_at dksX10_night_10 10 rfl rfl)
theorem dX10_night_244 : decode cX10_night 244 = .ok (.getfield 98, 3) := dk_180 0 98 (dk_at dksX10_night_10 11 rfl rfl)
theorem dX10_night_247 : decode cX10_night 247 = .ok (.iload_n 3, 1) := dk_29 (dk_at dksX10_night_10 14 rfl rfl)
theorem dX10_night_248 : decode cX10_night 248 = .ok (.iaload, 1) := dk_46 (dk_at dksX10_night_10 15 rfl rfl)
theorem dX10_night_249 : decode cX10_night 249 = .ok (.dup2, 1) := dk_92 (dk_at dksX10_night_10 16 rfl rfl)
theorem dX10_night_250 : decode cX10_night 250 = .ok (.iaload, 1) := dk_46 (dk_at dksX10_night_10 17 rfl rfl)
theorem dX10_night_251 : decode cX10_night 251 = .ok (.iconst 1, 1) := dk_4 (dk_at dksX10_night_10 18 rfl rfl)
theorem dX10_night_252 : decode cX10_night 252 = .ok (.iadd, 1) := dk_96 (dk_at dksX10_night_10 19 rfl rfl)
theorem dX10_night_253 : decode cX10_night 253 = .ok (.iastore, 1) := dk_79 (dk_at dksX10_night_10 20 rfl rfl)
theorem dX10_night_254 : decode cX10_night 254 = .ok (.iinc 3 1, 3) := dk_132 3 1 (dk_at dksX10_night_10 21 rfl rfl)
theorem dX10_night_257 : decode cX10_night 257 = .ok (.goto (-43), 3) := dk_167 255 213 (dk_at dksX10_night_11 0 rfl rfl)
theorem dX10_night_260 : decode cX10_night 260 = .ok (.aload_n 0, 1) := dk_42 (dk_at dksX10_night_11 3 rfl rfl)
theorem dX10_night_261 : decode cX10_night 261 = .ok (.iconst 0, 1) := dk_3 (dk_at dksX10_night_11 4 rfl rfl)
theorem dX10_night_262 : decode cX10_night 262 = .ok (.putfield 406, 3) := dk_181 1 150 (dk_at dksX10_night_11 5 rfl rfl)
theorem dX10_night_265 : decode cX10_night 265 = .ok (.aload_n 0, 1) := dk_42 (dk_at dksX10_night_11 8 rfl rfl)
theorem dX10_night_266 : decode cX10_night 266 = .ok (.dup, 1) := dk_89 (dk_at dksX10_night_11 9 rfl rfl)
theorem dX10_night_267 : decode cX10_night 267 = .ok (.getfield 424, 3) := dk_180 1 168 (dk_at dksX10_night_11 10 rfl rfl)
theorem dX10_night_270 : decode cX10_night 270 = .ok (.iconst 1, 1) := dk_4 (dk_at dksX10_night_11 13 rfl rfl)
theorem dX10_night_271 : decode cX10_night 271 = .ok (.iadd, 1) := dk_96 (dk_at dksX10_night_11 14 rfl rfl)
theorem dX10_night_272 : decode cX10_night 272 = .ok (.putfield 424, 3) := dk_181 1 168 (dk_at dksX10_night_11 15 rfl rfl)
theorem dX10_night_275 : decode cX10_night 275 = .ok (.aload_n 0, 1) := dk_42 (dk_at dksX10_night_11 18 rfl rfl)
theorem dX10_night_276 : decode cX10_night 276 = .ok (.getfield 403, 3) := dk_180 1 147 (dk_at dksX10_night_11 19 rfl rfl)
theorem dX10_night_279 : decode cX10_night 279 = .ok (.ireturn, 1) := dk_172 (dk_at dksX10_night_11 22 rfl rfl)
def dkwX10_without_2 : List UInt8 := [172]
abbrev dktX10_without_2 : List UInt8 := dkwX10_without_2 ++ []
def dkwX10_without_1 : List UInt8 := [180, 0, 83, 28, 3, 79, 132, 2, 1, 167, 255, 229, 42, 4, 182, 1, 178, 42, 4, 27, 100, 182, 1, 210]
abbrev dktX10_without_1 : List UInt8 := dkwX10_without_1 ++ dktX10_without_2
def dkwX10_without_0 : List UInt8 := [42, 182, 1, 138, 3, 61, 28, 17, 0, 128, 162, 0, 26, 42, 180, 0, 32, 28, 46, 27, 160, 0, 10, 42]
abbrev dktX10_without_0 : List UInt8 := dkwX10_without_0 ++ dktX10_without_1
theorem dksX10_without_0 : cX10_without.data.toList.drop 0 = dktX10_without_0 := by decide +kernel
theorem dksX10_without_1 : cX10_without.data.toList.drop 24 = dktX10_without_1 := dk_seg dksX10_without_0 24 rfl rfl
theorem dksX10_without_2 : cX10_without.data.toList.drop 48 = dktX10_without_2 := dk_seg dksX10_without_1 24 rfl rfl
theorem dX10_without_0 : decode cX10_without 0 = .ok (.aload_n 0, 1) := dk_42 (dk_at dksX10_without_0 0 rfl rfl)
theorem dX10_without_1 : decode cX10_without 1 = .ok (.invokevirtual 394, 3) := dk_182 1 138 (dk_at dksX10_without_0 1 rfl rfl)
theorem dX10_without_4 : decode cX10_without 4 = .ok (.iconst 0, 1) := dk_3 (dk_at dksX10_without_0 4 rfl rfl)
theorem dX10_without_5 : decode cX10_without 5 = .ok (.istore_n 2, 1) := dk_61 (dk_at dksX10_without_0 5 rfl rfl)
theorem dX10_without_6 : decode cX10_without 6 = .ok (.iload_n 2, 1) := dk_28 (dk_at dksX10_without_0 6 rfl rfl)
theorem dX10_without_7 : decode cX10_without 7 = .ok (.sipush 128, 3) := dk_17 0 128 (dk_at dksX10_without_0 7 rfl rfl)
theorem dX10_without_10 : decode cX10_without 10 = .ok (.if_icmp .ge 26, 3) := dk_162 0 26 (dk_at dksX10_without_0 10 rfl rfl)
theorem dX10_without_13 : decode cX10_without 13 = .ok (.aload_n 0, 1) := dk_42 (dk_at dksX10_without_0 13 rfl rfl)
theorem dX10_without_14 : decode cX10_without 14 = .ok (.getfield 32, 3) := dk_180 0 32 (dk_at dksX10_without_0 14 rfl rfl)
theorem dX10_without_17 : decode cX10_without 17 = .ok (.iload_n 2, 1) := dk_28 (dk_at dksX10_without_0 17 rfl rfl)
theorem dX10_without_18 : decode cX10_without 18 = .ok (.iaload, 1) := dk_46 (dk_at dksX10_without_0 18 rfl rfl)
theorem dX10_without_19 : decode cX10_without 19 = .ok (.iload_n 1, 1) := dk_27 (dk_at dksX10_without_0 19 rfl rfl)
theorem dX10_without_20 : decode cX10_without 20 = .ok (.if_icmp .ne 10, 3) := dk_160 0 10 (dk_at dksX10_without_0 20 rfl rfl)
theorem dX10_without_23 : decode cX10_without 23 = .ok (.aload_n 0, 1) := dk_42 (dk_at dksX10_without_0 23 rfl rfl)
theorem dX10_without_24 : decode cX10_without 24 = .ok (.getfield 83, 3) := dk_180 0 83 (dk_at dksX10_without_1 0 rfl rfl)
theorem dX10_without_27 : decode cX10_without 27 = .ok (.iload_n 2, 1) := dk_28 (dk_at dksX10_without_1 3 rfl rfl)
theorem dX10_without_28 : decode cX10_without 28 = .ok (.iconst 0, 1) := dk_3 (dk_at dksX10_without_1 4 rfl rfl)
theorem dX10_without_29 : decode cX10_without 29 = .ok (.iastore, 1) := dk_79 (dk_at dksX10_without_1 5 rfl rfl)
theorem dX10_without_30 : decode cX10_without 30 = .ok (.iinc 2 1, 3) := dk_132 2 1 (dk_at dksX10_without_1 6 rfl rfl)
theorem dX10_without_33 : decode cX10_without 33 = .ok (.goto (-27), 3) := dk_167 255 229 (dk_at dksX10_without_1 9 rfl rfl)
theorem dX10_without_36 : decode cX10_without 36 = .ok (.aload_n 0, 1) := dk_42 (dk_at dksX10_without_1 12 rfl rfl)
theorem dX10_without_37 : decode cX10_without 37 = .ok (.iconst 1, 1) := dk_4 (dk_at dksX10_without_1 13 rfl rfl)
theorem dX10_without_38 : decode cX10_without 38 = .ok (.invokevirtual 434, 3) := dk_182 1 178 (dk_at dksX10_without_1 14 rfl rfl)
theorem dX10_without_41 : decode cX10_without 41 = .ok (.aload_n 0, 1) := dk_42 (dk_at dksX10_without_1 17 rfl rfl)
theorem dX10_without_42 : decode cX10_without 42 = .ok (.iconst 1, 1) := dk_4 (dk_at dksX10_without_1 18 rfl rfl)
theorem dX10_without_43 : decode cX10_without 43 = .ok (.iload_n 1, 1) := dk_27 (dk_at dksX10_without_1 19 rfl rfl)
theorem dX10_without_44 : decode cX10_without 44 = .ok (.isub, 1) := dk_100 (dk_at dksX10_without_1 20 rfl rfl)
theorem dX10_without_45 : decode cX10_without 45 = .ok (.invokevirtual 466, 3) := dk_182 1 210 (dk_at dksX10_without_1 21 rfl rfl)
theorem dX10_without_48 : decode cX10_without 48 = .ok (.ireturn, 1) := dk_172 (dk_at dksX10_without_2 0 rfl rfl)
def dkwX10_lostOf_1 : List UInt8 := [180, 0, 107, 29, 46, 167, 0, 4, 3, 96, 61, 132, 3, 1, 167, 255, 224, 28, 172]
abbrev dktX10_lostOf_1 : List UInt8 := dkwX10_lostOf_1 ++ []
def dkwX10_lostOf_0 : List UInt8 := [3, 61, 3, 62, 29, 16, 10, 162, 0, 32, 28, 42, 180, 0, 35, 29, 46, 27, 160, 0, 12, 42]
abbrev dktX10_lostOf_0 : List UInt8 := dkwX10_lostOf_0 ++ dktX10_lostOf_1
theorem dksX10_lostOf_0 : cX10_lostOf.data.toList.drop 0 = dktX10_lostOf_0 := by decide +kernel
theorem dksX10_lostOf_1 : cX10_lostOf.data.toList.drop 22 = dktX10_lostOf_1 := dk_seg dksX10_lostOf_0 22 rfl rfl
theorem dX10_lostOf_0 : decode cX10_lostOf 0 = .ok (.iconst 0, 1) := dk_3 (dk_at dksX10_lostOf_0 0 rfl rfl)
theorem dX10_lostOf_1 : decode cX10_lostOf 1 = .ok (.istore_n 2, 1) := dk_61 (dk_at dksX10_lostOf_0 1 rfl rfl)
theorem dX10_lostOf_2 : decode cX10_lostOf 2 = .ok (.iconst 0, 1) := dk_3 (dk_at dksX10_lostOf_0 2 rfl rfl)
theorem dX10_lostOf_3 : decode cX10_lostOf 3 = .ok (.istore_n 3, 1) := dk_62 (dk_at dksX10_lostOf_0 3 rfl rfl)
theorem dX10_lostOf_4 : decode cX10_lostOf 4 = .ok (.iload_n 3, 1) := dk_29 (dk_at dksX10_lostOf_0 4 rfl rfl)
theorem dX10_lostOf_5 : decode cX10_lostOf 5 = .ok (.bipush 10, 2) := dk_16 10 (dk_at dksX10_lostOf_0 5 rfl rfl)
theorem dX10_lostOf_7 : decode cX10_lostOf 7 = .ok (.if_icmp .ge 32, 3) := dk_162 0 32 (dk_at dksX10_lostOf_0 7 rfl rfl)
theorem dX10_lostOf_10 : decode cX10_lostOf 10 = .ok (.iload_n 2, 1) := dk_28 (dk_at dksX10_lostOf_0 10 rfl rfl)
theorem dX10_lostOf_11 : decode cX10_lostOf 11 = .ok (.aload_n 0, 1) := dk_42 (dk_at dksX10_lostOf_0 11 rfl rfl)
theorem dX10_lostOf_12 : decode cX10_lostOf 12 = .ok (.getfield 35, 3) := dk_180 0 35 (dk_at dksX10_lostOf_0 12 rfl rfl)
theorem dX10_lostOf_15 : decode cX10_lostOf 15 = .ok (.iload_n 3, 1) := dk_29 (dk_at dksX10_lostOf_0 15 rfl rfl)
theorem dX10_lostOf_16 : decode cX10_lostOf 16 = .ok (.iaload, 1) := dk_46 (dk_at dksX10_lostOf_0 16 rfl rfl)
theorem dX10_lostOf_17 : decode cX10_lostOf 17 = .ok (.iload_n 1, 1) := dk_27 (dk_at dksX10_lostOf_0 17 rfl rfl)
theorem dX10_lostOf_18 : decode cX10_lostOf 18 = .ok (.if_icmp .ne 12, 3) := dk_160 0 12 (dk_at dksX10_lostOf_0 18 rfl rfl)
theorem dX10_lostOf_21 : decode cX10_lostOf 21 = .ok (.aload_n 0, 1) := dk_42 (dk_at dksX10_lostOf_0 21 rfl rfl)
theorem dX10_lostOf_22 : decode cX10_lostOf 22 = .ok (.getfield 107, 3) := dk_180 0 107 (dk_at dksX10_lostOf_1 0 rfl rfl)
theorem dX10_lostOf_25 : decode cX10_lostOf 25 = .ok (.iload_n 3, 1) := dk_29 (dk_at dksX10_lostOf_1 3 rfl rfl)
theorem dX10_lostOf_26 : decode cX10_lostOf 26 = .ok (.iaload, 1) := dk_46 (dk_at dksX10_lostOf_1 4 rfl rfl)
theorem dX10_lostOf_27 : decode cX10_lostOf 27 = .ok (.goto 4, 3) := dk_167 0 4 (dk_at dksX10_lostOf_1 5 rfl rfl)
theorem dX10_lostOf_30 : decode cX10_lostOf 30 = .ok (.iconst 0, 1) := dk_3 (dk_at dksX10_lostOf_1 8 rfl rfl)
theorem dX10_lostOf_31 : decode cX10_lostOf 31 = .ok (.iadd, 1) := dk_96 (dk_at dksX10_lostOf_1 9 rfl rfl)
theorem dX10_lostOf_32 : decode cX10_lostOf 32 = .ok (.istore_n 2, 1) := dk_61 (dk_at dksX10_lostOf_1 10 rfl rfl)
theorem dX10_lostOf_33 : decode cX10_lostOf 33 = .ok (.iinc 3 1, 3) := dk_132 3 1 (dk_at dksX10_lostOf_1 11 rfl rfl)
theorem dX10_lostOf_36 : decode cX10_lostOf 36 = .ok (.goto (-32), 3) := dk_167 255 224 (dk_at dksX10_lostOf_1 14 rfl rfl)
theorem dX10_lostOf_39 : decode cX10_lostOf 39 = .ok (.iload_n 2, 1) := dk_28 (dk_at dksX10_lostOf_1 17 rfl rfl)
theorem dX10_lostOf_40 : decode cX10_lostOf 40 = .ok (.ireturn, 1) := dk_172 (dk_at dksX10_lostOf_1 18 rfl rfl)
def dkwX10_claims_2 : List UInt8 := [96, 181, 1, 213, 177]
abbrev dktX10_claims_2 : List UInt8 := dkwX10_claims_2 ++ []
def dkwX10_claims_1 : List UInt8 := [180, 0, 125, 42, 180, 1, 213, 2, 79, 42, 42, 180, 1, 213, 28, 182, 1, 221, 42, 89, 180, 1, 213, 4]
abbrev dktX10_claims_1 : List UInt8 := dkwX10_claims_1 ++ dktX10_claims_2
def dkwX10_claims_0 : List UInt8 := [42, 180, 0, 119, 42, 180, 1, 213, 27, 79, 42, 180, 0, 122, 42, 180, 1, 213, 42, 180, 1, 168, 79, 42]
abbrev dktX10_claims_0 : List UInt8 := dkwX10_claims_0 ++ dktX10_claims_1
theorem dksX10_claims_0 : cX10_claims.data.toList.drop 0 = dktX10_claims_0 := by decide +kernel
theorem dksX10_claims_1 : cX10_claims.data.toList.drop 24 = dktX10_claims_1 := dk_seg dksX10_claims_0 24 rfl rfl
theorem dksX10_claims_2 : cX10_claims.data.toList.drop 48 = dktX10_claims_2 := dk_seg dksX10_claims_1 24 rfl rfl
theorem dX10_claims_0 : decode cX10_claims 0 = .ok (.aload_n 0, 1) := dk_42 (dk_at dksX10_claims_0 0 rfl rfl)
theorem dX10_claims_1 : decode cX10_claims 1 = .ok (.getfield 119, 3) := dk_180 0 119 (dk_at dksX10_claims_0 1 rfl rfl)
theorem dX10_claims_4 : decode cX10_claims 4 = .ok (.aload_n 0, 1) := dk_42 (dk_at dksX10_claims_0 4 rfl rfl)
theorem dX10_claims_5 : decode cX10_claims 5 = .ok (.getfield 469, 3) := dk_180 1 213 (dk_at dksX10_claims_0 5 rfl rfl)
theorem dX10_claims_8 : decode cX10_claims 8 = .ok (.iload_n 1, 1) := dk_27 (dk_at dksX10_claims_0 8 rfl rfl)
theorem dX10_claims_9 : decode cX10_claims 9 = .ok (.iastore, 1) := dk_79 (dk_at dksX10_claims_0 9 rfl rfl)
theorem dX10_claims_10 : decode cX10_claims 10 = .ok (.aload_n 0, 1) := dk_42 (dk_at dksX10_claims_0 10 rfl rfl)
theorem dX10_claims_11 : decode cX10_claims 11 = .ok (.getfield 122, 3) := dk_180 0 122 (dk_at dksX10_claims_0 11 rfl rfl)
theorem dX10_claims_14 : decode cX10_claims 14 = .ok (.aload_n 0, 1) := dk_42 (dk_at dksX10_claims_0 14 rfl rfl)
theorem dX10_claims_15 : decode cX10_claims 15 = .ok (.getfield 469, 3) := dk_180 1 213 (dk_at dksX10_claims_0 15 rfl rfl)
theorem dX10_claims_18 : decode cX10_claims 18 = .ok (.aload_n 0, 1) := dk_42 (dk_at dksX10_claims_0 18 rfl rfl)
theorem dX10_claims_19 : decode cX10_claims 19 = .ok (.getfield 424, 3) := dk_180 1 168 (dk_at dksX10_claims_0 19 rfl rfl)
theorem dX10_claims_22 : decode cX10_claims 22 = .ok (.iastore, 1) := dk_79 (dk_at dksX10_claims_0 22 rfl rfl)
theorem dX10_claims_23 : decode cX10_claims 23 = .ok (.aload_n 0, 1) := dk_42 (dk_at dksX10_claims_0 23 rfl rfl)
theorem dX10_claims_24 : decode cX10_claims 24 = .ok (.getfield 125, 3) := dk_180 0 125 (dk_at dksX10_claims_1 0 rfl rfl)
theorem dX10_claims_27 : decode cX10_claims 27 = .ok (.aload_n 0, 1) := dk_42 (dk_at dksX10_claims_1 3 rfl rfl)
theorem dX10_claims_28 : decode cX10_claims 28 = .ok (.getfield 469, 3) := dk_180 1 213 (dk_at dksX10_claims_1 4 rfl rfl)
theorem dX10_claims_31 : decode cX10_claims 31 = .ok (.iconst (-1), 1) := dk_2 (dk_at dksX10_claims_1 7 rfl rfl)
theorem dX10_claims_32 : decode cX10_claims 32 = .ok (.iastore, 1) := dk_79 (dk_at dksX10_claims_1 8 rfl rfl)
theorem dX10_claims_33 : decode cX10_claims 33 = .ok (.aload_n 0, 1) := dk_42 (dk_at dksX10_claims_1 9 rfl rfl)
theorem dX10_claims_34 : decode cX10_claims 34 = .ok (.aload_n 0, 1) := dk_42 (dk_at dksX10_claims_1 10 rfl rfl)
theorem dX10_claims_35 : decode cX10_claims 35 = .ok (.getfield 469, 3) := dk_180 1 213 (dk_at dksX10_claims_1 11 rfl rfl)
theorem dX10_claims_38 : decode cX10_claims 38 = .ok (.iload_n 2, 1) := dk_28 (dk_at dksX10_claims_1 14 rfl rfl)
theorem dX10_claims_39 : decode cX10_claims 39 = .ok (.invokevirtual 477, 3) := dk_182 1 221 (dk_at dksX10_claims_1 15 rfl rfl)
theorem dX10_claims_42 : decode cX10_claims 42 = .ok (.aload_n 0, 1) := dk_42 (dk_at dksX10_claims_1 18 rfl rfl)
theorem dX10_claims_43 : decode cX10_claims 43 = .ok (.dup, 1) := dk_89 (dk_at dksX10_claims_1 19 rfl rfl)
theorem dX10_claims_44 : decode cX10_claims 44 = .ok (.getfield 469, 3) := dk_180 1 213 (dk_at dksX10_claims_1 20 rfl rfl)
theorem dX10_claims_47 : decode cX10_claims 47 = .ok (.iconst 1, 1) := dk_4 (dk_at dksX10_claims_1 23 rfl rfl)
theorem dX10_claims_48 : decode cX10_claims 48 = .ok (.iadd, 1) := dk_96 (dk_at dksX10_claims_2 0 rfl rfl)
theorem dX10_claims_49 : decode cX10_claims 49 = .ok (.putfield 469, 3) := dk_181 1 213 (dk_at dksX10_claims_2 1 rfl rfl)
theorem dX10_claims_52 : decode cX10_claims 52 = .ok (.return_, 1) := dk_177 (dk_at dksX10_claims_2 4 rfl rfl)
def dkwX10_rowAdds_1 : List UInt8 := [180, 0, 150, 42, 180, 2, 18, 28, 79, 42, 89, 180, 2, 18, 4, 96, 181, 2, 18, 177]
abbrev dktX10_rowAdds_1 : List UInt8 := dkwX10_rowAdds_1 ++ []
def dkwX10_rowAdds_0 : List UInt8 := [42, 180, 0, 144, 42, 180, 2, 18, 27, 79, 42, 180, 0, 147, 42, 180, 2, 18, 42, 180, 1, 168, 79, 42]
abbrev dktX10_rowAdds_0 : List UInt8 := dkwX10_rowAdds_0 ++ dktX10_rowAdds_1
theorem dksX10_rowAdds_0 : cX10_rowAdds.data.toList.drop 0 = dktX10_rowAdds_0 := by decide +kernel
theorem dksX10_rowAdds_1 : cX10_rowAdds.data.toList.drop 24 = dktX10_rowAdds_1 := dk_seg dksX10_rowAdds_0 24 rfl rfl
theorem dX10_rowAdds_0 : decode cX10_rowAdds 0 = .ok (.aload_n 0, 1) := dk_42 (dk_at dksX10_rowAdds_0 0 rfl rfl)
theorem dX10_rowAdds_1 : decode cX10_rowAdds 1 = .ok (.getfield 144, 3) := dk_180 0 144 (dk_at dksX10_rowAdds_0 1 rfl rfl)
theorem dX10_rowAdds_4 : decode cX10_rowAdds 4 = .ok (.aload_n 0, 1) := dk_42 (dk_at dksX10_rowAdds_0 4 rfl rfl)
theorem dX10_rowAdds_5 : decode cX10_rowAdds 5 = .ok (.getfield 530, 3) := dk_180 2 18 (dk_at dksX10_rowAdds_0 5 rfl rfl)
theorem dX10_rowAdds_8 : decode cX10_rowAdds 8 = .ok (.iload_n 1, 1) := dk_27 (dk_at dksX10_rowAdds_0 8 rfl rfl)
theorem dX10_rowAdds_9 : decode cX10_rowAdds 9 = .ok (.iastore, 1) := dk_79 (dk_at dksX10_rowAdds_0 9 rfl rfl)
theorem dX10_rowAdds_10 : decode cX10_rowAdds 10 = .ok (.aload_n 0, 1) := dk_42 (dk_at dksX10_rowAdds_0 10 rfl rfl)
theorem dX10_rowAdds_11 : decode cX10_rowAdds 11 = .ok (.getfield 147, 3) := dk_180 0 147 (dk_at dksX10_rowAdds_0 11 rfl rfl)
theorem dX10_rowAdds_14 : decode cX10_rowAdds 14 = .ok (.aload_n 0, 1) := dk_42 (dk_at dksX10_rowAdds_0 14 rfl rfl)
theorem dX10_rowAdds_15 : decode cX10_rowAdds 15 = .ok (.getfield 530, 3) := dk_180 2 18 (dk_at dksX10_rowAdds_0 15 rfl rfl)
theorem dX10_rowAdds_18 : decode cX10_rowAdds 18 = .ok (.aload_n 0, 1) := dk_42 (dk_at dksX10_rowAdds_0 18 rfl rfl)
theorem dX10_rowAdds_19 : decode cX10_rowAdds 19 = .ok (.getfield 424, 3) := dk_180 1 168 (dk_at dksX10_rowAdds_0 19 rfl rfl)
theorem dX10_rowAdds_22 : decode cX10_rowAdds 22 = .ok (.iastore, 1) := dk_79 (dk_at dksX10_rowAdds_0 22 rfl rfl)
theorem dX10_rowAdds_23 : decode cX10_rowAdds 23 = .ok (.aload_n 0, 1) := dk_42 (dk_at dksX10_rowAdds_0 23 rfl rfl)
theorem dX10_rowAdds_24 : decode cX10_rowAdds 24 = .ok (.getfield 150, 3) := dk_180 0 150 (dk_at dksX10_rowAdds_1 0 rfl rfl)
theorem dX10_rowAdds_27 : decode cX10_rowAdds 27 = .ok (.aload_n 0, 1) := dk_42 (dk_at dksX10_rowAdds_1 3 rfl rfl)
theorem dX10_rowAdds_28 : decode cX10_rowAdds 28 = .ok (.getfield 530, 3) := dk_180 2 18 (dk_at dksX10_rowAdds_1 4 rfl rfl)
theorem dX10_rowAdds_31 : decode cX10_rowAdds 31 = .ok (.iload_n 2, 1) := dk_28 (dk_at dksX10_rowAdds_1 7 rfl rfl)
theorem dX10_rowAdds_32 : decode cX10_rowAdds 32 = .ok (.iastore, 1) := dk_79 (dk_at dksX10_rowAdds_1 8 rfl rfl)
theorem dX10_rowAdds_33 : decode cX10_rowAdds 33 = .ok (.aload_n 0, 1) := dk_42 (dk_at dksX10_rowAdds_1 9 rfl rfl)
theorem dX10_rowAdds_34 : decode cX10_rowAdds 34 = .ok (.dup, 1) := dk_89 (dk_at dksX10_rowAdds_1 10 rfl rfl)
theorem dX10_rowAdds_35 : decode cX10_rowAdds 35 = .ok (.getfield 530, 3) := dk_180 2 18 (dk_at dksX10_rowAdds_1 11 rfl rfl)
theorem dX10_rowAdds_38 : decode cX10_rowAdds 38 = .ok (.iconst 1, 1) := dk_4 (dk_at dksX10_rowAdds_1 14 rfl rfl)
theorem dX10_rowAdds_39 : decode cX10_rowAdds 39 = .ok (.iadd, 1) := dk_96 (dk_at dksX10_rowAdds_1 15 rfl rfl)
theorem dX10_rowAdds_40 : decode cX10_rowAdds 40 = .ok (.putfield 530, 3) := dk_181 2 18 (dk_at dksX10_rowAdds_1 16 rfl rfl)
theorem dX10_rowAdds_43 : decode cX10_rowAdds 43 = .ok (.return_, 1) := dk_177 (dk_at dksX10_rowAdds_1 19 rfl rfl)
def dkwX10_debt_1 : List UInt8 := [180, 0, 113, 27, 46, 172]
abbrev dktX10_debt_1 : List UInt8 := dkwX10_debt_1 ++ []
def dkwX10_debt_0 : List UInt8 := [42, 3, 181, 0, 1, 42, 27, 3, 4, 184, 0, 210, 4, 182, 0, 214, 154, 0, 5, 3, 172, 42]
abbrev dktX10_debt_0 : List UInt8 := dkwX10_debt_0 ++ dktX10_debt_1
theorem dksX10_debt_0 : cX10_debt.data.toList.drop 0 = dktX10_debt_0 := by decide +kernel
theorem dksX10_debt_1 : cX10_debt.data.toList.drop 22 = dktX10_debt_1 := dk_seg dksX10_debt_0 22 rfl rfl
theorem dX10_debt_0 : decode cX10_debt 0 = .ok (.aload_n 0, 1) := dk_42 (dk_at dksX10_debt_0 0 rfl rfl)
theorem dX10_debt_1 : decode cX10_debt 1 = .ok (.iconst 0, 1) := dk_3 (dk_at dksX10_debt_0 1 rfl rfl)
theorem dX10_debt_2 : decode cX10_debt 2 = .ok (.putfield 1, 3) := dk_181 0 1 (dk_at dksX10_debt_0 2 rfl rfl)
theorem dX10_debt_5 : decode cX10_debt 5 = .ok (.aload_n 0, 1) := dk_42 (dk_at dksX10_debt_0 5 rfl rfl)
theorem dX10_debt_6 : decode cX10_debt 6 = .ok (.iload_n 1, 1) := dk_27 (dk_at dksX10_debt_0 6 rfl rfl)
theorem dX10_debt_7 : decode cX10_debt 7 = .ok (.iconst 0, 1) := dk_3 (dk_at dksX10_debt_0 7 rfl rfl)
theorem dX10_debt_8 : decode cX10_debt 8 = .ok (.iconst 1, 1) := dk_4 (dk_at dksX10_debt_0 8 rfl rfl)
theorem dX10_debt_9 : decode cX10_debt 9 = .ok (.invokestatic 210, 3) := dk_184 0 210 (dk_at dksX10_debt_0 9 rfl rfl)
theorem dX10_debt_12 : decode cX10_debt 12 = .ok (.iconst 1, 1) := dk_4 (dk_at dksX10_debt_0 12 rfl rfl)
theorem dX10_debt_13 : decode cX10_debt 13 = .ok (.invokevirtual 214, 3) := dk_182 0 214 (dk_at dksX10_debt_0 13 rfl rfl)
theorem dX10_debt_16 : decode cX10_debt 16 = .ok (.ifCond .ne 5, 3) := dk_154 0 5 (dk_at dksX10_debt_0 16 rfl rfl)
theorem dX10_debt_19 : decode cX10_debt 19 = .ok (.iconst 0, 1) := dk_3 (dk_at dksX10_debt_0 19 rfl rfl)
theorem dX10_debt_20 : decode cX10_debt 20 = .ok (.ireturn, 1) := dk_172 (dk_at dksX10_debt_0 20 rfl rfl)
theorem dX10_debt_21 : decode cX10_debt 21 = .ok (.aload_n 0, 1) := dk_42 (dk_at dksX10_debt_0 21 rfl rfl)
theorem dX10_debt_22 : decode cX10_debt 22 = .ok (.getfield 113, 3) := dk_180 0 113 (dk_at dksX10_debt_1 0 rfl rfl)
theorem dX10_debt_25 : decode cX10_debt 25 = .ok (.iload_n 1, 1) := dk_27 (dk_at dksX10_debt_1 3 rfl rfl)
theorem dX10_debt_26 : decode cX10_debt 26 = .ok (.iaload, 1) := dk_46 (dk_at dksX10_debt_1 4 rfl rfl)
theorem dX10_debt_27 : decode cX10_debt 27 = .ok (.ireturn, 1) := dk_172 (dk_at dksX10_debt_1 5 rfl rfl)
def dkwX10_watch_4 : List UInt8 := [180, 1, 150, 172]
abbrev dktX10_watch_4 : List UInt8 := dkwX10_watch_4 ++ []
def dkwX10_watch_3 : List UInt8 := [27, 79, 42, 180, 0, 101, 42, 180, 1, 150, 28, 79, 42, 89, 180, 1, 150, 4, 96, 181, 1, 150, 42]
abbrev dktX10_watch_3 : List UInt8 := dkwX10_watch_3 ++ dktX10_watch_4
def dkwX10_watch_2 : List UInt8 := [172, 42, 180, 1, 218, 27, 122, 4, 126, 4, 160, 0, 6, 16, 253, 172, 42, 180, 0, 98, 42, 180, 1, 150]
abbrev dktX10_watch_2 : List UInt8 := dkwX10_watch_2 ++ dktX10_watch_3
def dkwX10_watch_1 : List UInt8 := [180, 1, 150, 16, 10, 160, 0, 5, 2, 172, 42, 182, 1, 224, 27, 122, 4, 126, 4, 160, 0, 6, 16, 254]
abbrev dktX10_watch_1 : List UInt8 := dkwX10_watch_1 ++ dktX10_watch_2
def dkwX10_watch_0 : List UInt8 := [42, 3, 181, 0, 1, 42, 28, 182, 0, 218, 153, 0, 11, 42, 27, 182, 1, 181, 154, 0, 5, 3, 172, 42]
abbrev dktX10_watch_0 : List UInt8 := dkwX10_watch_0 ++ dktX10_watch_1
theorem dksX10_watch_0 : cX10_watch.data.toList.drop 0 = dktX10_watch_0 := by decide +kernel
theorem dksX10_watch_1 : cX10_watch.data.toList.drop 24 = dktX10_watch_1 := dk_seg dksX10_watch_0 24 rfl rfl
theorem dksX10_watch_2 : cX10_watch.data.toList.drop 48 = dktX10_watch_2 := dk_seg dksX10_watch_1 24 rfl rfl
theorem dksX10_watch_3 : cX10_watch.data.toList.drop 72 = dktX10_watch_3 := dk_seg dksX10_watch_2 24 rfl rfl
theorem dksX10_watch_4 : cX10_watch.data.toList.drop 95 = dktX10_watch_4 := dk_seg dksX10_watch_3 23 rfl rfl
theorem dX10_watch_0 : decode cX10_watch 0 = .ok (.aload_n 0, 1) := dk_42 (dk_at dksX10_watch_0 0 rfl rfl)
theorem dX10_watch_1 : decode cX10_watch 1 = .ok (.iconst 0, 1) := dk_3 (dk_at dksX10_watch_0 1 rfl rfl)
theorem dX10_watch_2 : decode cX10_watch 2 = .ok (.putfield 1, 3) := dk_181 0 1 (dk_at dksX10_watch_0 2 rfl rfl)
theorem dX10_watch_5 : decode cX10_watch 5 = .ok (.aload_n 0, 1) := dk_42 (dk_at dksX10_watch_0 5 rfl rfl)
theorem dX10_watch_6 : decode cX10_watch 6 = .ok (.iload_n 2, 1) := dk_28 (dk_at dksX10_watch_0 6 rfl rfl)
theorem dX10_watch_7 : decode cX10_watch 7 = .ok (.invokevirtual 218, 3) := dk_182 0 218 (dk_at dksX10_watch_0 7 rfl rfl)
theorem dX10_watch_10 : decode cX10_watch 10 = .ok (.ifCond .eq 11, 3) := dk_153 0 11 (dk_at dksX10_watch_0 10 rfl rfl)
theorem dX10_watch_13 : decode cX10_watch 13 = .ok (.aload_n 0, 1) := dk_42 (dk_at dksX10_watch_0 13 rfl rfl)
theorem dX10_watch_14 : decode cX10_watch 14 = .ok (.iload_n 1, 1) := dk_27 (dk_at dksX10_watch_0 14 rfl rfl)
theorem dX10_watch_15 : decode cX10_watch 15 = .ok (.invokevirtual 437, 3) := dk_182 1 181 (dk_at dksX10_watch_0 15 rfl rfl)
theorem dX10_watch_18 : decode cX10_watch 18 = .ok (.ifCond .ne 5, 3) := dk_154 0 5 (dk_at dksX10_watch_0 18 rfl rfl)
theorem dX10_watch_21 : decode cX10_watch 21 = .ok (.iconst 0, 1) := dk_3 (dk_at dksX10_watch_0 21 rfl rfl)
theorem dX10_watch_22 : decode cX10_watch 22 = .ok (.ireturn, 1) := dk_172 (dk_at dksX10_watch_0 22 rfl rfl)
theorem dX10_watch_23 : decode cX10_watch 23 = .ok (.aload_n 0, 1) := dk_42 (dk_at dksX10_watch_0 23 rfl rfl)
theorem dX10_watch_24 : decode cX10_watch 24 = .ok (.getfield 406, 3) := dk_180 1 150 (dk_at dksX10_watch_1 0 rfl rfl)
theorem dX10_watch_27 : decode cX10_watch 27 = .ok (.bipush 10, 2) := dk_16 10 (dk_at dksX10_watch_1 3 rfl rfl)
theorem dX10_watch_29 : decode cX10_watch 29 = .ok (.if_icmp .ne 5, 3) := dk_160 0 5 (dk_at dksX10_watch_1 5 rfl rfl)
theorem dX10_watch_32 : decode cX10_watch 32 = .ok (.iconst (-1), 1) := dk_2 (dk_at dksX10_watch_1 8 rfl rfl)
theorem dX10_watch_33 : decode cX10_watch 33 = .ok (.ireturn, 1) := dk_172 (dk_at dksX10_watch_1 9 rfl rfl)
theorem dX10_watch_34 : decode cX10_watch 34 = .ok (.aload_n 0, 1) := dk_42 (dk_at dksX10_watch_1 10 rfl rfl)
theorem dX10_watch_35 : decode cX10_watch 35 = .ok (.invokevirtual 480, 3) := dk_182 1 224 (dk_at dksX10_watch_1 11 rfl rfl)
theorem dX10_watch_38 : decode cX10_watch 38 = .ok (.iload_n 1, 1) := dk_27 (dk_at dksX10_watch_1 14 rfl rfl)
theorem dX10_watch_39 : decode cX10_watch 39 = .ok (.ishr, 1) := dk_122 (dk_at dksX10_watch_1 15 rfl rfl)
theorem dX10_watch_40 : decode cX10_watch 40 = .ok (.iconst 1, 1) := dk_4 (dk_at dksX10_watch_1 16 rfl rfl)
theorem dX10_watch_41 : decode cX10_watch 41 = .ok (.iand, 1) := dk_126 (dk_at dksX10_watch_1 17 rfl rfl)
theorem dX10_watch_42 : decode cX10_watch 42 = .ok (.iconst 1, 1) := dk_4 (dk_at dksX10_watch_1 18 rfl rfl)
theorem dX10_watch_43 : decode cX10_watch 43 = .ok (.if_icmp .ne 6, 3) := dk_160 0 6 (dk_at dksX10_watch_1 19 rfl rfl)
theorem dX10_watch_46 : decode cX10_watch 46 = .ok (.bipush (-2), 2) := dk_16 254 (dk_at dksX10_watch_1 22 rfl rfl)
theorem dX10_watch_48 : decode cX10_watch 48 = .ok (.ireturn, 1) := dk_172 (dk_at dksX10_watch_2 0 rfl rfl)
theorem dX10_watch_49 : decode cX10_watch 49 = .ok (.aload_n 0, 1) := dk_42 (dk_at dksX10_watch_2 1 rfl rfl)
theorem dX10_watch_50 : decode cX10_watch 50 = .ok (.getfield 474, 3) := dk_180 1 218 (dk_at dksX10_watch_2 2 rfl rfl)
theorem dX10_watch_53 : decode cX10_watch 53 = .ok (.iload_n 1, 1) := dk_27 (dk_at dksX10_watch_2 5 rfl rfl)
theorem dX10_watch_54 : decode cX10_watch 54 = .ok (.ishr, 1) := dk_122 (dk_at dksX10_watch_2 6 rfl rfl)
theorem dX10_watch_55 : decode cX10_watch 55 = .ok (.iconst 1, 1) := dk_4 (dk_at dksX10_watch_2 7 rfl rfl)
theorem dX10_watch_56 : decode cX10_watch 56 = .ok (.iand, 1) := dk_126 (dk_at dksX10_watch_2 8 rfl rfl)
theorem dX10_watch_57 : decode cX10_watch 57 = .ok (.iconst 1, 1) := dk_4 (dk_at dksX10_watch_2 9 rfl rfl)
theorem dX10_watch_58 : decode cX10_watch 58 = .ok (.if_icmp .ne 6, 3) := dk_160 0 6 (dk_at dksX10_watch_2 10 rfl rfl)
theorem dX10_watch_61 : decode cX10_watch 61 = .ok (.bipush (-3), 2) := dk_16 253 (dk_at dksX10_watch_2 13 rfl rfl)
theorem dX10_watch_63 : decode cX10_watch 63 = .ok (.ireturn, 1) := dk_172 (dk_at dksX10_watch_2 15 rfl rfl)
theorem dX10_watch_64 : decode cX10_watch 64 = .ok (.aload_n 0, 1) := dk_42 (dk_at dksX10_watch_2 16 rfl rfl)
theorem dX10_watch_65 : decode cX10_watch 65 = .ok (.getfield 98, 3) := dk_180 0 98 (dk_at dksX10_watch_2 17 rfl rfl)
theorem dX10_watch_68 : decode cX10_watch 68 = .ok (.aload_n 0, 1) := dk_42 (dk_at dksX10_watch_2 20 rfl rfl)
theorem dX10_watch_69 : decode cX10_watch 69 = .ok (.getfield 406, 3) := dk_180 1 150 (dk_at dksX10_watch_2 21 rfl rfl)
theorem dX10_watch_72 : decode cX10_watch 72 = .ok (.iload_n 1, 1) := dk_27 (dk_at dksX10_watch_3 0 rfl rfl)
theorem dX10_watch_73 : decode cX10_watch 73 = .ok (.iastore, 1) := dk_79 (dk_at dksX10_watch_3 1 rfl rfl)
theorem dX10_watch_74 : decode cX10_watch 74 = .ok (.aload_n 0, 1) := dk_42 (dk_at dksX10_watch_3 2 rfl rfl)
theorem dX10_watch_75 : decode cX10_watch 75 = .ok (.getfield 101, 3) := dk_180 0 101 (dk_at dksX10_watch_3 3 rfl rfl)
theorem dX10_watch_78 : decode cX10_watch 78 = .ok (.aload_n 0, 1) := dk_42 (dk_at dksX10_watch_3 6 rfl rfl)
theorem dX10_watch_79 : decode cX10_watch 79 = .ok (.getfield 406, 3) := dk_180 1 150 (dk_at dksX10_watch_3 7 rfl rfl)
theorem dX10_watch_82 : decode cX10_watch 82 = .ok (.iload_n 2, 1) := dk_28 (dk_at dksX10_watch_3 10 rfl rfl)
theorem dX10_watch_83 : decode cX10_watch 83 = .ok (.iastore, 1) := dk_79 (dk_at dksX10_watch_3 11 rfl rfl)
theorem dX10_watch_84 : decode cX10_watch 84 = .ok (.aload_n 0, 1) := dk_42 (dk_at dksX10_watch_3 12 rfl rfl)
theorem dX10_watch_85 : decode cX10_watch 85 = .ok (.dup, 1) := dk_89 (dk_at dksX10_watch_3 13 rfl rfl)
theorem dX10_watch_86 : decode cX10_watch 86 = .ok (.getfield 406, 3) := dk_180 1 150 (dk_at dksX10_watch_3 14 rfl rfl)
theorem dX10_watch_89 : decode cX10_watch 89 = .ok (.iconst 1, 1) := dk_4 (dk_at dksX10_watch_3 17 rfl rfl)
theorem dX10_watch_90 : decode cX10_watch 90 = .ok (.iadd, 1) := dk_96 (dk_at dksX10_watch_3 18 rfl rfl)
theorem dX10_watch_91 : decode cX10_watch 91 = .ok (.putfield 406, 3) := dk_181 1 150 (dk_at dksX10_watch_3 19 rfl rfl)
theorem dX10_watch_94 : decode cX10_watch 94 = .ok (.aload_n 0, 1) := dk_42 (dk_at dksX10_watch_3 22 rfl rfl)
theorem dX10_watch_95 : decode cX10_watch 95 = .ok (.getfield 406, 3) := dk_180 1 150 (dk_at dksX10_watch_4 0 rfl rfl)
theorem dX10_watch_98 : decode cX10_watch 98 = .ok (.ireturn, 1) := dk_172 (dk_at dksX10_watch_4 3 rfl rfl)
def dkwX10_toldNow_1 : List UInt8 := [132, 2, 1, 167, 255, 234, 27, 172]
abbrev dktX10_toldNow_1 : List UInt8 := dkwX10_toldNow_1 ++ []
def dkwX10_toldNow_0 : List UInt8 := [3, 60, 3, 61, 28, 42, 180, 1, 150, 162, 0, 20, 27, 4, 42, 180, 0, 98, 28, 46, 120, 128, 60]
abbrev dktX10_toldNow_0 : List UInt8 := dkwX10_toldNow_0 ++ dktX10_toldNow_1
theorem dksX10_toldNow_0 : cX10_toldNow.data.toList.drop 0 = dktX10_toldNow_0 := by decide +kernel
theorem dksX10_toldNow_1 : cX10_toldNow.data.toList.drop 23 = dktX10_toldNow_1 := dk_seg dksX10_toldNow_0 23 rfl rfl
theorem dX10_toldNow_0 : decode cX10_toldNow 0 = .ok (.iconst 0, 1) := dk_3 (dk_at dksX10_toldNow_0 0 rfl rfl)
theorem dX10_toldNow_1 : decode cX10_toldNow 1 = .ok (.istore_n 1, 1) := dk_60 (dk_at dksX10_toldNow_0 1 rfl rfl)
theorem dX10_toldNow_2 : decode cX10_toldNow 2 = .ok (.iconst 0, 1) := dk_3 (dk_at dksX10_toldNow_0 2 rfl rfl)
theorem dX10_toldNow_3 : decode cX10_toldNow 3 = .ok (.istore_n 2, 1) := dk_61 (dk_at dksX10_toldNow_0 3 rfl rfl)
theorem dX10_toldNow_4 : decode cX10_toldNow 4 = .ok (.iload_n 2, 1) := dk_28 (dk_at dksX10_toldNow_0 4 rfl rfl)
theorem dX10_toldNow_5 : decode cX10_toldNow 5 = .ok (.aload_n 0, 1) := dk_42 (dk_at dksX10_toldNow_0 5 rfl rfl)
theorem dX10_toldNow_6 : decode cX10_toldNow 6 = .ok (.getfield 406, 3) := dk_180 1 150 (dk_at dksX10_toldNow_0 6 rfl rfl)
theorem dX10_toldNow_9 : decode cX10_toldNow 9 = .ok (.if_icmp .ge 20, 3) := dk_162 0 20 (dk_at dksX10_toldNow_0 9 rfl rfl)
theorem dX10_toldNow_12 : decode cX10_toldNow 12 = .ok (.iload_n 1, 1) := dk_27 (dk_at dksX10_toldNow_0 12 rfl rfl)
theorem dX10_toldNow_13 : decode cX10_toldNow 13 = .ok (.iconst 1, 1) := dk_4 (dk_at dksX10_toldNow_0 13 rfl rfl)
theorem dX10_toldNow_14 : decode cX10_toldNow 14 = .ok (.aload_n 0, 1) := dk_42 (dk_at dksX10_toldNow_0 14 rfl rfl)
theorem dX10_toldNow_15 : decode cX10_toldNow 15 = .ok (.getfield 98, 3) := dk_180 0 98 (dk_at dksX10_toldNow_0 15 rfl rfl)
theorem dX10_toldNow_18 : decode cX10_toldNow 18 = .ok (.iload_n 2, 1) := dk_28 (dk_at dksX10_toldNow_0 18 rfl rfl)
theorem dX10_toldNow_19 : decode cX10_toldNow 19 = .ok (.iaload, 1) := dk_46 (dk_at dksX10_toldNow_0 19 rfl rfl)
theorem dX10_toldNow_20 : decode cX10_toldNow 20 = .ok (.ishl, 1) := dk_120 (dk_at dksX10_toldNow_0 20 rfl rfl)
theorem dX10_toldNow_21 : decode cX10_toldNow 21 = .ok (.ior, 1) := dk_128 (dk_at dksX10_toldNow_0 21 rfl rfl)
theorem dX10_toldNow_22 : decode cX10_toldNow 22 = .ok (.istore_n 1, 1) := dk_60 (dk_at dksX10_toldNow_0 22 rfl rfl)
theorem dX10_toldNow_23 : decode cX10_toldNow 23 = .ok (.iinc 2 1, 3) := dk_132 2 1 (dk_at dksX10_toldNow_1 0 rfl rfl)
theorem dX10_toldNow_26 : decode cX10_toldNow 26 = .ok (.goto (-22), 3) := dk_167 255 234 (dk_at dksX10_toldNow_1 3 rfl rfl)
theorem dX10_toldNow_29 : decode cX10_toldNow 29 = .ok (.iload_n 1, 1) := dk_27 (dk_at dksX10_toldNow_1 6 rfl rfl)
theorem dX10_toldNow_30 : decode cX10_toldNow 30 = .ok (.ireturn, 1) := dk_172 (dk_at dksX10_toldNow_1 7 rfl rfl)
def dkwX10_turn_4 : List UInt8 := [167, 255, 191, 29, 27, 160, 0, 5, 28, 172, 132, 2, 1, 167, 255, 156, 2, 172]
abbrev dktX10_turn_4 : List UInt8 := dkwX10_turn_4 ++ []
def dkwX10_turn_3 : List UInt8 := [180, 0, 116, 28, 46, 160, 0, 13, 21, 4, 28, 162, 0, 7, 4, 167, 0, 4, 3, 96, 62, 132, 4, 1]
abbrev dktX10_turn_3 : List UInt8 := dkwX10_turn_3 ++ dktX10_turn_4
def dkwX10_turn_2 : List UInt8 := [180, 0, 116, 21, 4, 46, 42, 180, 0, 116, 28, 46, 161, 0, 25, 42, 180, 0, 116, 21, 4, 46, 42]
abbrev dktX10_turn_2 : List UInt8 := dkwX10_turn_2 ++ dktX10_turn_3
def dkwX10_turn_1 : List UInt8 := [3, 62, 3, 54, 4, 21, 4, 16, 10, 162, 0, 64, 29, 42, 21, 4, 182, 1, 227, 153, 0, 45, 42]
abbrev dktX10_turn_1 : List UInt8 := dkwX10_turn_1 ++ dktX10_turn_2
def dkwX10_turn_0 : List UInt8 := [42, 3, 181, 0, 1, 3, 61, 28, 16, 10, 162, 0, 100, 42, 28, 182, 1, 227, 154, 0, 6, 167, 0, 83]
abbrev dktX10_turn_0 : List UInt8 := dkwX10_turn_0 ++ dktX10_turn_1
theorem dksX10_turn_0 : cX10_turn.data.toList.drop 0 = dktX10_turn_0 := by decide +kernel
theorem dksX10_turn_1 : cX10_turn.data.toList.drop 24 = dktX10_turn_1 := dk_seg dksX10_turn_0 24 rfl rfl
theorem dksX10_turn_2 : cX10_turn.data.toList.drop 47 = dktX10_turn_2 := dk_seg dksX10_turn_1 23 rfl rfl
theorem dksX10_turn_3 : cX10_turn.data.toList.drop 70 = dktX10_turn_3 := dk_seg dksX10_turn_2 23 rfl rfl
theorem dksX10_turn_4 : cX10_turn.data.toList.drop 94 = dktX10_turn_4 := dk_seg dksX10_turn_3 24 rfl rfl
theorem dX10_turn_0 : decode cX10_turn 0 = .ok (.aload_n 0, 1) := dk_42 (dk_at dksX10_turn_0 0 rfl rfl)
theorem dX10_turn_1 : decode cX10_turn 1 = .ok (.iconst 0, 1) := dk_3 (dk_at dksX10_turn_0 1 rfl rfl)
theorem dX10_turn_2 : decode cX10_turn 2 = .ok (.putfield 1, 3) := dk_181 0 1 (dk_at dksX10_turn_0 2 rfl rfl)
theorem dX10_turn_5 : decode cX10_turn 5 = .ok (.iconst 0, 1) := dk_3 (dk_at dksX10_turn_0 5 rfl rfl)
theorem dX10_turn_6 : decode cX10_turn 6 = .ok (.istore_n 2, 1) := dk_61 (dk_at dksX10_turn_0 6 rfl rfl)
theorem dX10_turn_7 : decode cX10_turn 7 = .ok (.iload_n 2, 1) := dk_28 (dk_at dksX10_turn_0 7 rfl rfl)
theorem dX10_turn_8 : decode cX10_turn 8 = .ok (.bipush 10, 2) := dk_16 10 (dk_at dksX10_turn_0 8 rfl rfl)
theorem dX10_turn_10 : decode cX10_turn 10 = .ok (.if_icmp .ge 100, 3) := dk_162 0 100 (dk_at dksX10_turn_0 10 rfl rfl)
theorem dX10_turn_13 : decode cX10_turn 13 = .ok (.aload_n 0, 1) := dk_42 (dk_at dksX10_turn_0 13 rfl rfl)
theorem dX10_turn_14 : decode cX10_turn 14 = .ok (.iload_n 2, 1) := dk_28 (dk_at dksX10_turn_0 14 rfl rfl)
theorem dX10_turn_15 : decode cX10_turn 15 = .ok (.invokevirtual 483, 3) := dk_182 1 227 (dk_at dksX10_turn_0 15 rfl rfl)
theorem dX10_turn_18 : decode cX10_turn 18 = .ok (.ifCond .ne 6, 3) := dk_154 0 6 (dk_at dksX10_turn_0 18 rfl rfl)
theorem dX10_turn_21 : decode cX10_turn 21 = .ok (.goto 83, 3) := dk_167 0 83 (dk_at dksX10_turn_0 21 rfl rfl)
theorem dX10_turn_24 : decode cX10_turn 24 = .ok (.iconst 0, 1) := dk_3 (dk_at dksX10_turn_1 0 rfl rfl)
theorem dX10_turn_25 : decode cX10_turn 25 = .ok (.istore_n 3, 1) := dk_62 (dk_at dksX10_turn_1 1 rfl rfl)
theorem dX10_turn_26 : decode cX10_turn 26 = .ok (.iconst 0, 1) := dk_3 (dk_at dksX10_turn_1 2 rfl rfl)
theorem dX10_turn_27 : decode cX10_turn 27 = .ok (.istore 4, 2) := dk_54 4 (dk_at dksX10_turn_1 3 rfl rfl)
theorem dX10_turn_29 : decode cX10_turn 29 = .ok (.iload 4, 2) := dk_21 4 (dk_at dksX10_turn_1 5 rfl rfl)
theorem dX10_turn_31 : decode cX10_turn 31 = .ok (.bipush 10, 2) := dk_16 10 (dk_at dksX10_turn_1 7 rfl rfl)
theorem dX10_turn_33 : decode cX10_turn 33 = .ok (.if_icmp .ge 64, 3) := dk_162 0 64 (dk_at dksX10_turn_1 9 rfl rfl)
theorem dX10_turn_36 : decode cX10_turn 36 = .ok (.iload_n 3, 1) := dk_29 (dk_at dksX10_turn_1 12 rfl rfl)
theorem dX10_turn_37 : decode cX10_turn 37 = .ok (.aload_n 0, 1) := dk_42 (dk_at dksX10_turn_1 13 rfl rfl)
theorem dX10_turn_38 : decode cX10_turn 38 = .ok (.iload 4, 2) := dk_21 4 (dk_at dksX10_turn_1 14 rfl rfl)
theorem dX10_turn_40 : decode cX10_turn 40 = .ok (.invokevirtual 483, 3) := dk_182 1 227 (dk_at dksX10_turn_1 16 rfl rfl)
theorem dX10_turn_43 : decode cX10_turn 43 = .ok (.ifCond .eq 45, 3) := dk_153 0 45 (dk_at dksX10_turn_1 19 rfl rfl)
theorem dX10_turn_46 : decode cX10_turn 46 = .ok (.aload_n 0, 1) := dk_42 (dk_at dksX10_turn_1 22 rfl rfl)
theorem dX10_turn_47 : decode cX10_turn 47 = .ok (.getfield 116, 3) := dk_180 0 116 (dk_at dksX10_turn_2 0 rfl rfl)
theorem dX10_turn_50 : decode cX10_turn 50 = .ok (.iload 4, 2) := dk_21 4 (dk_at dksX10_turn_2 3 rfl rfl)
theorem dX10_turn_52 : decode cX10_turn 52 = .ok (.iaload, 1) := dk_46 (dk_at dksX10_turn_2 5 rfl rfl)
theorem dX10_turn_53 : decode cX10_turn 53 = .ok (.aload_n 0, 1) := dk_42 (dk_at dksX10_turn_2 6 rfl rfl)
theorem dX10_turn_54 : decode cX10_turn 54 = .ok (.getfield 116, 3) := dk_180 0 116 (dk_at dksX10_turn_2 7 rfl rfl)
theorem dX10_turn_57 : decode cX10_turn 57 = .ok (.iload_n 2, 1) := dk_28 (dk_at dksX10_turn_2 10 rfl rfl)
theorem dX10_turn_58 : decode cX10_turn 58 = .ok (.iaload, 1) := dk_46 (dk_at dksX10_turn_2 11 rfl rfl)
theorem dX10_turn_59 : decode cX10_turn 59 = .ok (.if_icmp .lt 25, 3) := dk_161 0 25 (dk_at dksX10_turn_2 12 rfl rfl)
theorem dX10_turn_62 : decode cX10_turn 62 = .ok (.aload_n 0, 1) := dk_42 (dk_at dksX10_turn_2 15 rfl rfl)
theorem dX10_turn_63 : decode cX10_turn 63 = .ok (.getfield 116, 3) := dk_180 0 116 (dk_at dksX10_turn_2 16 rfl rfl)
theorem dX10_turn_66 : decode cX10_turn 66 = .ok (.iload 4, 2) := dk_21 4 (dk_at dksX10_turn_2 19 rfl rfl)
theorem dX10_turn_68 : decode cX10_turn 68 = .ok (.iaload, 1) := dk_46 (dk_at dksX10_turn_2 21 rfl rfl)
theorem dX10_turn_69 : decode cX10_turn 69 = .ok (.aload_n 0, 1) := dk_42 (dk_at dksX10_turn_2 22 rfl rfl)
theorem dX10_turn_70 : decode cX10_turn 70 = .ok (.getfield 116, 3) := dk_180 0 116 (dk_at dksX10_turn_3 0 rfl rfl)
theorem dX10_turn_73 : decode cX10_turn 73 = .ok (.iload_n 2, 1) := dk_28 (dk_at dksX10_turn_3 3 rfl rfl)
theorem dX10_turn_74 : decode cX10_turn 74 = .ok (.iaload, 1) := dk_46 (dk_at dksX10_turn_3 4 rfl rfl)
theorem dX10_turn_75 : decode cX10_turn 75 = .ok (.if_icmp .ne 13, 3) := dk_160 0 13 (dk_at dksX10_turn_3 5 rfl rfl)
theorem dX10_turn_78 : decode cX10_turn 78 = .ok (.iload 4, 2) := dk_21 4 (dk_at dksX10_turn_3 8 rfl rfl)
theorem dX10_turn_80 : decode cX10_turn 80 = .ok (.iload_n 2, 1) := dk_28 (dk_at dksX10_turn_3 10 rfl rfl)
theorem dX10_turn_81 : decode cX10_turn 81 = .ok (.if_icmp .ge 7, 3) := dk_162 0 7 (dk_at dksX10_turn_3 11 rfl rfl)
theorem dX10_turn_84 : decode cX10_turn 84 = .ok (.iconst 1, 1) := dk_4 (dk_at dksX10_turn_3 14 rfl rfl)
theorem dX10_turn_85 : decode cX10_turn 85 = .ok (.goto 4, 3) := dk_167 0 4 (dk_at dksX10_turn_3 15 rfl rfl)
theorem dX10_turn_88 : decode cX10_turn 88 = .ok (.iconst 0, 1) := dk_3 (dk_at dksX10_turn_3 18 rfl rfl)
theorem dX10_turn_89 : decode cX10_turn 89 = .ok (.iadd, 1) := dk_96 (dk_at dksX10_turn_3 19 rfl rfl)
theorem dX10_turn_90 : decode cX10_turn 90 = .ok (.istore_n 3, 1) := dk_62 (dk_at dksX10_turn_3 20 rfl rfl)
theorem dX10_turn_91 : decode cX10_turn 91 = .ok (.iinc 4 1, 3) := dk_132 4 1 (dk_at dksX10_turn_3 21 rfl rfl)
theorem dX10_turn_94 : decode cX10_turn 94 = .ok (.goto (-65), 3) := dk_167 255 191 (dk_at dksX10_turn_4 0 rfl rfl)
theorem dX10_turn_97 : decode cX10_turn 97 = .ok (.iload_n 3, 1) := dk_29 (dk_at dksX10_turn_4 3 rfl rfl)
theorem dX10_turn_98 : decode cX10_turn 98 = .ok (.iload_n 1, 1) := dk_27 (dk_at dksX10_turn_4 4 rfl rfl)
theorem dX10_turn_99 : decode cX10_turn 99 = .ok (.if_icmp .ne 5, 3) := dk_160 0 5 (dk_at dksX10_turn_4 5 rfl rfl)
theorem dX10_turn_102 : decode cX10_turn 102 = .ok (.iload_n 2, 1) := dk_28 (dk_at dksX10_turn_4 8 rfl rfl)
theorem dX10_turn_103 : decode cX10_turn 103 = .ok (.ireturn, 1) := dk_172 (dk_at dksX10_turn_4 9 rfl rfl)
theorem dX10_turn_104 : decode cX10_turn 104 = .ok (.iinc 2 1, 3) := dk_132 2 1 (dk_at dksX10_turn_4 10 rfl rfl)
theorem dX10_turn_107 : decode cX10_turn 107 = .ok (.goto (-100), 3) := dk_167 255 156 (dk_at dksX10_turn_4 13 rfl rfl)
theorem dX10_turn_110 : decode cX10_turn 110 = .ok (.iconst (-1), 1) := dk_2 (dk_at dksX10_turn_4 16 rfl rfl)
theorem dX10_turn_111 : decode cX10_turn 111 = .ok (.ireturn, 1) := dk_172 (dk_at dksX10_turn_4 17 rfl rfl)
def dkwX10_isFree_0 : List UInt8 := [42, 182, 1, 224, 42, 180, 1, 218, 128, 27, 122, 4, 126, 154, 0, 7, 4, 167, 0, 4, 3, 172]
abbrev dktX10_isFree_0 : List UInt8 := dkwX10_isFree_0 ++ []
theorem dksX10_isFree_0 : cX10_isFree.data.toList.drop 0 = dktX10_isFree_0 := by decide +kernel
theorem dX10_isFree_0 : decode cX10_isFree 0 = .ok (.aload_n 0, 1) := dk_42 (dk_at dksX10_isFree_0 0 rfl rfl)
theorem dX10_isFree_1 : decode cX10_isFree 1 = .ok (.invokevirtual 480, 3) := dk_182 1 224 (dk_at dksX10_isFree_0 1 rfl rfl)
theorem dX10_isFree_4 : decode cX10_isFree 4 = .ok (.aload_n 0, 1) := dk_42 (dk_at dksX10_isFree_0 4 rfl rfl)
theorem dX10_isFree_5 : decode cX10_isFree 5 = .ok (.getfield 474, 3) := dk_180 1 218 (dk_at dksX10_isFree_0 5 rfl rfl)
theorem dX10_isFree_8 : decode cX10_isFree 8 = .ok (.ior, 1) := dk_128 (dk_at dksX10_isFree_0 8 rfl rfl)
theorem dX10_isFree_9 : decode cX10_isFree 9 = .ok (.iload_n 1, 1) := dk_27 (dk_at dksX10_isFree_0 9 rfl rfl)
theorem dX10_isFree_10 : decode cX10_isFree 10 = .ok (.ishr, 1) := dk_122 (dk_at dksX10_isFree_0 10 rfl rfl)
theorem dX10_isFree_11 : decode cX10_isFree 11 = .ok (.iconst 1, 1) := dk_4 (dk_at dksX10_isFree_0 11 rfl rfl)
theorem dX10_isFree_12 : decode cX10_isFree 12 = .ok (.iand, 1) := dk_126 (dk_at dksX10_isFree_0 12 rfl rfl)
theorem dX10_isFree_13 : decode cX10_isFree 13 = .ok (.ifCond .ne 7, 3) := dk_154 0 7 (dk_at dksX10_isFree_0 13 rfl rfl)
theorem dX10_isFree_16 : decode cX10_isFree 16 = .ok (.iconst 1, 1) := dk_4 (dk_at dksX10_isFree_0 16 rfl rfl)
theorem dX10_isFree_17 : decode cX10_isFree 17 = .ok (.goto 4, 3) := dk_167 0 4 (dk_at dksX10_isFree_0 17 rfl rfl)
theorem dX10_isFree_20 : decode cX10_isFree 20 = .ok (.iconst 0, 1) := dk_3 (dk_at dksX10_isFree_0 20 rfl rfl)
theorem dX10_isFree_21 : decode cX10_isFree 21 = .ok (.ireturn, 1) := dk_172 (dk_at dksX10_isFree_0 21 rfl rfl)
def dkwX10_watched_1 : List UInt8 := [180, 0, 116, 27, 46, 172]
abbrev dktX10_watched_1 : List UInt8 := dkwX10_watched_1 ++ []
def dkwX10_watched_0 : List UInt8 := [42, 3, 181, 0, 1, 42, 27, 3, 16, 9, 184, 0, 210, 4, 182, 0, 214, 154, 0, 5, 3, 172, 42]
abbrev dktX10_watched_0 : List UInt8 := dkwX10_watched_0 ++ dktX10_watched_1
theorem dksX10_watched_0 : cX10_watched.data.toList.drop 0 = dktX10_watched_0 := by decide +kernel
theorem dksX10_watched_1 : cX10_watched.data.toList.drop 23 = dktX10_watched_1 := dk_seg dksX10_watched_0 23 rfl rfl
theorem dX10_watched_0 : decode cX10_watched 0 = .ok (.aload_n 0, 1) := dk_42 (dk_at dksX10_watched_0 0 rfl rfl)
theorem dX10_watched_1 : decode cX10_watched 1 = .ok (.iconst 0, 1) := dk_3 (dk_at dksX10_watched_0 1 rfl rfl)
theorem dX10_watched_2 : decode cX10_watched 2 = .ok (.putfield 1, 3) := dk_181 0 1 (dk_at dksX10_watched_0 2 rfl rfl)
theorem dX10_watched_5 : decode cX10_watched 5 = .ok (.aload_n 0, 1) := dk_42 (dk_at dksX10_watched_0 5 rfl rfl)
theorem dX10_watched_6 : decode cX10_watched 6 = .ok (.iload_n 1, 1) := dk_27 (dk_at dksX10_watched_0 6 rfl rfl)
theorem dX10_watched_7 : decode cX10_watched 7 = .ok (.iconst 0, 1) := dk_3 (dk_at dksX10_watched_0 7 rfl rfl)
theorem dX10_watched_8 : decode cX10_watched 8 = .ok (.bipush 9, 2) := dk_16 9 (dk_at dksX10_watched_0 8 rfl rfl)
theorem dX10_watched_10 : decode cX10_watched 10 = .ok (.invokestatic 210, 3) := dk_184 0 210 (dk_at dksX10_watched_0 10 rfl rfl)
theorem dX10_watched_13 : decode cX10_watched 13 = .ok (.iconst 1, 1) := dk_4 (dk_at dksX10_watched_0 13 rfl rfl)
theorem dX10_watched_14 : decode cX10_watched 14 = .ok (.invokevirtual 214, 3) := dk_182 0 214 (dk_at dksX10_watched_0 14 rfl rfl)
theorem dX10_watched_17 : decode cX10_watched 17 = .ok (.ifCond .ne 5, 3) := dk_154 0 5 (dk_at dksX10_watched_0 17 rfl rfl)
theorem dX10_watched_20 : decode cX10_watched 20 = .ok (.iconst 0, 1) := dk_3 (dk_at dksX10_watched_0 20 rfl rfl)
theorem dX10_watched_21 : decode cX10_watched 21 = .ok (.ireturn, 1) := dk_172 (dk_at dksX10_watched_0 21 rfl rfl)
theorem dX10_watched_22 : decode cX10_watched 22 = .ok (.aload_n 0, 1) := dk_42 (dk_at dksX10_watched_0 22 rfl rfl)
theorem dX10_watched_23 : decode cX10_watched 23 = .ok (.getfield 116, 3) := dk_180 0 116 (dk_at dksX10_watched_1 0 rfl rfl)
theorem dX10_watched_26 : decode cX10_watched 26 = .ok (.iload_n 1, 1) := dk_27 (dk_at dksX10_watched_1 3 rfl rfl)
theorem dX10_watched_27 : decode cX10_watched 27 = .ok (.iaload, 1) := dk_46 (dk_at dksX10_watched_1 4 rfl rfl)
theorem dX10_watched_28 : decode cX10_watched 28 = .ok (.ireturn, 1) := dk_172 (dk_at dksX10_watched_1 5 rfl rfl)
def dkwX10_post_3 : List UInt8 := [153, 0, 12, 42, 180, 0, 128, 28, 46, 167, 0, 4, 2, 172]
abbrev dktX10_post_3 : List UInt8 := dkwX10_post_3 ++ []
def dkwX10_post_2 : List UInt8 := [181, 1, 230, 42, 3, 3, 29, 182, 1, 237, 42, 3, 181, 1, 156, 28, 3, 29, 4, 100, 184, 0, 210]
abbrev dktX10_post_2 : List UInt8 := dkwX10_post_2 ++ dktX10_post_3
def dkwX10_post_1 : List UInt8 := [182, 1, 199, 27, 42, 180, 1, 184, 162, 0, 7, 27, 167, 0, 7, 42, 180, 1, 184, 62, 42, 3]
abbrev dktX10_post_1 : List UInt8 := dkwX10_post_1 ++ dktX10_post_2
def dkwX10_post_0 : List UInt8 := [42, 3, 181, 0, 1, 42, 27, 4, 6, 184, 0, 210, 4, 182, 0, 214, 154, 0, 5, 3, 172, 42]
abbrev dktX10_post_0 : List UInt8 := dkwX10_post_0 ++ dktX10_post_1
theorem dksX10_post_0 : cX10_post.data.toList.drop 0 = dktX10_post_0 := by decide +kernel
theorem dksX10_post_1 : cX10_post.data.toList.drop 22 = dktX10_post_1 := dk_seg dksX10_post_0 22 rfl rfl
theorem dksX10_post_2 : cX10_post.data.toList.drop 44 = dktX10_post_2 := dk_seg dksX10_post_1 22 rfl rfl
theorem dksX10_post_3 : cX10_post.data.toList.drop 67 = dktX10_post_3 := dk_seg dksX10_post_2 23 rfl rfl
theorem dX10_post_0 : decode cX10_post 0 = .ok (.aload_n 0, 1) := dk_42 (dk_at dksX10_post_0 0 rfl rfl)
theorem dX10_post_1 : decode cX10_post 1 = .ok (.iconst 0, 1) := dk_3 (dk_at dksX10_post_0 1 rfl rfl)
theorem dX10_post_2 : decode cX10_post 2 = .ok (.putfield 1, 3) := dk_181 0 1 (dk_at dksX10_post_0 2 rfl rfl)
theorem dX10_post_5 : decode cX10_post 5 = .ok (.aload_n 0, 1) := dk_42 (dk_at dksX10_post_0 5 rfl rfl)
theorem dX10_post_6 : decode cX10_post 6 = .ok (.iload_n 1, 1) := dk_27 (dk_at dksX10_post_0 6 rfl rfl)
theorem dX10_post_7 : decode cX10_post 7 = .ok (.iconst 1, 1) := dk_4 (dk_at dksX10_post_0 7 rfl rfl)
theorem dX10_post_8 : decode cX10_post 8 = .ok (.iconst 3, 1) := dk_6 (dk_at dksX10_post_0 8 rfl rfl)
theorem dX10_post_9 : decode cX10_post 9 = .ok (.invokestatic 210, 3) := dk_184 0 210 (dk_at dksX10_post_0 9 rfl rfl)
theorem dX10_post_12 : decode cX10_post 12 = .ok (.iconst 1, 1) := dk_4 (dk_at dksX10_post_0 12 rfl rfl)
theorem dX10_post_13 : decode cX10_post 13 = .ok (.invokevirtual 214, 3) := dk_182 0 214 (dk_at dksX10_post_0 13 rfl rfl)
theorem dX10_post_16 : decode cX10_post 16 = .ok (.ifCond .ne 5, 3) := dk_154 0 5 (dk_at dksX10_post_0 16 rfl rfl)
theorem dX10_post_19 : decode cX10_post 19 = .ok (.iconst 0, 1) := dk_3 (dk_at dksX10_post_0 19 rfl rfl)
theorem dX10_post_20 : decode cX10_post 20 = .ok (.ireturn, 1) := dk_172 (dk_at dksX10_post_0 20 rfl rfl)
theorem dX10_post_21 : decode cX10_post 21 = .ok (.aload_n 0, 1) := dk_42 (dk_at dksX10_post_0 21 rfl rfl)
theorem dX10_post_22 : decode cX10_post 22 = .ok (.invokevirtual 455, 3) := dk_182 1 199 (dk_at dksX10_post_1 0 rfl rfl)
theorem dX10_post_25 : decode cX10_post 25 = .ok (.iload_n 1, 1) := dk_27 (dk_at dksX10_post_1 3 rfl rfl)
theorem dX10_post_26 : decode cX10_post 26 = .ok (.aload_n 0, 1) := dk_42 (dk_at dksX10_post_1 4 rfl rfl)
theorem dX10_post_27 : decode cX10_post 27 = .ok (.getfield 440, 3) := dk_180 1 184 (dk_at dksX10_post_1 5 rfl rfl)
theorem dX10_post_30 : decode cX10_post 30 = .ok (.if_icmp .ge 7, 3) := dk_162 0 7 (dk_at dksX10_post_1 8 rfl rfl)
theorem dX10_post_33 : decode cX10_post 33 = .ok (.iload_n 1, 1) := dk_27 (dk_at dksX10_post_1 11 rfl rfl)
theorem dX10_post_34 : decode cX10_post 34 = .ok (.goto 7, 3) := dk_167 0 7 (dk_at dksX10_post_1 12 rfl rfl)
theorem dX10_post_37 : decode cX10_post 37 = .ok (.aload_n 0, 1) := dk_42 (dk_at dksX10_post_1 15 rfl rfl)
theorem dX10_post_38 : decode cX10_post 38 = .ok (.getfield 440, 3) := dk_180 1 184 (dk_at dksX10_post_1 16 rfl rfl)
theorem dX10_post_41 : decode cX10_post 41 = .ok (.istore_n 3, 1) := dk_62 (dk_at dksX10_post_1 19 rfl rfl)
theorem dX10_post_42 : decode cX10_post 42 = .ok (.aload_n 0, 1) := dk_42 (dk_at dksX10_post_1 20 rfl rfl)
theorem dX10_post_43 : decode cX10_post 43 = .ok (.iconst 0, 1) := dk_3 (dk_at dksX10_post_1 21 rfl rfl)
theorem dX10_post_44 : decode cX10_post 44 = .ok (.putfield 486, 3) := dk_181 1 230 (dk_at dksX10_post_2 0 rfl rfl)
theorem dX10_post_47 : decode cX10_post 47 = .ok (.aload_n 0, 1) := dk_42 (dk_at dksX10_post_2 3 rfl rfl)
theorem dX10_post_48 : decode cX10_post 48 = .ok (.iconst 0, 1) := dk_3 (dk_at dksX10_post_2 4 rfl rfl)
theorem dX10_post_49 : decode cX10_post 49 = .ok (.iconst 0, 1) := dk_3 (dk_at dksX10_post_2 5 rfl rfl)
theorem dX10_post_50 : decode cX10_post 50 = .ok (.iload_n 3, 1) := dk_29 (dk_at dksX10_post_2 6 rfl rfl)
theorem dX10_post_51 : decode cX10_post 51 = .ok (.invokevirtual 493, 3) := dk_182 1 237 (dk_at dksX10_post_2 7 rfl rfl)
theorem dX10_post_54 : decode cX10_post 54 = .ok (.aload_n 0, 1) := dk_42 (dk_at dksX10_post_2 10 rfl rfl)
theorem dX10_post_55 : decode cX10_post 55 = .ok (.iconst 0, 1) := dk_3 (dk_at dksX10_post_2 11 rfl rfl)
theorem dX10_post_56 : decode cX10_post 56 = .ok (.putfield 412, 3) := dk_181 1 156 (dk_at dksX10_post_2 12 rfl rfl)
theorem dX10_post_59 : decode cX10_post 59 = .ok (.iload_n 2, 1) := dk_28 (dk_at dksX10_post_2 15 rfl rfl)
theorem dX10_post_60 : decode cX10_post 60 = .ok (.iconst 0, 1) := dk_3 (dk_at dksX10_post_2 16 rfl rfl)
theorem dX10_post_61 : decode cX10_post 61 = .ok (.iload_n 3, 1) := dk_29 (dk_at dksX10_post_2 17 rfl rfl)
theorem dX10_post_62 : decode cX10_post 62 = .ok (.iconst 1, 1) := dk_4 (dk_at dksX10_post_2 18 rfl rfl)
theorem dX10_post_63 : decode cX10_post 63 = .ok (.isub, 1) := dk_100 (dk_at dksX10_post_2 19 rfl rfl)
theorem dX10_post_64 : decode cX10_post 64 = .ok (.invokestatic 210, 3) := dk_184 0 210 (dk_at dksX10_post_2 20 rfl rfl)
theorem dX10_post_67 : decode cX10_post 67 = .ok (.ifCond .eq 12, 3) := dk_153 0 12 (dk_at dksX10_post_3 0 rfl rfl)
theorem dX10_post_70 : decode cX10_post 70 = .ok (.aload_n 0, 1) := dk_42 (dk_at dksX10_post_3 3 rfl rfl)
theorem dX10_post_71 : decode cX10_post 71 = .ok (.getfield 128, 3) := dk_180 0 128 (dk_at dksX10_post_3 4 rfl rfl)
theorem dX10_post_74 : decode cX10_post 74 = .ok (.iload_n 2, 1) := dk_28 (dk_at dksX10_post_3 7 rfl rfl)
theorem dX10_post_75 : decode cX10_post 75 = .ok (.iaload, 1) := dk_46 (dk_at dksX10_post_3 8 rfl rfl)
theorem dX10_post_76 : decode cX10_post 76 = .ok (.goto 4, 3) := dk_167 0 4 (dk_at dksX10_post_3 9 rfl rfl)
theorem dX10_post_79 : decode cX10_post 79 = .ok (.iconst (-1), 1) := dk_2 (dk_at dksX10_post_3 12 rfl rfl)
theorem dX10_post_80 : decode cX10_post 80 = .ok (.ireturn, 1) := dk_172 (dk_at dksX10_post_3 13 rfl rfl)
def dkwX10_tryPosts_5 : List UInt8 := [29, 182, 1, 237, 132, 4, 1, 167, 255, 219, 177]
abbrev dktX10_tryPosts_5 : List UInt8 := dkwX10_tryPosts_5 ++ []
def dkwX10_tryPosts_4 : List UInt8 := [162, 0, 34, 42, 180, 0, 104, 28, 42, 180, 0, 110, 21, 4, 46, 79, 42, 21, 4, 4, 96, 28, 4, 96]
abbrev dktX10_tryPosts_4 : List UInt8 := dkwX10_tryPosts_4 ++ dktX10_tryPosts_5
def dkwX10_tryPosts_3 : List UInt8 := [180, 0, 104, 21, 4, 46, 79, 132, 4, 1, 167, 255, 233, 177, 27, 54, 4, 21, 4, 42, 180, 1, 184]
abbrev dktX10_tryPosts_3 : List UInt8 := dkwX10_tryPosts_3 ++ dktX10_tryPosts_4
def dkwX10_tryPosts_2 : List UInt8 := [180, 1, 147, 181, 1, 234, 3, 54, 4, 21, 4, 29, 162, 0, 23, 42, 180, 0, 128, 21, 4, 42]
abbrev dktX10_tryPosts_2 : List UInt8 := dkwX10_tryPosts_2 ++ dktX10_tryPosts_3
def dkwX10_tryPosts_1 : List UInt8 := [153, 0, 15, 42, 180, 1, 147, 42, 180, 1, 234, 161, 0, 4, 177, 42, 4, 181, 1, 230, 42, 42]
abbrev dktX10_tryPosts_1 : List UInt8 := dkwX10_tryPosts_1 ++ dktX10_tryPosts_2
def dkwX10_tryPosts_0 : List UInt8 := [28, 29, 160, 0, 79, 42, 29, 181, 1, 156, 42, 182, 1, 138, 42, 4, 182, 1, 178, 42, 180, 1, 230]
abbrev dktX10_tryPosts_0 : List UInt8 := dkwX10_tryPosts_0 ++ dktX10_tryPosts_1
theorem dksX10_tryPosts_0 : cX10_tryPosts.data.toList.drop 0 = dktX10_tryPosts_0 := by decide +kernel
theorem dksX10_tryPosts_1 : cX10_tryPosts.data.toList.drop 23 = dktX10_tryPosts_1 := dk_seg dksX10_tryPosts_0 23 rfl rfl
theorem dksX10_tryPosts_2 : cX10_tryPosts.data.toList.drop 45 = dktX10_tryPosts_2 := dk_seg dksX10_tryPosts_1 22 rfl rfl
theorem dksX10_tryPosts_3 : cX10_tryPosts.data.toList.drop 67 = dktX10_tryPosts_3 := dk_seg dksX10_tryPosts_2 22 rfl rfl
theorem dksX10_tryPosts_4 : cX10_tryPosts.data.toList.drop 90 = dktX10_tryPosts_4 := dk_seg dksX10_tryPosts_3 23 rfl rfl
theorem dksX10_tryPosts_5 : cX10_tryPosts.data.toList.drop 114 = dktX10_tryPosts_5 := dk_seg dksX10_tryPosts_4 24 rfl rfl
theorem dX10_tryPosts_0 : decode cX10_tryPosts 0 = .ok (.iload_n 2, 1) := dk_28 (dk_at dksX10_tryPosts_0 0 rfl rfl)
theorem dX10_tryPosts_1 : decode cX10_tryPosts 1 = .ok (.iload_n 3, 1) := dk_29 (dk_at dksX10_tryPosts_0 1 rfl rfl)
theorem dX10_tryPosts_2 : decode cX10_tryPosts 2 = .ok (.if_icmp .ne 79, 3) := dk_160 0 79 (dk_at dksX10_tryPosts_0 2 rfl rfl)
theorem dX10_tryPosts_5 : decode cX10_tryPosts 5 = .ok (.aload_n 0, 1) := dk_42 (dk_at dksX10_tryPosts_0 5 rfl rfl)
theorem dX10_tryPosts_6 : decode cX10_tryPosts 6 = .ok (.iload_n 3, 1) := dk_29 (dk_at dksX10_tryPosts_0 6 rfl rfl)
theorem dX10_tryPosts_7 : decode cX10_tryPosts 7 = .ok (.putfield 412, 3) := dk_181 1 156 (dk_at dksX10_tryPosts_0 7 rfl rfl)
theorem dX10_tryPosts_10 : decode cX10_tryPosts 10 = .ok (.aload_n 0, 1) := dk_42 (dk_at dksX10_tryPosts_0 10 rfl rfl)
theorem dX10_tryPosts_11 : decode cX10_tryPosts 11 = .ok (.invokevirtual 394, 3) := dk_182 1 138 (dk_at dksX10_tryPosts_0 11 rfl rfl)
theorem dX10_tryPosts_14 : decode cX10_tryPosts 14 = .ok (.aload_n 0, 1) := dk_42 (dk_at dksX10_tryPosts_0 14 rfl rfl)
theorem dX10_tryPosts_15 : decode cX10_tryPosts 15 = .ok (.iconst 1, 1) := dk_4 (dk_at dksX10_tryPosts_0 15 rfl rfl)
theorem dX10_tryPosts_16 : decode cX10_tryPosts 16 = .ok (.invokevirtual 434, 3) := dk_182 1 178 (dk_at dksX10_tryPosts_0 16 rfl rfl)
theorem dX10_tryPosts_19 : decode cX10_tryPosts 19 = .ok (.aload_n 0, 1) := dk_42 (dk_at dksX10_tryPosts_0 19 rfl rfl)
theorem dX10_tryPosts_20 : decode cX10_tryPosts 20 = .ok (.getfield 486, 3) := dk_180 1 230 (dk_at dksX10_tryPosts_0 20 rfl rfl)
theorem dX10_tryPosts_23 : decode cX10_tryPosts 23 = .ok (.ifCond .eq 15, 3) := dk_153 0 15 (dk_at dksX10_tryPosts_1 0 rfl rfl)
theorem dX10_tryPosts_26 : decode cX10_tryPosts 26 = .ok (.aload_n 0, 1) := dk_42 (dk_at dksX10_tryPosts_1 3 rfl rfl)
theorem dX10_tryPosts_27 : decode cX10_tryPosts 27 = .ok (.getfield 403, 3) := dk_180 1 147 (dk_at dksX10_tryPosts_1 4 rfl rfl)
theorem dX10_tryPosts_30 : decode cX10_tryPosts 30 = .ok (.aload_n 0, 1) := dk_42 (dk_at dksX10_tryPosts_1 7 rfl rfl)
theorem dX10_tryPosts_31 : decode cX10_tryPosts 31 = .ok (.getfield 490, 3) := dk_180 1 234 (dk_at dksX10_tryPosts_1 8 rfl rfl)
theorem dX10_tryPosts_34 : decode cX10_tryPosts 34 = .ok (.if_icmp .lt 4, 3) := dk_161 0 4 (dk_at dksX10_tryPosts_1 11 rfl rfl)
theorem dX10_tryPosts_37 : decode cX10_tryPosts 37 = .ok (.return_, 1) := dk_177 (dk_at dksX10_tryPosts_1 14 rfl rfl)
theorem dX10_tryPosts_38 : decode cX10_tryPosts 38 = .ok (.aload_n 0, 1) := dk_42 (dk_at dksX10_tryPosts_1 15 rfl rfl)
theorem dX10_tryPosts_39 : decode cX10_tryPosts 39 = .ok (.iconst 1, 1) := dk_4 (dk_at dksX10_tryPosts_1 16 rfl rfl)
theorem dX10_tryPosts_40 : decode cX10_tryPosts 40 = .ok (.putfield 486, 3) := dk_181 1 230 (dk_at dksX10_tryPosts_1 17 rfl rfl)
theorem dX10_tryPosts_43 : decode cX10_tryPosts 43 = .ok (.aload_n 0, 1) := dk_42 (dk_at dksX10_tryPosts_1 20 rfl rfl)
theorem dX10_tryPosts_44 : decode cX10_tryPosts 44 = .ok (.aload_n 0, 1) := dk_42 (dk_at dksX10_tryPosts_1 21 rfl rfl)
theorem dX10_tryPosts_45 : decode cX10_tryPosts 45 = .ok (.getfield 403, 3) := dk_180 1 147 (dk_at dksX10_tryPosts_2 0 rfl rfl)
theorem dX10_tryPosts_48 : decode cX10_tryPosts 48 = .ok (.putfield 490, 3) := dk_181 1 234 (dk_at dksX10_tryPosts_2 3 rfl rfl)
theorem dX10_tryPosts_51 : decode cX10_tryPosts 51 = .ok (.iconst 0, 1) := dk_3 (dk_at dksX10_tryPosts_2 6 rfl rfl)
theorem dX10_tryPosts_52 : decode cX10_tryPosts 52 = .ok (.istore 4, 2) := dk_54 4 (dk_at dksX10_tryPosts_2 7 rfl rfl)
theorem dX10_tryPosts_54 : decode cX10_tryPosts 54 = .ok (.iload 4, 2) := dk_21 4 (dk_at dksX10_tryPosts_2 9 rfl rfl)
theorem dX10_tryPosts_56 : decode cX10_tryPosts 56 = .ok (.iload_n 3, 1) := dk_29 (dk_at dksX10_tryPosts_2 11 rfl rfl)
theorem dX10_tryPosts_57 : decode cX10_tryPosts 57 = .ok (.if_icmp .ge 23, 3) := dk_162 0 23 (dk_at dksX10_tryPosts_2 12 rfl rfl)
theorem dX10_tryPosts_60 : decode cX10_tryPosts 60 = .ok (.aload_n 0, 1) := dk_42 (dk_at dksX10_tryPosts_2 15 rfl rfl)
theorem dX10_tryPosts_61 : decode cX10_tryPosts 61 = .ok (.getfield 128, 3) := dk_180 0 128 (dk_at dksX10_tryPosts_2 16 rfl rfl)
theorem dX10_tryPosts_64 : decode cX10_tryPosts 64 = .ok (.iload 4, 2) := dk_21 4 (dk_at dksX10_tryPosts_2 19 rfl rfl)
theorem dX10_tryPosts_66 : decode cX10_tryPosts 66 = .ok (.aload_n 0, 1) := dk_42 (dk_at dksX10_tryPosts_2 21 rfl rfl)
theorem dX10_tryPosts_67 : decode cX10_tryPosts 67 = .ok (.getfield 104, 3) := dk_180 0 104 (dk_at dksX10_tryPosts_3 0 rfl rfl)
theorem dX10_tryPosts_70 : decode cX10_tryPosts 70 = .ok (.iload 4, 2) := dk_21 4 (dk_at dksX10_tryPosts_3 3 rfl rfl)
theorem dX10_tryPosts_72 : decode cX10_tryPosts 72 = .ok (.iaload, 1) := dk_46 (dk_at dksX10_tryPosts_3 5 rfl rfl)
theorem dX10_tryPosts_73 : decode cX10_tryPosts 73 = .ok (.iastore, 1) := dk_79 (dk_at dksX10_tryPosts_3 6 rfl rfl)
theorem dX10_tryPosts_74 : decode cX10_tryPosts 74 = .ok (.iinc 4 1, 3) := dk_132 4 1 (dk_at dksX10_tryPosts_3 7 rfl rfl)
theorem dX10_tryPosts_77 : decode cX10_tryPosts 77 = .ok (.goto (-23), 3) := dk_167 255 233 (dk_at dksX10_tryPosts_3 10 rfl rfl)
theorem dX10_tryPosts_80 : decode cX10_tryPosts 80 = .ok (.return_, 1) := dk_177 (dk_at dksX10_tryPosts_3 13 rfl rfl)
theorem dX10_tryPosts_81 : decode cX10_tryPosts 81 = .ok (.iload_n 1, 1) := dk_27 (dk_at dksX10_tryPosts_3 14 rfl rfl)
theorem dX10_tryPosts_82 : decode cX10_tryPosts 82 = .ok (.istore 4, 2) := dk_54 4 (dk_at dksX10_tryPosts_3 15 rfl rfl)
theorem dX10_tryPosts_84 : decode cX10_tryPosts 84 = .ok (.iload 4, 2) := dk_21 4 (dk_at dksX10_tryPosts_3 17 rfl rfl)
theorem dX10_tryPosts_86 : decode cX10_tryPosts 86 = .ok (.aload_n 0, 1) := dk_42 (dk_at dksX10_tryPosts_3 19 rfl rfl)
theorem dX10_tryPosts_87 : decode cX10_tryPosts 87 = .ok (.getfield 440, 3) := dk_180 1 184 (dk_at dksX10_tryPosts_3 20 rfl rfl)
theorem dX10_tryPosts_90 : decode cX10_tryPosts 90 = .ok (.if_icmp .ge 34, 3) := dk_162 0 34 (dk_at dksX10_tryPosts_4 0 rfl rfl)
theorem dX10_tryPosts_93 : decode cX10_tryPosts 93 = .ok (.aload_n 0, 1) := dk_42 (dk_at dksX10_tryPosts_4 3 rfl rfl)
theorem dX10_tryPosts_94 : decode cX10_tryPosts 94 = .ok (.getfield 104, 3) := dk_180 0 104 (dk_at dksX10_tryPosts_4 4 rfl rfl)
theorem dX10_tryPosts_97 : decode cX10_tryPosts 97 = .ok (.iload_n 2, 1) := dk_28 (dk_at dksX10_tryPosts_4 7 rfl rfl)
theorem dX10_tryPosts_98 : decode cX10_tryPosts 98 = .ok (.aload_n 0, 1) := dk_42 (dk_at dksX10_tryPosts_4 8 rfl rfl)
theorem dX10_tryPosts_99 : decode cX10_tryPosts 99 = .ok (.getfield 110, 3) := dk_180 0 110 (dk_at dksX10_tryPosts_4 9 rfl rfl)
theorem dX10_tryPosts_102 : decode cX10_tryPosts 102 = .ok (.iload 4, 2) := dk_21 4 (dk_at dksX10_tryPosts_4 12 rfl rfl)
theorem dX10_tryPosts_104 : decode cX10_tryPosts 104 = .ok (.iaload, 1) := dk_46 (dk_at dksX10_tryPosts_4 14 rfl rfl)
theorem dX10_tryPosts_105 : decode cX10_tryPosts 105 = .ok (.iastore, 1) := dk_79 (dk_at dksX10_tryPosts_4 15 rfl rfl)
theorem dX10_tryPosts_106 : decode cX10_tryPosts 106 = .ok (.aload_n 0, 1) := dk_42 (dk_at dksX10_tryPosts_4 16 rfl rfl)
theorem dX10_tryPosts_107 : decode cX10_tryPosts 107 = .ok (.iload 4, 2) := dk_21 4 (dk_at dksX10_tryPosts_4 17 rfl rfl)
theorem dX10_tryPosts_109 : decode cX10_tryPosts 109 = .ok (.iconst 1, 1) := dk_4 (dk_at dksX10_tryPosts_4 19 rfl rfl)
theorem dX10_tryPosts_110 : decode cX10_tryPosts 110 = .ok (.iadd, 1) := dk_96 (dk_at dksX10_tryPosts_4 20 rfl rfl)
theorem dX10_tryPosts_111 : decode cX10_tryPosts 111 = .ok (.iload_n 2, 1) := dk_28 (dk_at dksX10_tryPosts_4 21 rfl rfl)
theorem dX10_tryPosts_112 : decode cX10_tryPosts 112 = .ok (.iconst 1, 1) := dk_4 (dk_at dksX10_tryPosts_4 22 rfl rfl)
theorem dX10_tryPosts_113 : decode cX10_tryPosts 113 = .ok (.iadd, 1) := dk_96 (dk_at dksX10_tryPosts_4 23 rfl rfl)
theorem dX10_tryPosts_114 : decode cX10_tryPosts 114 = .ok (.iload_n 3, 1) := dk_29 (dk_at dksX10_tryPosts_5 0 rfl rfl)
theorem dX10_tryPosts_115 : decode cX10_tryPosts 115 = .ok (.invokevirtual 493, 3) := dk_182 1 237 (dk_at dksX10_tryPosts_5 1 rfl rfl)
theorem dX10_tryPosts_118 : decode cX10_tryPosts 118 = .ok (.iinc 4 1, 3) := dk_132 4 1 (dk_at dksX10_tryPosts_5 4 rfl rfl)
theorem dX10_tryPosts_121 : decode cX10_tryPosts 121 = .ok (.goto (-37), 3) := dk_167 255 219 (dk_at dksX10_tryPosts_5 7 rfl rfl)
theorem dX10_tryPosts_124 : decode cX10_tryPosts 124 = .ok (.return_, 1) := dk_177 (dk_at dksX10_tryPosts_5 10 rfl rfl)
def dkwX10_join_3 : List UInt8 := [180, 1, 240, 4, 27, 120, 2, 130, 126, 181, 1, 240, 42, 180, 1, 240, 184, 1, 243, 172]
abbrev dktX10_join_3 : List UInt8 := dkwX10_join_3 ++ []
def dkwX10_join_2 : List UInt8 := [160, 0, 5, 2, 172, 42, 28, 153, 0, 14, 42, 180, 1, 240, 4, 27, 120, 128, 167, 0, 13, 42]
abbrev dktX10_join_2 : List UInt8 := dkwX10_join_2 ++ dktX10_join_3
def dkwX10_join_1 : List UInt8 := [153, 0, 28, 42, 180, 1, 240, 27, 122, 4, 126, 154, 0, 17, 42, 180, 1, 240, 184, 1, 243, 16, 6]
abbrev dktX10_join_1 : List UInt8 := dkwX10_join_1 ++ dktX10_join_2
def dkwX10_join_0 : List UInt8 := [42, 3, 181, 0, 1, 42, 27, 3, 16, 9, 184, 0, 210, 4, 182, 0, 214, 154, 0, 5, 3, 172, 28]
abbrev dktX10_join_0 : List UInt8 := dkwX10_join_0 ++ dktX10_join_1
theorem dksX10_join_0 : cX10_join.data.toList.drop 0 = dktX10_join_0 := by decide +kernel
theorem dksX10_join_1 : cX10_join.data.toList.drop 23 = dktX10_join_1 := dk_seg dksX10_join_0 23 rfl rfl
theorem dksX10_join_2 : cX10_join.data.toList.drop 46 = dktX10_join_2 := dk_seg dksX10_join_1 23 rfl rfl
theorem dksX10_join_3 : cX10_join.data.toList.drop 68 = dktX10_join_3 := dk_seg dksX10_join_2 22 rfl rfl
theorem dX10_join_0 : decode cX10_join 0 = .ok (.aload_n 0, 1) := dk_42 (dk_at dksX10_join_0 0 rfl rfl)
theorem dX10_join_1 : decode cX10_join 1 = .ok (.iconst 0, 1) := dk_3 (dk_at dksX10_join_0 1 rfl rfl)
theorem dX10_join_2 : decode cX10_join 2 = .ok (.putfield 1, 3) := dk_181 0 1 (dk_at dksX10_join_0 2 rfl rfl)
theorem dX10_join_5 : decode cX10_join 5 = .ok (.aload_n 0, 1) := dk_42 (dk_at dksX10_join_0 5 rfl rfl)
theorem dX10_join_6 : decode cX10_join 6 = .ok (.iload_n 1, 1) := dk_27 (dk_at dksX10_join_0 6 rfl rfl)
theorem dX10_join_7 : decode cX10_join 7 = .ok (.iconst 0, 1) := dk_3 (dk_at dksX10_join_0 7 rfl rfl)
theorem dX10_join_8 : decode cX10_join 8 = .ok (.bipush 9, 2) := dk_16 9 (dk_at dksX10_join_0 8 rfl rfl)
theorem dX10_join_10 : decode cX10_join 10 = .ok (.invokestatic 210, 3) := dk_184 0 210 (dk_at dksX10_join_0 10 rfl rfl)
theorem dX10_join_13 : decode cX10_join 13 = .ok (.iconst 1, 1) := dk_4 (dk_at dksX10_join_0 13 rfl rfl)
theorem dX10_join_14 : decode cX10_join 14 = .ok (.invokevirtual 214, 3) := dk_182 0 214 (dk_at dksX10_join_0 14 rfl rfl)
theorem dX10_join_17 : decode cX10_join 17 = .ok (.ifCond .ne 5, 3) := dk_154 0 5 (dk_at dksX10_join_0 17 rfl rfl)
theorem dX10_join_20 : decode cX10_join 20 = .ok (.iconst 0, 1) := dk_3 (dk_at dksX10_join_0 20 rfl rfl)
theorem dX10_join_21 : decode cX10_join 21 = .ok (.ireturn, 1) := dk_172 (dk_at dksX10_join_0 21 rfl rfl)
theorem dX10_join_22 : decode cX10_join 22 = .ok (.iload_n 2, 1) := dk_28 (dk_at dksX10_join_0 22 rfl rfl)
theorem dX10_join_23 : decode cX10_join 23 = .ok (.ifCond .eq 28, 3) := dk_153 0 28 (dk_at dksX10_join_1 0 rfl rfl)
theorem dX10_join_26 : decode cX10_join 26 = .ok (.aload_n 0, 1) := dk_42 (dk_at dksX10_join_1 3 rfl rfl)
theorem dX10_join_27 : decode cX10_join 27 = .ok (.getfield 496, 3) := dk_180 1 240 (dk_at dksX10_join_1 4 rfl rfl)
theorem dX10_join_30 : decode cX10_join 30 = .ok (.iload_n 1, 1) := dk_27 (dk_at dksX10_join_1 7 rfl rfl)
theorem dX10_join_31 : decode cX10_join 31 = .ok (.ishr, 1) := dk_122 (dk_at dksX10_join_1 8 rfl rfl)
theorem dX10_join_32 : decode cX10_join 32 = .ok (.iconst 1, 1) := dk_4 (dk_at dksX10_join_1 9 rfl rfl)
theorem dX10_join_33 : decode cX10_join 33 = .ok (.iand, 1) := dk_126 (dk_at dksX10_join_1 10 rfl rfl)
theorem dX10_join_34 : decode cX10_join 34 = .ok (.ifCond .ne 17, 3) := dk_154 0 17 (dk_at dksX10_join_1 11 rfl rfl)
theorem dX10_join_37 : decode cX10_join 37 = .ok (.aload_n 0, 1) := dk_42 (dk_at dksX10_join_1 14 rfl rfl)
theorem dX10_join_38 : decode cX10_join 38 = .ok (.getfield 496, 3) := dk_180 1 240 (dk_at dksX10_join_1 15 rfl rfl)
theorem dX10_join_41 : decode cX10_join 41 = .ok (.invokestatic 499, 3) := dk_184 1 243 (dk_at dksX10_join_1 18 rfl rfl)
theorem dX10_join_44 : decode cX10_join 44 = .ok (.bipush 6, 2) := dk_16 6 (dk_at dksX10_join_1 21 rfl rfl)
theorem dX10_join_46 : decode cX10_join 46 = .ok (.if_icmp .ne 5, 3) := dk_160 0 5 (dk_at dksX10_join_2 0 rfl rfl)
theorem dX10_join_49 : decode cX10_join 49 = .ok (.iconst (-1), 1) := dk_2 (dk_at dksX10_join_2 3 rfl rfl)
theorem dX10_join_50 : decode cX10_join 50 = .ok (.ireturn, 1) := dk_172 (dk_at dksX10_join_2 4 rfl rfl)
theorem dX10_join_51 : decode cX10_join 51 = .ok (.aload_n 0, 1) := dk_42 (dk_at dksX10_join_2 5 rfl rfl)
theorem dX10_join_52 : decode cX10_join 52 = .ok (.iload_n 2, 1) := dk_28 (dk_at dksX10_join_2 6 rfl rfl)
theorem dX10_join_53 : decode cX10_join 53 = .ok (.ifCond .eq 14, 3) := dk_153 0 14 (dk_at dksX10_join_2 7 rfl rfl)
theorem dX10_join_56 : decode cX10_join 56 = .ok (.aload_n 0, 1) := dk_42 (dk_at dksX10_join_2 10 rfl rfl)
theorem dX10_join_57 : decode cX10_join 57 = .ok (.getfield 496, 3) := dk_180 1 240 (dk_at dksX10_join_2 11 rfl rfl)
theorem dX10_join_60 : decode cX10_join 60 = .ok (.iconst 1, 1) := dk_4 (dk_at dksX10_join_2 14 rfl rfl)
theorem dX10_join_61 : decode cX10_join 61 = .ok (.iload_n 1, 1) := dk_27 (dk_at dksX10_join_2 15 rfl rfl)
theorem dX10_join_62 : decode cX10_join 62 = .ok (.ishl, 1) := dk_120 (dk_at dksX10_join_2 16 rfl rfl)
theorem dX10_join_63 : decode cX10_join 63 = .ok (.ior, 1) := dk_128 (dk_at dksX10_join_2 17 rfl rfl)
theorem dX10_join_64 : decode cX10_join 64 = .ok (.goto 13, 3) := dk_167 0 13 (dk_at dksX10_join_2 18 rfl rfl)
theorem dX10_join_67 : decode cX10_join 67 = .ok (.aload_n 0, 1) := dk_42 (dk_at dksX10_join_2 21 rfl rfl)
theorem dX10_join_68 : decode cX10_join 68 = .ok (.getfield 496, 3) := dk_180 1 240 (dk_at dksX10_join_3 0 rfl rfl)
theorem dX10_join_71 : decode cX10_join 71 = .ok (.iconst 1, 1) := dk_4 (dk_at dksX10_join_3 3 rfl rfl)
theorem dX10_join_72 : decode cX10_join 72 = .ok (.iload_n 1, 1) := dk_27 (dk_at dksX10_join_3 4 rfl rfl)
theorem dX10_join_73 : decode cX10_join 73 = .ok (.ishl, 1) := dk_120 (dk_at dksX10_join_3 5 rfl rfl)
theorem dX10_join_74 : decode cX10_join 74 = .ok (.iconst (-1), 1) := dk_2 (dk_at dksX10_join_3 6 rfl rfl)
theorem dX10_join_75 : decode cX10_join 75 = .ok (.ixor, 1) := dk_130 (dk_at dksX10_join_3 7 rfl rfl)
theorem dX10_join_76 : decode cX10_join 76 = .ok (.iand, 1) := dk_126 (dk_at dksX10_join_3 8 rfl rfl)
theorem dX10_join_77 : decode cX10_join 77 = .ok (.putfield 496, 3) := dk_181 1 240 (dk_at dksX10_join_3 9 rfl rfl)
theorem dX10_join_80 : decode cX10_join 80 = .ok (.aload_n 0, 1) := dk_42 (dk_at dksX10_join_3 12 rfl rfl)
theorem dX10_join_81 : decode cX10_join 81 = .ok (.getfield 496, 3) := dk_180 1 240 (dk_at dksX10_join_3 13 rfl rfl)
theorem dX10_join_84 : decode cX10_join 84 = .ok (.invokestatic 499, 3) := dk_184 1 243 (dk_at dksX10_join_3 16 rfl rfl)
theorem dX10_join_87 : decode cX10_join 87 = .ok (.ireturn, 1) := dk_172 (dk_at dksX10_join_3 19 rfl rfl)
def dkwX10_bits_1 : List UInt8 := [27, 172]
abbrev dktX10_bits_1 : List UInt8 := dkwX10_bits_1 ++ []
def dkwX10_bits_0 : List UInt8 := [3, 60, 3, 61, 28, 16, 10, 162, 0, 17, 27, 26, 28, 122, 4, 126, 96, 60, 132, 2, 1, 167, 255, 239]
abbrev dktX10_bits_0 : List UInt8 := dkwX10_bits_0 ++ dktX10_bits_1
theorem dksX10_bits_0 : cX10_bits.data.toList.drop 0 = dktX10_bits_0 := by decide +kernel
theorem dksX10_bits_1 : cX10_bits.data.toList.drop 24 = dktX10_bits_1 := dk_seg dksX10_bits_0 24 rfl rfl
theorem dX10_bits_0 : decode cX10_bits 0 = .ok (.iconst 0, 1) := dk_3 (dk_at dksX10_bits_0 0 rfl rfl)
theorem dX10_bits_1 : decode cX10_bits 1 = .ok (.istore_n 1, 1) := dk_60 (dk_at dksX10_bits_0 1 rfl rfl)
theorem dX10_bits_2 : decode cX10_bits 2 = .ok (.iconst 0, 1) := dk_3 (dk_at dksX10_bits_0 2 rfl rfl)
theorem dX10_bits_3 : decode cX10_bits 3 = .ok (.istore_n 2, 1) := dk_61 (dk_at dksX10_bits_0 3 rfl rfl)
theorem dX10_bits_4 : decode cX10_bits 4 = .ok (.iload_n 2, 1) := dk_28 (dk_at dksX10_bits_0 4 rfl rfl)
theorem dX10_bits_5 : decode cX10_bits 5 = .ok (.bipush 10, 2) := dk_16 10 (dk_at dksX10_bits_0 5 rfl rfl)
theorem dX10_bits_7 : decode cX10_bits 7 = .ok (.if_icmp .ge 17, 3) := dk_162 0 17 (dk_at dksX10_bits_0 7 rfl rfl)
theorem dX10_bits_10 : decode cX10_bits 10 = .ok (.iload_n 1, 1) := dk_27 (dk_at dksX10_bits_0 10 rfl rfl)
theorem dX10_bits_11 : decode cX10_bits 11 = .ok (.iload_n 0, 1) := dk_26 (dk_at dksX10_bits_0 11 rfl rfl)
theorem dX10_bits_12 : decode cX10_bits 12 = .ok (.iload_n 2, 1) := dk_28 (dk_at dksX10_bits_0 12 rfl rfl)
theorem dX10_bits_13 : decode cX10_bits 13 = .ok (.ishr, 1) := dk_122 (dk_at dksX10_bits_0 13 rfl rfl)
theorem dX10_bits_14 : decode cX10_bits 14 = .ok (.iconst 1, 1) := dk_4 (dk_at dksX10_bits_0 14 rfl rfl)
theorem dX10_bits_15 : decode cX10_bits 15 = .ok (.iand, 1) := dk_126 (dk_at dksX10_bits_0 15 rfl rfl)
theorem dX10_bits_16 : decode cX10_bits 16 = .ok (.iadd, 1) := dk_96 (dk_at dksX10_bits_0 16 rfl rfl)
theorem dX10_bits_17 : decode cX10_bits 17 = .ok (.istore_n 1, 1) := dk_60 (dk_at dksX10_bits_0 17 rfl rfl)
theorem dX10_bits_18 : decode cX10_bits 18 = .ok (.iinc 2 1, 3) := dk_132 2 1 (dk_at dksX10_bits_0 18 rfl rfl)
theorem dX10_bits_21 : decode cX10_bits 21 = .ok (.goto (-17), 3) := dk_167 255 239 (dk_at dksX10_bits_0 21 rfl rfl)
theorem dX10_bits_24 : decode cX10_bits 24 = .ok (.iload_n 1, 1) := dk_27 (dk_at dksX10_bits_1 0 rfl rfl)
theorem dX10_bits_25 : decode cX10_bits 25 = .ok (.ireturn, 1) := dk_172 (dk_at dksX10_bits_1 1 rfl rfl)
def dkwX10_away_2 : List UInt8 := [27, 104, 28, 96, 51, 54, 4, 42, 180, 0, 131, 17, 3, 232, 27, 104, 28, 96, 29, 84, 21, 4, 172]
abbrev dktX10_away_2 : List UInt8 := dkwX10_away_2 ++ []
def dkwX10_away_1 : List UInt8 := [153, 0, 7, 4, 167, 0, 4, 3, 4, 182, 0, 214, 154, 0, 5, 3, 172, 42, 180, 0, 131, 17, 3, 232]
abbrev dktX10_away_1 : List UInt8 := dkwX10_away_1 ++ dktX10_away_2
def dkwX10_away_0 : List UInt8 := [42, 3, 181, 0, 1, 42, 27, 3, 16, 9, 184, 0, 210, 153, 0, 18, 28, 3, 17, 3, 231, 184, 0, 210]
abbrev dktX10_away_0 : List UInt8 := dkwX10_away_0 ++ dktX10_away_1
theorem dksX10_away_0 : cX10_away.data.toList.drop 0 = dktX10_away_0 := by decide +kernel
theorem dksX10_away_1 : cX10_away.data.toList.drop 24 = dktX10_away_1 := dk_seg dksX10_away_0 24 rfl rfl
theorem dksX10_away_2 : cX10_away.data.toList.drop 48 = dktX10_away_2 := dk_seg dksX10_away_1 24 rfl rfl
theorem dX10_away_0 : decode cX10_away 0 = .ok (.aload_n 0, 1) := dk_42 (dk_at dksX10_away_0 0 rfl rfl)
theorem dX10_away_1 : decode cX10_away 1 = .ok (.iconst 0, 1) := dk_3 (dk_at dksX10_away_0 1 rfl rfl)
theorem dX10_away_2 : decode cX10_away 2 = .ok (.putfield 1, 3) := dk_181 0 1 (dk_at dksX10_away_0 2 rfl rfl)
theorem dX10_away_5 : decode cX10_away 5 = .ok (.aload_n 0, 1) := dk_42 (dk_at dksX10_away_0 5 rfl rfl)
theorem dX10_away_6 : decode cX10_away 6 = .ok (.iload_n 1, 1) := dk_27 (dk_at dksX10_away_0 6 rfl rfl)
theorem dX10_away_7 : decode cX10_away 7 = .ok (.iconst 0, 1) := dk_3 (dk_at dksX10_away_0 7 rfl rfl)
theorem dX10_away_8 : decode cX10_away 8 = .ok (.bipush 9, 2) := dk_16 9 (dk_at dksX10_away_0 8 rfl rfl)
theorem dX10_away_10 : decode cX10_away 10 = .ok (.invokestatic 210, 3) := dk_184 0 210 (dk_at dksX10_away_0 10 rfl rfl)
theorem dX10_away_13 : decode cX10_away 13 = .ok (.ifCond .eq 18, 3) := dk_153 0 18 (dk_at dksX10_away_0 13 rfl rfl)
theorem dX10_away_16 : decode cX10_away 16 = .ok (.iload_n 2, 1) := dk_28 (dk_at dksX10_away_0 16 rfl rfl)
theorem dX10_away_17 : decode cX10_away 17 = .ok (.iconst 0, 1) := dk_3 (dk_at dksX10_away_0 17 rfl rfl)
theorem dX10_away_18 : decode cX10_away 18 = .ok (.sipush 999, 3) := dk_17 3 231 (dk_at dksX10_away_0 18 rfl rfl)
theorem dX10_away_21 : decode cX10_away 21 = .ok (.invokestatic 210, 3) := dk_184 0 210 (dk_at dksX10_away_0 21 rfl rfl)
theorem dX10_away_24 : decode cX10_away 24 = .ok (.ifCond .eq 7, 3) := dk_153 0 7 (dk_at dksX10_away_1 0 rfl rfl)
theorem dX10_away_27 : decode cX10_away 27 = .ok (.iconst 1, 1) := dk_4 (dk_at dksX10_away_1 3 rfl rfl)
theorem dX10_away_28 : decode cX10_away 28 = .ok (.goto 4, 3) := dk_167 0 4 (dk_at dksX10_away_1 4 rfl rfl)
theorem dX10_away_31 : decode cX10_away 31 = .ok (.iconst 0, 1) := dk_3 (dk_at dksX10_away_1 7 rfl rfl)
theorem dX10_away_32 : decode cX10_away 32 = .ok (.iconst 1, 1) := dk_4 (dk_at dksX10_away_1 8 rfl rfl)
theorem dX10_away_33 : decode cX10_away 33 = .ok (.invokevirtual 214, 3) := dk_182 0 214 (dk_at dksX10_away_1 9 rfl rfl)
theorem dX10_away_36 : decode cX10_away 36 = .ok (.ifCond .ne 5, 3) := dk_154 0 5 (dk_at dksX10_away_1 12 rfl rfl)
theorem dX10_away_39 : decode cX10_away 39 = .ok (.iconst 0, 1) := dk_3 (dk_at dksX10_away_1 15 rfl rfl)
theorem dX10_away_40 : decode cX10_away 40 = .ok (.ireturn, 1) := dk_172 (dk_at dksX10_away_1 16 rfl rfl)
theorem dX10_away_41 : decode cX10_away 41 = .ok (.aload_n 0, 1) := dk_42 (dk_at dksX10_away_1 17 rfl rfl)
theorem dX10_away_42 : decode cX10_away 42 = .ok (.getfield 131, 3) := dk_180 0 131 (dk_at dksX10_away_1 18 rfl rfl)
theorem dX10_away_45 : decode cX10_away 45 = .ok (.sipush 1000, 3) := dk_17 3 232 (dk_at dksX10_away_1 21 rfl rfl)
theorem dX10_away_48 : decode cX10_away 48 = .ok (.iload_n 1, 1) := dk_27 (dk_at dksX10_away_2 0 rfl rfl)
theorem dX10_away_49 : decode cX10_away 49 = .ok (.imul, 1) := dk_104 (dk_at dksX10_away_2 1 rfl rfl)
theorem dX10_away_50 : decode cX10_away 50 = .ok (.iload_n 2, 1) := dk_28 (dk_at dksX10_away_2 2 rfl rfl)
theorem dX10_away_51 : decode cX10_away 51 = .ok (.iadd, 1) := dk_96 (dk_at dksX10_away_2 3 rfl rfl)
theorem dX10_away_52 : decode cX10_away 52 = .ok (.baload, 1) := dk_51 (dk_at dksX10_away_2 4 rfl rfl)
theorem dX10_away_53 : decode cX10_away 53 = .ok (.istore 4, 2) := dk_54 4 (dk_at dksX10_away_2 5 rfl rfl)
theorem dX10_away_55 : decode cX10_away 55 = .ok (.aload_n 0, 1) := dk_42 (dk_at dksX10_away_2 7 rfl rfl)
theorem dX10_away_56 : decode cX10_away 56 = .ok (.getfield 131, 3) := dk_180 0 131 (dk_at dksX10_away_2 8 rfl rfl)
theorem dX10_away_59 : decode cX10_away 59 = .ok (.sipush 1000, 3) := dk_17 3 232 (dk_at dksX10_away_2 11 rfl rfl)
theorem dX10_away_62 : decode cX10_away 62 = .ok (.iload_n 1, 1) := dk_27 (dk_at dksX10_away_2 14 rfl rfl)
theorem dX10_away_63 : decode cX10_away 63 = .ok (.imul, 1) := dk_104 (dk_at dksX10_away_2 15 rfl rfl)
theorem dX10_away_64 : decode cX10_away 64 = .ok (.iload_n 2, 1) := dk_28 (dk_at dksX10_away_2 16 rfl rfl)
theorem dX10_away_65 : decode cX10_away 65 = .ok (.iadd, 1) := dk_96 (dk_at dksX10_away_2 17 rfl rfl)
theorem dX10_away_66 : decode cX10_away 66 = .ok (.iload_n 3, 1) := dk_29 (dk_at dksX10_away_2 18 rfl rfl)
theorem dX10_away_67 : decode cX10_away 67 = .ok (.bastore, 1) := dk_84 (dk_at dksX10_away_2 19 rfl rfl)
theorem dX10_away_68 : decode cX10_away 68 = .ok (.iload 4, 2) := dk_21 4 (dk_at dksX10_away_2 20 rfl rfl)
theorem dX10_away_70 : decode cX10_away 70 = .ok (.ireturn, 1) := dk_172 (dk_at dksX10_away_2 22 rfl rfl)
def dkwX10_rota_4 : List UInt8 := [167, 0, 16, 21, 5, 21, 4, 160, 0, 6, 21, 6, 172, 132, 5, 1, 132, 6, 1, 167, 255, 216, 2, 172]
abbrev dktX10_rota_4 : List UInt8 := dkwX10_rota_4 ++ []
def dkwX10_rota_3 : List UInt8 := [54, 6, 21, 6, 16, 10, 162, 0, 39, 42, 180, 0, 141, 29, 46, 21, 6, 122, 4, 126, 154, 0, 6]
abbrev dktX10_rota_3 : List UInt8 := dkwX10_rota_3 ++ dktX10_rota_4
def dkwX10_rota_2 : List UInt8 := [154, 0, 5, 3, 172, 42, 27, 28, 182, 2, 15, 42, 180, 1, 246, 154, 0, 5, 2, 172, 3, 54, 5, 3]
abbrev dktX10_rota_2 : List UInt8 := dkwX10_rota_2 ++ dktX10_rota_3
def dkwX10_rota_1 : List UInt8 := [153, 0, 18, 29, 3, 27, 4, 100, 184, 0, 210, 153, 0, 7, 4, 167, 0, 4, 3, 4, 182, 0, 214]
abbrev dktX10_rota_1 : List UInt8 := dkwX10_rota_1 ++ dktX10_rota_2
def dkwX10_rota_0 : List UInt8 := [42, 3, 181, 0, 1, 42, 27, 4, 16, 6, 184, 0, 210, 153, 0, 27, 28, 4, 5, 184, 0, 210]
abbrev dktX10_rota_0 : List UInt8 := dkwX10_rota_0 ++ dktX10_rota_1
theorem dksX10_rota_0 : cX10_rota.data.toList.drop 0 = dktX10_rota_0 := by decide +kernel
theorem dksX10_rota_1 : cX10_rota.data.toList.drop 22 = dktX10_rota_1 := dk_seg dksX10_rota_0 22 rfl rfl
theorem dksX10_rota_2 : cX10_rota.data.toList.drop 45 = dktX10_rota_2 := dk_seg dksX10_rota_1 23 rfl rfl
theorem dksX10_rota_3 : cX10_rota.data.toList.drop 69 = dktX10_rota_3 := dk_seg dksX10_rota_2 24 rfl rfl
theorem dksX10_rota_4 : cX10_rota.data.toList.drop 92 = dktX10_rota_4 := dk_seg dksX10_rota_3 23 rfl rfl
theorem dX10_rota_0 : decode cX10_rota 0 = .ok (.aload_n 0, 1) := dk_42 (dk_at dksX10_rota_0 0 rfl rfl)
theorem dX10_rota_1 : decode cX10_rota 1 = .ok (.iconst 0, 1) := dk_3 (dk_at dksX10_rota_0 1 rfl rfl)
theorem dX10_rota_2 : decode cX10_rota 2 = .ok (.putfield 1, 3) := dk_181 0 1 (dk_at dksX10_rota_0 2 rfl rfl)
theorem dX10_rota_5 : decode cX10_rota 5 = .ok (.aload_n 0, 1) := dk_42 (dk_at dksX10_rota_0 5 rfl rfl)
theorem dX10_rota_6 : decode cX10_rota 6 = .ok (.iload_n 1, 1) := dk_27 (dk_at dksX10_rota_0 6 rfl rfl)
theorem dX10_rota_7 : decode cX10_rota 7 = .ok (.iconst 1, 1) := dk_4 (dk_at dksX10_rota_0 7 rfl rfl)
theorem dX10_rota_8 : decode cX10_rota 8 = .ok (.bipush 6, 2) := dk_16 6 (dk_at dksX10_rota_0 8 rfl rfl)
theorem dX10_rota_10 : decode cX10_rota 10 = .ok (.invokestatic 210, 3) := dk_184 0 210 (dk_at dksX10_rota_0 10 rfl rfl)
theorem dX10_rota_13 : decode cX10_rota 13 = .ok (.ifCond .eq 27, 3) := dk_153 0 27 (dk_at dksX10_rota_0 13 rfl rfl)
theorem dX10_rota_16 : decode cX10_rota 16 = .ok (.iload_n 2, 1) := dk_28 (dk_at dksX10_rota_0 16 rfl rfl)
theorem dX10_rota_17 : decode cX10_rota 17 = .ok (.iconst 1, 1) := dk_4 (dk_at dksX10_rota_0 17 rfl rfl)
theorem dX10_rota_18 : decode cX10_rota 18 = .ok (.iconst 2, 1) := dk_5 (dk_at dksX10_rota_0 18 rfl rfl)
theorem dX10_rota_19 : decode cX10_rota 19 = .ok (.invokestatic 210, 3) := dk_184 0 210 (dk_at dksX10_rota_0 19 rfl rfl)
theorem dX10_rota_22 : decode cX10_rota 22 = .ok (.ifCond .eq 18, 3) := dk_153 0 18 (dk_at dksX10_rota_1 0 rfl rfl)
theorem dX10_rota_25 : decode cX10_rota 25 = .ok (.iload_n 3, 1) := dk_29 (dk_at dksX10_rota_1 3 rfl rfl)
theorem dX10_rota_26 : decode cX10_rota 26 = .ok (.iconst 0, 1) := dk_3 (dk_at dksX10_rota_1 4 rfl rfl)
theorem dX10_rota_27 : decode cX10_rota 27 = .ok (.iload_n 1, 1) := dk_27 (dk_at dksX10_rota_1 5 rfl rfl)
theorem dX10_rota_28 : decode cX10_rota 28 = .ok (.iconst 1, 1) := dk_4 (dk_at dksX10_rota_1 6 rfl rfl)
theorem dX10_rota_29 : decode cX10_rota 29 = .ok (.isub, 1) := dk_100 (dk_at dksX10_rota_1 7 rfl rfl)
theorem dX10_rota_30 : decode cX10_rota 30 = .ok (.invokestatic 210, 3) := dk_184 0 210 (dk_at dksX10_rota_1 8 rfl rfl)
theorem dX10_rota_33 : decode cX10_rota 33 = .ok (.ifCond .eq 7, 3) := dk_153 0 7 (dk_at dksX10_rota_1 11 rfl rfl)
theorem dX10_rota_36 : decode cX10_rota 36 = .ok (.iconst 1, 1) := dk_4 (dk_at dksX10_rota_1 14 rfl rfl)
theorem dX10_rota_37 : decode cX10_rota 37 = .ok (.goto 4, 3) := dk_167 0 4 (dk_at dksX10_rota_1 15 rfl rfl)
theorem dX10_rota_40 : decode cX10_rota 40 = .ok (.iconst 0, 1) := dk_3 (dk_at dksX10_rota_1 18 rfl rfl)
theorem dX10_rota_41 : decode cX10_rota 41 = .ok (.iconst 1, 1) := dk_4 (dk_at dksX10_rota_1 19 rfl rfl)
theorem dX10_rota_42 : decode cX10_rota 42 = .ok (.invokevirtual 214, 3) := dk_182 0 214 (dk_at dksX10_rota_1 20 rfl rfl)
theorem dX10_rota_45 : decode cX10_rota 45 = .ok (.ifCond .ne 5, 3) := dk_154 0 5 (dk_at dksX10_rota_2 0 rfl rfl)
theorem dX10_rota_48 : decode cX10_rota 48 = .ok (.iconst 0, 1) := dk_3 (dk_at dksX10_rota_2 3 rfl rfl)
theorem dX10_rota_49 : decode cX10_rota 49 = .ok (.ireturn, 1) := dk_172 (dk_at dksX10_rota_2 4 rfl rfl)
theorem dX10_rota_50 : decode cX10_rota 50 = .ok (.aload_n 0, 1) := dk_42 (dk_at dksX10_rota_2 5 rfl rfl)
theorem dX10_rota_51 : decode cX10_rota 51 = .ok (.iload_n 1, 1) := dk_27 (dk_at dksX10_rota_2 6 rfl rfl)
theorem dX10_rota_52 : decode cX10_rota 52 = .ok (.iload_n 2, 1) := dk_28 (dk_at dksX10_rota_2 7 rfl rfl)
theorem dX10_rota_53 : decode cX10_rota 53 = .ok (.invokevirtual 527, 3) := dk_182 2 15 (dk_at dksX10_rota_2 8 rfl rfl)
theorem dX10_rota_56 : decode cX10_rota 56 = .ok (.aload_n 0, 1) := dk_42 (dk_at dksX10_rota_2 11 rfl rfl)
theorem dX10_rota_57 : decode cX10_rota 57 = .ok (.getfield 502, 3) := dk_180 1 246 (dk_at dksX10_rota_2 12 rfl rfl)
theorem dX10_rota_60 : decode cX10_rota 60 = .ok (.ifCond .ne 5, 3) := dk_154 0 5 (dk_at dksX10_rota_2 15 rfl rfl)
theorem dX10_rota_63 : decode cX10_rota 63 = .ok (.iconst (-1), 1) := dk_2 (dk_at dksX10_rota_2 18 rfl rfl)
theorem dX10_rota_64 : decode cX10_rota 64 = .ok (.ireturn, 1) := dk_172 (dk_at dksX10_rota_2 19 rfl rfl)
theorem dX10_rota_65 : decode cX10_rota 65 = .ok (.iconst 0, 1) := dk_3 (dk_at dksX10_rota_2 20 rfl rfl)
theorem dX10_rota_66 : decode cX10_rota 66 = .ok (.istore 5, 2) := dk_54 5 (dk_at dksX10_rota_2 21 rfl rfl)
theorem dX10_rota_68 : decode cX10_rota 68 = .ok (.iconst 0, 1) := dk_3 (dk_at dksX10_rota_2 23 rfl rfl)
theorem dX10_rota_69 : decode cX10_rota 69 = .ok (.istore 6, 2) := dk_54 6 (dk_at dksX10_rota_3 0 rfl rfl)
theorem dX10_rota_71 : decode cX10_rota 71 = .ok (.iload 6, 2) := dk_21 6 (dk_at dksX10_rota_3 2 rfl rfl)
theorem dX10_rota_73 : decode cX10_rota 73 = .ok (.bipush 10, 2) := dk_16 10 (dk_at dksX10_rota_3 4 rfl rfl)
theorem dX10_rota_75 : decode cX10_rota 75 = .ok (.if_icmp .ge 39, 3) := dk_162 0 39 (dk_at dksX10_rota_3 6 rfl rfl)
theorem dX10_rota_78 : decode cX10_rota 78 = .ok (.aload_n 0, 1) := dk_42 (dk_at dksX10_rota_3 9 rfl rfl)
theorem dX10_rota_79 : decode cX10_rota 79 = .ok (.getfield 141, 3) := dk_180 0 141 (dk_at dksX10_rota_3 10 rfl rfl)
theorem dX10_rota_82 : decode cX10_rota 82 = .ok (.iload_n 3, 1) := dk_29 (dk_at dksX10_rota_3 13 rfl rfl)
theorem dX10_rota_83 : decode cX10_rota 83 = .ok (.iaload, 1) := dk_46 (dk_at dksX10_rota_3 14 rfl rfl)
theorem dX10_rota_84 : decode cX10_rota 84 = .ok (.iload 6, 2) := dk_21 6 (dk_at dksX10_rota_3 15 rfl rfl)
theorem dX10_rota_86 : decode cX10_rota 86 = .ok (.ishr, 1) := dk_122 (dk_at dksX10_rota_3 17 rfl rfl)
theorem dX10_rota_87 : decode cX10_rota 87 = .ok (.iconst 1, 1) := dk_4 (dk_at dksX10_rota_3 18 rfl rfl)
theorem dX10_rota_88 : decode cX10_rota 88 = .ok (.iand, 1) := dk_126 (dk_at dksX10_rota_3 19 rfl rfl)
theorem dX10_rota_89 : decode cX10_rota 89 = .ok (.ifCond .ne 6, 3) := dk_154 0 6 (dk_at dksX10_rota_3 20 rfl rfl)
theorem dX10_rota_92 : decode cX10_rota 92 = .ok (.goto 16, 3) := dk_167 0 16 (dk_at dksX10_rota_4 0 rfl rfl)
theorem dX10_rota_95 : decode cX10_rota 95 = .ok (.iload 5, 2) := dk_21 5 (dk_at dksX10_rota_4 3 rfl rfl)
theorem dX10_rota_97 : decode cX10_rota 97 = .ok (.iload 4, 2) := dk_21 4 (dk_at dksX10_rota_4 5 rfl rfl)
theorem dX10_rota_99 : decode cX10_rota 99 = .ok (.if_icmp .ne 6, 3) := dk_160 0 6 (dk_at dksX10_rota_4 7 rfl rfl)
theorem dX10_rota_102 : decode cX10_rota 102 = .ok (.iload 6, 2) := dk_21 6 (dk_at dksX10_rota_4 10 rfl rfl)
theorem dX10_rota_104 : decode cX10_rota 104 = .ok (.ireturn, 1) := dk_172 (dk_at dksX10_rota_4 12 rfl rfl)
theorem dX10_rota_105 : decode cX10_rota 105 = .ok (.iinc 5 1, 3) := dk_132 5 1 (dk_at dksX10_rota_4 13 rfl rfl)
theorem dX10_rota_108 : decode cX10_rota 108 = .ok (.iinc 6 1, 3) := dk_132 6 1 (dk_at dksX10_rota_4 16 rfl rfl)
theorem dX10_rota_111 : decode cX10_rota 111 = .ok (.goto (-40), 3) := dk_167 255 216 (dk_at dksX10_rota_4 19 rfl rfl)
theorem dX10_rota_114 : decode cX10_rota 114 = .ok (.iconst (-1), 1) := dk_2 (dk_at dksX10_rota_4 22 rfl rfl)
theorem dX10_rota_115 : decode cX10_rota 115 = .ok (.ireturn, 1) := dk_172 (dk_at dksX10_rota_4 23 rfl rfl)
def dkwX10_findRota_1 : List UInt8 := [79, 132, 3, 1, 167, 255, 235, 42, 3, 27, 28, 42, 180, 1, 218, 182, 2, 11, 177]
abbrev dktX10_findRota_1 : List UInt8 := dkwX10_findRota_1 ++ []
def dkwX10_findRota_0 : List UInt8 := [42, 3, 181, 1, 246, 3, 62, 29, 16, 10, 162, 0, 21, 42, 180, 0, 135, 29, 42, 180, 0, 116, 29, 46]
abbrev dktX10_findRota_0 : List UInt8 := dkwX10_findRota_0 ++ dktX10_findRota_1
theorem dksX10_findRota_0 : cX10_findRota.data.toList.drop 0 = dktX10_findRota_0 := by decide +kernel
theorem dksX10_findRota_1 : cX10_findRota.data.toList.drop 24 = dktX10_findRota_1 := dk_seg dksX10_findRota_0 24 rfl rfl
theorem dX10_findRota_0 : decode cX10_findRota 0 = .ok (.aload_n 0, 1) := dk_42 (dk_at dksX10_findRota_0 0 rfl rfl)
theorem dX10_findRota_1 : decode cX10_findRota 1 = .ok (.iconst 0, 1) := dk_3 (dk_at dksX10_findRota_0 1 rfl rfl)
theorem dX10_findRota_2 : decode cX10_findRota 2 = .ok (.putfield 502, 3) := dk_181 1 246 (dk_at dksX10_findRota_0 2 rfl rfl)
theorem dX10_findRota_5 : decode cX10_findRota 5 = .ok (.iconst 0, 1) := dk_3 (dk_at dksX10_findRota_0 5 rfl rfl)
theorem dX10_findRota_6 : decode cX10_findRota 6 = .ok (.istore_n 3, 1) := dk_62 (dk_at dksX10_findRota_0 6 rfl rfl)
theorem dX10_findRota_7 : decode cX10_findRota 7 = .ok (.iload_n 3, 1) := dk_29 (dk_at dksX10_findRota_0 7 rfl rfl)
theorem dX10_findRota_8 : decode cX10_findRota 8 = .ok (.bipush 10, 2) := dk_16 10 (dk_at dksX10_findRota_0 8 rfl rfl)
theorem dX10_findRota_10 : decode cX10_findRota 10 = .ok (.if_icmp .ge 21, 3) := dk_162 0 21 (dk_at dksX10_findRota_0 10 rfl rfl)
theorem dX10_findRota_13 : decode cX10_findRota 13 = .ok (.aload_n 0, 1) := dk_42 (dk_at dksX10_findRota_0 13 rfl rfl)
theorem dX10_findRota_14 : decode cX10_findRota 14 = .ok (.getfield 135, 3) := dk_180 0 135 (dk_at dksX10_findRota_0 14 rfl rfl)
theorem dX10_findRota_17 : decode cX10_findRota 17 = .ok (.iload_n 3, 1) := dk_29 (dk_at dksX10_findRota_0 17 rfl rfl)
theorem dX10_findRota_18 : decode cX10_findRota 18 = .ok (.aload_n 0, 1) := dk_42 (dk_at dksX10_findRota_0 18 rfl rfl)
theorem dX10_findRota_19 : decode cX10_findRota 19 = .ok (.getfield 116, 3) := dk_180 0 116 (dk_at dksX10_findRota_0 19 rfl rfl)
theorem dX10_findRota_22 : decode cX10_findRota 22 = .ok (.iload_n 3, 1) := dk_29 (dk_at dksX10_findRota_0 22 rfl rfl)
theorem dX10_findRota_23 : decode cX10_findRota 23 = .ok (.iaload, 1) := dk_46 (dk_at dksX10_findRota_0 23 rfl rfl)
theorem dX10_findRota_24 : decode cX10_findRota 24 = .ok (.iastore, 1) := dk_79 (dk_at dksX10_findRota_1 0 rfl rfl)
theorem dX10_findRota_25 : decode cX10_findRota 25 = .ok (.iinc 3 1, 3) := dk_132 3 1 (dk_at dksX10_findRota_1 1 rfl rfl)
theorem dX10_findRota_28 : decode cX10_findRota 28 = .ok (.goto (-21), 3) := dk_167 255 235 (dk_at dksX10_findRota_1 4 rfl rfl)
theorem dX10_findRota_31 : decode cX10_findRota 31 = .ok (.aload_n 0, 1) := dk_42 (dk_at dksX10_findRota_1 7 rfl rfl)
theorem dX10_findRota_32 : decode cX10_findRota 32 = .ok (.iconst 0, 1) := dk_3 (dk_at dksX10_findRota_1 8 rfl rfl)
theorem dX10_findRota_33 : decode cX10_findRota 33 = .ok (.iload_n 1, 1) := dk_27 (dk_at dksX10_findRota_1 9 rfl rfl)
theorem dX10_findRota_34 : decode cX10_findRota 34 = .ok (.iload_n 2, 1) := dk_28 (dk_at dksX10_findRota_1 10 rfl rfl)
theorem dX10_findRota_35 : decode cX10_findRota 35 = .ok (.aload_n 0, 1) := dk_42 (dk_at dksX10_findRota_1 11 rfl rfl)
theorem dX10_findRota_36 : decode cX10_findRota 36 = .ok (.getfield 474, 3) := dk_180 1 218 (dk_at dksX10_findRota_1 12 rfl rfl)
theorem dX10_findRota_39 : decode cX10_findRota 39 = .ok (.invokevirtual 523, 3) := dk_182 2 11 (dk_at dksX10_findRota_1 15 rfl rfl)
theorem dX10_findRota_42 : decode cX10_findRota 42 = .ok (.return_, 1) := dk_177 (dk_at dksX10_findRota_1 18 rfl rfl)
def dkwX10_tryRota_8 : List UInt8 := [4, 100, 79, 132, 6, 1, 167, 255, 91, 177]
abbrev dktX10_tryRota_8 : List UInt8 := dkwX10_tryRota_8 ++ []
def dkwX10_tryRota_7 : List UInt8 := [180, 0, 135, 21, 7, 92, 46, 4, 100, 79, 132, 7, 1, 167, 255, 173, 42, 180, 0, 135, 21, 6, 92, 46]
abbrev dktX10_tryRota_7 : List UInt8 := dkwX10_tryRota_7 ++ dktX10_tryRota_8
def dkwX10_tryRota_6 : List UInt8 := [21, 7, 120, 128, 79, 42, 27, 4, 96, 28, 29, 4, 21, 6, 120, 4, 21, 7, 120, 128, 182, 2, 11, 42]
abbrev dktX10_tryRota_6 : List UInt8 := dkwX10_tryRota_6 ++ dktX10_tryRota_7
def dkwX10_tryRota_5 : List UInt8 := [167, 0, 58, 42, 180, 0, 135, 21, 7, 92, 46, 4, 96, 79, 42, 180, 0, 138, 27, 4, 21, 6, 120, 4]
abbrev dktX10_tryRota_5 : List UInt8 := dkwX10_tryRota_5 ++ dktX10_tryRota_6
def dkwX10_tryRota_4 : List UInt8 := [21, 7, 16, 10, 162, 0, 82, 29, 5, 160, 0, 77, 21, 5, 21, 7, 122, 4, 126, 154, 0, 6]
abbrev dktX10_tryRota_4 : List UInt8 := dkwX10_tryRota_4 ++ dktX10_tryRota_5
def dkwX10_tryRota_3 : List UInt8 := [4, 21, 6, 120, 79, 42, 27, 4, 96, 28, 29, 4, 21, 6, 120, 182, 2, 11, 21, 6, 4, 96, 54, 7]
abbrev dktX10_tryRota_3 : List UInt8 := dkwX10_tryRota_3 ++ dktX10_tryRota_4
def dkwX10_tryRota_2 : List UInt8 := [167, 0, 145, 42, 180, 0, 135, 21, 6, 92, 46, 4, 96, 79, 29, 4, 160, 0, 26, 42, 180, 0, 138, 27]
abbrev dktX10_tryRota_2 : List UInt8 := dkwX10_tryRota_2 ++ dktX10_tryRota_3
def dkwX10_tryRota_1 : List UInt8 := [130, 126, 54, 5, 3, 54, 6, 21, 6, 16, 10, 162, 0, 164, 21, 5, 21, 6, 122, 4, 126, 154, 0, 6]
abbrev dktX10_tryRota_1 : List UInt8 := dkwX10_tryRota_1 ++ dktX10_tryRota_2
def dkwX10_tryRota_0 : List UInt8 := [27, 28, 160, 0, 9, 42, 28, 182, 2, 5, 177, 42, 42, 180, 1, 168, 27, 96, 182, 2, 8, 21, 4, 2]
abbrev dktX10_tryRota_0 : List UInt8 := dkwX10_tryRota_0 ++ dktX10_tryRota_1
theorem dksX10_tryRota_0 : cX10_tryRota.data.toList.drop 0 = dktX10_tryRota_0 := by decide +kernel
theorem dksX10_tryRota_1 : cX10_tryRota.data.toList.drop 24 = dktX10_tryRota_1 := dk_seg dksX10_tryRota_0 24 rfl rfl
theorem dksX10_tryRota_2 : cX10_tryRota.data.toList.drop 48 = dktX10_tryRota_2 := dk_seg dksX10_tryRota_1 24 rfl rfl
theorem dksX10_tryRota_3 : cX10_tryRota.data.toList.drop 72 = dktX10_tryRota_3 := dk_seg dksX10_tryRota_2 24 rfl rfl
theorem dksX10_tryRota_4 : cX10_tryRota.data.toList.drop 96 = dktX10_tryRota_4 := dk_seg dksX10_tryRota_3 24 rfl rfl
theorem dksX10_tryRota_5 : cX10_tryRota.data.toList.drop 118 = dktX10_tryRota_5 := dk_seg dksX10_tryRota_4 22 rfl rfl
theorem dksX10_tryRota_6 : cX10_tryRota.data.toList.drop 142 = dktX10_tryRota_6 := dk_seg dksX10_tryRota_5 24 rfl rfl
theorem dksX10_tryRota_7 : cX10_tryRota.data.toList.drop 166 = dktX10_tryRota_7 := dk_seg dksX10_tryRota_6 24 rfl rfl
theorem dksX10_tryRota_8 : cX10_tryRota.data.toList.drop 190 = dktX10_tryRota_8 := dk_seg dksX10_tryRota_7 24 rfl rfl
theorem dX10_tryRota_0 : decode cX10_tryRota 0 = .ok (.iload_n 1, 1) := dk_27 (dk_at dksX10_tryRota_0 0 rfl rfl)
theorem dX10_tryRota_1 : decode cX10_tryRota 1 = .ok (.iload_n 2, 1) := dk_28 (dk_at dksX10_tryRota_0 1 rfl rfl)
theorem dX10_tryRota_2 : decode cX10_tryRota 2 = .ok (.if_icmp .ne 9, 3) := dk_160 0 9 (dk_at dksX10_tryRota_0 2 rfl rfl)
theorem dX10_tryRota_5 : decode cX10_tryRota 5 = .ok (.aload_n 0, 1) := dk_42 (dk_at dksX10_tryRota_0 5 rfl rfl)
theorem dX10_tryRota_6 : decode cX10_tryRota 6 = .ok (.iload_n 2, 1) := dk_28 (dk_at dksX10_tryRota_0 6 rfl rfl)
theorem dX10_tryRota_7 : decode cX10_tryRota 7 = .ok (.invokevirtual 517, 3) := dk_182 2 5 (dk_at dksX10_tryRota_0 7 rfl rfl)
theorem dX10_tryRota_10 : decode cX10_tryRota 10 = .ok (.return_, 1) := dk_177 (dk_at dksX10_tryRota_0 10 rfl rfl)
theorem dX10_tryRota_11 : decode cX10_tryRota 11 = .ok (.aload_n 0, 1) := dk_42 (dk_at dksX10_tryRota_0 11 rfl rfl)
theorem dX10_tryRota_12 : decode cX10_tryRota 12 = .ok (.aload_n 0, 1) := dk_42 (dk_at dksX10_tryRota_0 12 rfl rfl)
theorem dX10_tryRota_13 : decode cX10_tryRota 13 = .ok (.getfield 424, 3) := dk_180 1 168 (dk_at dksX10_tryRota_0 13 rfl rfl)
theorem dX10_tryRota_16 : decode cX10_tryRota 16 = .ok (.iload_n 1, 1) := dk_27 (dk_at dksX10_tryRota_0 16 rfl rfl)
theorem dX10_tryRota_17 : decode cX10_tryRota 17 = .ok (.iadd, 1) := dk_96 (dk_at dksX10_tryRota_0 17 rfl rfl)
theorem dX10_tryRota_18 : decode cX10_tryRota 18 = .ok (.invokevirtual 520, 3) := dk_182 2 8 (dk_at dksX10_tryRota_0 18 rfl rfl)
theorem dX10_tryRota_21 : decode cX10_tryRota 21 = .ok (.iload 4, 2) := dk_21 4 (dk_at dksX10_tryRota_0 21 rfl rfl)
theorem dX10_tryRota_23 : decode cX10_tryRota 23 = .ok (.iconst (-1), 1) := dk_2 (dk_at dksX10_tryRota_0 23 rfl rfl)
theorem dX10_tryRota_24 : decode cX10_tryRota 24 = .ok (.ixor, 1) := dk_130 (dk_at dksX10_tryRota_1 0 rfl rfl)
theorem dX10_tryRota_25 : decode cX10_tryRota 25 = .ok (.iand, 1) := dk_126 (dk_at dksX10_tryRota_1 1 rfl rfl)
theorem dX10_tryRota_26 : decode cX10_tryRota 26 = .ok (.istore 5, 2) := dk_54 5 (dk_at dksX10_tryRota_1 2 rfl rfl)
theorem dX10_tryRota_28 : decode cX10_tryRota 28 = .ok (.iconst 0, 1) := dk_3 (dk_at dksX10_tryRota_1 4 rfl rfl)
theorem dX10_tryRota_29 : decode cX10_tryRota 29 = .ok (.istore 6, 2) := dk_54 6 (dk_at dksX10_tryRota_1 5 rfl rfl)
theorem dX10_tryRota_31 : decode cX10_tryRota 31 = .ok (.iload 6, 2) := dk_21 6 (dk_at dksX10_tryRota_1 7 rfl rfl)
theorem dX10_tryRota_33 : decode cX10_tryRota 33 = .ok (.bipush 10, 2) := dk_16 10 (dk_at dksX10_tryRota_1 9 rfl rfl)
theorem dX10_tryRota_35 : decode cX10_tryRota 35 = .ok (.if_icmp .ge 164, 3) := dk_162 0 164 (dk_at dksX10_tryRota_1 11 rfl rfl)
theorem dX10_tryRota_38 : decode cX10_tryRota 38 = .ok (.iload 5, 2) := dk_21 5 (dk_at dksX10_tryRota_1 14 rfl rfl)
theorem dX10_tryRota_40 : decode cX10_tryRota 40 = .ok (.iload 6, 2) := dk_21 6 (dk_at dksX10_tryRota_1 16 rfl rfl)
theorem dX10_tryRota_42 : decode cX10_tryRota 42 = .ok (.ishr, 1) := dk_122 (dk_at dksX10_tryRota_1 18 rfl rfl)
theorem dX10_tryRota_43 : decode cX10_tryRota 43 = .ok (.iconst 1, 1) := dk_4 (dk_at dksX10_tryRota_1 19 rfl rfl)
theorem dX10_tryRota_44 : decode cX10_tryRota 44 = .ok (.iand, 1) := dk_126 (dk_at dksX10_tryRota_1 20 rfl rfl)
theorem dX10_tryRota_45 : decode cX10_tryRota 45 = .ok (.ifCond .ne 6, 3) := dk_154 0 6 (dk_at dksX10_tryRota_1 21 rfl rfl)
theorem dX10_tryRota_48 : decode cX10_tryRota 48 = .ok (.goto 145, 3) := dk_167 0 145 (dk_at dksX10_tryRota_2 0 rfl rfl)
theorem dX10_tryRota_51 : decode cX10_tryRota 51 = .ok (.aload_n 0, 1) := dk_42 (dk_at dksX10_tryRota_2 3 rfl rfl)
theorem dX10_tryRota_52 : decode cX10_tryRota 52 = .ok (.getfield 135, 3) := dk_180 0 135 (dk_at dksX10_tryRota_2 4 rfl rfl)
theorem dX10_tryRota_55 : decode cX10_tryRota 55 = .ok (.iload 6, 2) := dk_21 6 (dk_at dksX10_tryRota_2 7 rfl rfl)
theorem dX10_tryRota_57 : decode cX10_tryRota 57 = .ok (.dup2, 1) := dk_92 (dk_at dksX10_tryRota_2 9 rfl rfl)
theorem dX10_tryRota_58 : decode cX10_tryRota 58 = .ok (.iaload, 1) := dk_46 (dk_at dksX10_tryRota_2 10 rfl rfl)
theorem dX10_tryRota_59 : decode cX10_tryRota 59 = .ok (.iconst 1, 1) := dk_4 (dk_at dksX10_tryRota_2 11 rfl rfl)
theorem dX10_tryRota_60 : decode cX10_tryRota 60 = .ok (.iadd, 1) := dk_96 (dk_at dksX10_tryRota_2 12 rfl rfl)
theorem dX10_tryRota_61 : decode cX10_tryRota 61 = .ok (.iastore, 1) := dk_79 (dk_at dksX10_tryRota_2 13 rfl rfl)
theorem dX10_tryRota_62 : decode cX10_tryRota 62 = .ok (.iload_n 3, 1) := dk_29 (dk_at dksX10_tryRota_2 14 rfl rfl)
theorem dX10_tryRota_63 : decode cX10_tryRota 63 = .ok (.iconst 1, 1) := dk_4 (dk_at dksX10_tryRota_2 15 rfl rfl)
theorem dX10_tryRota_64 : decode cX10_tryRota 64 = .ok (.if_icmp .ne 26, 3) := dk_160 0 26 (dk_at dksX10_tryRota_2 16 rfl rfl)
theorem dX10_tryRota_67 : decode cX10_tryRota 67 = .ok (.aload_n 0, 1) := dk_42 (dk_at dksX10_tryRota_2 19 rfl rfl)
theorem dX10_tryRota_68 : decode cX10_tryRota 68 = .ok (.getfield 138, 3) := dk_180 0 138 (dk_at dksX10_tryRota_2 20 rfl rfl)
theorem dX10_tryRota_71 : decode cX10_tryRota 71 = .ok (.iload_n 1, 1) := dk_27 (dk_at dksX10_tryRota_2 23 rfl rfl)
theorem dX10_tryRota_72 : decode cX10_tryRota 72 = .ok (.iconst 1, 1) := dk_4 (dk_at dksX10_tryRota_3 0 rfl rfl)
theorem dX10_tryRota_73 : decode cX10_tryRota 73 = .ok (.iload 6, 2) := dk_21 6 (dk_at dksX10_tryRota_3 1 rfl rfl)
theorem dX10_tryRota_75 : decode cX10_tryRota 75 = .ok (.ishl, 1) := dk_120 (dk_at dksX10_tryRota_3 3 rfl rfl)
theorem dX10_tryRota_76 : decode cX10_tryRota 76 = .ok (.iastore, 1) := dk_79 (dk_at dksX10_tryRota_3 4 rfl rfl)
theorem dX10_tryRota_77 : decode cX10_tryRota 77 = .ok (.aload_n 0, 1) := dk_42 (dk_at dksX10_tryRota_3 5 rfl rfl)
theorem dX10_tryRota_78 : decode cX10_tryRota 78 = .ok (.iload_n 1, 1) := dk_27 (dk_at dksX10_tryRota_3 6 rfl rfl)
theorem dX10_tryRota_79 : decode cX10_tryRota 79 = .ok (.iconst 1, 1) := dk_4 (dk_at dksX10_tryRota_3 7 rfl rfl)
theorem dX10_tryRota_80 : decode cX10_tryRota 80 = .ok (.iadd, 1) := dk_96 (dk_at dksX10_tryRota_3 8 rfl rfl)
theorem dX10_tryRota_81 : decode cX10_tryRota 81 = .ok (.iload_n 2, 1) := dk_28 (dk_at dksX10_tryRota_3 9 rfl rfl)
theorem dX10_tryRota_82 : decode cX10_tryRota 82 = .ok (.iload_n 3, 1) := dk_29 (dk_at dksX10_tryRota_3 10 rfl rfl)
theorem dX10_tryRota_83 : decode cX10_tryRota 83 = .ok (.iconst 1, 1) := dk_4 (dk_at dksX10_tryRota_3 11 rfl rfl)
theorem dX10_tryRota_84 : decode cX10_tryRota 84 = .ok (.iload 6, 2) := dk_21 6 (dk_at dksX10_tryRota_3 12 rfl rfl)
theorem dX10_tryRota_86 : decode cX10_tryRota 86 = .ok (.ishl, 1) := dk_120 (dk_at dksX10_tryRota_3 14 rfl rfl)
theorem dX10_tryRota_87 : decode cX10_tryRota 87 = .ok (.invokevirtual 523, 3) := dk_182 2 11 (dk_at dksX10_tryRota_3 15 rfl rfl)
theorem dX10_tryRota_90 : decode cX10_tryRota 90 = .ok (.iload 6, 2) := dk_21 6 (dk_at dksX10_tryRota_3 18 rfl rfl)
theorem dX10_tryRota_92 : decode cX10_tryRota 92 = .ok (.iconst 1, 1) := dk_4 (dk_at dksX10_tryRota_3 20 rfl rfl)
theorem dX10_tryRota_93 : decode cX10_tryRota 93 = .ok (.iadd, 1) := dk_96 (dk_at dksX10_tryRota_3 21 rfl rfl)
theorem dX10_tryRota_94 : decode cX10_tryRota 94 = .ok (.istore 7, 2) := dk_54 7 (dk_at dksX10_tryRota_3 22 rfl rfl)
theorem dX10_tryRota_96 : decode cX10_tryRota 96 = .ok (.iload 7, 2) := dk_21 7 (dk_at dksX10_tryRota_4 0 rfl rfl)
theorem dX10_tryRota_98 : decode cX10_tryRota 98 = .ok (.bipush 10, 2) := dk_16 10 (dk_at dksX10_tryRota_4 2 rfl rfl)
theorem dX10_tryRota_100 : decode cX10_tryRota 100 = .ok (.if_icmp .ge 82, 3) := dk_162 0 82 (dk_at dksX10_tryRota_4 4 rfl rfl)
theorem dX10_tryRota_103 : decode cX10_tryRota 103 = .ok (.iload_n 3, 1) := dk_29 (dk_at dksX10_tryRota_4 7 rfl rfl)
theorem dX10_tryRota_104 : decode cX10_tryRota 104 = .ok (.iconst 2, 1) := dk_5 (dk_at dksX10_tryRota_4 8 rfl rfl)
theorem dX10_tryRota_105 : decode cX10_tryRota 105 = .ok (.if_icmp .ne 77, 3) := dk_160 0 77 (dk_at dksX10_tryRota_4 9 rfl rfl)
theorem dX10_tryRota_108 : decode cX10_tryRota 108 = .ok (.iload 5, 2) := dk_21 5 (dk_at dksX10_tryRota_4 12 rfl rfl)
theorem dX10_tryRota_110 : decode cX10_tryRota 110 = .ok (.iload 7, 2) := dk_21 7 (dk_at dksX10_tryRota_4 14 rfl rfl)
theorem dX10_tryRota_112 : decode cX10_tryRota 112 = .ok (.ishr, 1) := dk_122 (dk_at dksX10_tryRota_4 16 rfl rfl)
theorem dX10_tryRota_113 : decode cX10_tryRota 113 = .ok (.iconst 1, 1) := dk_4 (dk_at dksX10_tryRota_4 17 rfl rfl)
theorem dX10_tryRota_114 : decode cX10_tryRota 114 = .ok (.iand, 1) := dk_126 (dk_at dksX10_tryRota_4 18 rfl rfl)
theorem dX10_tryRota_115 : decode cX10_tryRota 115 = .ok (.ifCond .ne 6, 3) := dk_154 0 6 (dk_at dksX10_tryRota_4 19 rfl rfl)
theorem dX10_tryRota_118 : decode cX10_tryRota 118 = .ok (.goto 58, 3) := dk_167 0 58 (dk_at dksX10_tryRota_5 0 rfl rfl)
theorem dX10_tryRota_121 : decode cX10_tryRota 121 = .ok (.aload_n 0, 1) := dk_42 (dk_at dksX10_tryRota_5 3 rfl rfl)
theorem dX10_tryRota_122 : decode cX10_tryRota 122 = .ok (.getfield 135, 3) := dk_180 0 135 (dk_at dksX10_tryRota_5 4 rfl rfl)
theorem dX10_tryRota_125 : decode cX10_tryRota 125 = .ok (.iload 7, 2) := dk_21 7 (dk_at dksX10_tryRota_5 7 rfl rfl)
theorem dX10_tryRota_127 : decode cX10_tryRota 127 = .ok (.dup2, 1) := dk_92 (dk_at dksX10_tryRota_5 9 rfl rfl)
theorem dX10_tryRota_128 : decode cX10_tryRota 128 = .ok (.iaload, 1) := dk_46 (dk_at dksX10_tryRota_5 10 rfl rfl)
theorem dX10_tryRota_129 : decode cX10_tryRota 129 = .ok (.iconst 1, 1) := dk_4 (dk_at dksX10_tryRota_5 11 rfl rfl)
theorem dX10_tryRota_130 : decode cX10_tryRota 130 = .ok (.iadd, 1) := dk_96 (dk_at dksX10_tryRota_5 12 rfl rfl)
theorem dX10_tryRota_131 : decode cX10_tryRota 131 = .ok (.iastore, 1) := dk_79 (dk_at dksX10_tryRota_5 13 rfl rfl)
theorem dX10_tryRota_132 : decode cX10_tryRota 132 = .ok (.aload_n 0, 1) := dk_42 (dk_at dksX10_tryRota_5 14 rfl rfl)
theorem dX10_tryRota_133 : decode cX10_tryRota 133 = .ok (.getfield 138, 3) := dk_180 0 138 (dk_at dksX10_tryRota_5 15 rfl rfl)
theorem dX10_tryRota_136 : decode cX10_tryRota 136 = .ok (.iload_n 1, 1) := dk_27 (dk_at dksX10_tryRota_5 18 rfl rfl)
theorem dX10_tryRota_137 : decode cX10_tryRota 137 = .ok (.iconst 1, 1) := dk_4 (dk_at dksX10_tryRota_5 19 rfl rfl)
theorem dX10_tryRota_138 : decode cX10_tryRota 138 = .ok (.iload 6, 2) := dk_21 6 (dk_at dksX10_tryRota_5 20 rfl rfl)
theorem dX10_tryRota_140 : decode cX10_tryRota 140 = .ok (.ishl, 1) := dk_120 (dk_at dksX10_tryRota_5 22 rfl rfl)
theorem dX10_tryRota_141 : decode cX10_tryRota 141 = .ok (.iconst 1, 1) := dk_4 (dk_at dksX10_tryRota_5 23 rfl rfl)
theorem dX10_tryRota_142 : decode cX10_tryRota 142 = .ok (.iload 7, 2) := dk_21 7 (dk_at dksX10_tryRota_6 0 rfl rfl)
theorem dX10_tryRota_144 : decode cX10_tryRota 144 = .ok (.ishl, 1) := dk_120 (dk_at dksX10_tryRota_6 2 rfl rfl)
theorem dX10_tryRota_145 : decode cX10_tryRota 145 = .ok (.ior, 1) := dk_128 (dk_at dksX10_tryRota_6 3 rfl rfl)
theorem dX10_tryRota_146 : decode cX10_tryRota 146 = .ok (.iastore, 1) := dk_79 (dk_at dksX10_tryRota_6 4 rfl rfl)
theorem dX10_tryRota_147 : decode cX10_tryRota 147 = .ok (.aload_n 0, 1) := dk_42 (dk_at dksX10_tryRota_6 5 rfl rfl)
theorem dX10_tryRota_148 : decode cX10_tryRota 148 = .ok (.iload_n 1, 1) := dk_27 (dk_at dksX10_tryRota_6 6 rfl rfl)
theorem dX10_tryRota_149 : decode cX10_tryRota 149 = .ok (.iconst 1, 1) := dk_4 (dk_at dksX10_tryRota_6 7 rfl rfl)
theorem dX10_tryRota_150 : decode cX10_tryRota 150 = .ok (.iadd, 1) := dk_96 (dk_at dksX10_tryRota_6 8 rfl rfl)
theorem dX10_tryRota_151 : decode cX10_tryRota 151 = .ok (.iload_n 2, 1) := dk_28 (dk_at dksX10_tryRota_6 9 rfl rfl)
theorem dX10_tryRota_152 : decode cX10_tryRota 152 = .ok (.iload_n 3, 1) := dk_29 (dk_at dksX10_tryRota_6 10 rfl rfl)
theorem dX10_tryRota_153 : decode cX10_tryRota 153 = .ok (.iconst 1, 1) := dk_4 (dk_at dksX10_tryRota_6 11 rfl rfl)
theorem dX10_tryRota_154 : decode cX10_tryRota 154 = .ok (.iload 6, 2) := dk_21 6 (dk_at dksX10_tryRota_6 12 rfl rfl)
theorem dX10_tryRota_156 : decode cX10_tryRota 156 = .ok (.ishl, 1) := dk_120 (dk_at dksX10_tryRota_6 14 rfl rfl)
theorem dX10_tryRota_157 : decode cX10_tryRota 157 = .ok (.iconst 1, 1) := dk_4 (dk_at dksX10_tryRota_6 15 rfl rfl)
theorem dX10_tryRota_158 : decode cX10_tryRota 158 = .ok (.iload 7, 2) := dk_21 7 (dk_at dksX10_tryRota_6 16 rfl rfl)
theorem dX10_tryRota_160 : decode cX10_tryRota 160 = .ok (.ishl, 1) := dk_120 (dk_at dksX10_tryRota_6 18 rfl rfl)
theorem dX10_tryRota_161 : decode cX10_tryRota 161 = .ok (.ior, 1) := dk_128 (dk_at dksX10_tryRota_6 19 rfl rfl)
theorem dX10_tryRota_162 : decode cX10_tryRota 162 = .ok (.invokevirtual 523, 3) := dk_182 2 11 (dk_at dksX10_tryRota_6 20 rfl rfl)
theorem dX10_tryRota_165 : decode cX10_tryRota 165 = .ok (.aload_n 0, 1) := dk_42 (dk_at dksX10_tryRota_6 23 rfl rfl)
theorem dX10_tryRota_166 : decode cX10_tryRota 166 = .ok (.getfield 135, 3) := dk_180 0 135 (dk_at dksX10_tryRota_7 0 rfl rfl)
theorem dX10_tryRota_169 : decode cX10_tryRota 169 = .ok (.iload 7, 2) := dk_21 7 (dk_at dksX10_tryRota_7 3 rfl rfl)
theorem dX10_tryRota_171 : decode cX10_tryRota 171 = .ok (.dup2, 1) := dk_92 (dk_at dksX10_tryRota_7 5 rfl rfl)
theorem dX10_tryRota_172 : decode cX10_tryRota 172 = .ok (.iaload, 1) := dk_46 (dk_at dksX10_tryRota_7 6 rfl rfl)
theorem dX10_tryRota_173 : decode cX10_tryRota 173 = .ok (.iconst 1, 1) := dk_4 (dk_at dksX10_tryRota_7 7 rfl rfl)
theorem dX10_tryRota_174 : decode cX10_tryRota 174 = .ok (.isub, 1) := dk_100 (dk_at dksX10_tryRota_7 8 rfl rfl)
theorem dX10_tryRota_175 : decode cX10_tryRota 175 = .ok (.iastore, 1) := dk_79 (dk_at dksX10_tryRota_7 9 rfl rfl)
theorem dX10_tryRota_176 : decode cX10_tryRota 176 = .ok (.iinc 7 1, 3) := dk_132 7 1 (dk_at dksX10_tryRota_7 10 rfl rfl)
theorem dX10_tryRota_179 : decode cX10_tryRota 179 = .ok (.goto (-83), 3) := dk_167 255 173 (dk_at dksX10_tryRota_7 13 rfl rfl)
theorem dX10_tryRota_182 : decode cX10_tryRota 182 = .ok (.aload_n 0, 1) := dk_42 (dk_at dksX10_tryRota_7 16 rfl rfl)
theorem dX10_tryRota_183 : decode cX10_tryRota 183 = .ok (.getfield 135, 3) := dk_180 0 135 (dk_at dksX10_tryRota_7 17 rfl rfl)
theorem dX10_tryRota_186 : decode cX10_tryRota 186 = .ok (.iload 6, 2) := dk_21 6 (dk_at dksX10_tryRota_7 20 rfl rfl)
theorem dX10_tryRota_188 : decode cX10_tryRota 188 = .ok (.dup2, 1) := dk_92 (dk_at dksX10_tryRota_7 22 rfl rfl)
theorem dX10_tryRota_189 : decode cX10_tryRota 189 = .ok (.iaload, 1) := dk_46 (dk_at dksX10_tryRota_7 23 rfl rfl)
theorem dX10_tryRota_190 : decode cX10_tryRota 190 = .ok (.iconst 1, 1) := dk_4 (dk_at dksX10_tryRota_8 0 rfl rfl)
theorem dX10_tryRota_191 : decode cX10_tryRota 191 = .ok (.isub, 1) := dk_100 (dk_at dksX10_tryRota_8 1 rfl rfl)
theorem dX10_tryRota_192 : decode cX10_tryRota 192 = .ok (.iastore, 1) := dk_79 (dk_at dksX10_tryRota_8 2 rfl rfl)
theorem dX10_tryRota_193 : decode cX10_tryRota 193 = .ok (.iinc 6 1, 3) := dk_132 6 1 (dk_at dksX10_tryRota_8 3 rfl rfl)
theorem dX10_tryRota_196 : decode cX10_tryRota 196 = .ok (.goto (-165), 3) := dk_167 255 91 (dk_at dksX10_tryRota_8 6 rfl rfl)
theorem dX10_tryRota_199 : decode cX10_tryRota 199 = .ok (.return_, 1) := dk_177 (dk_at dksX10_tryRota_8 9 rfl rfl)
def dkwX10_endsRota_8 : List UInt8 := [177]
abbrev dktX10_endsRota_8 : List UInt8 := dkwX10_endsRota_8 ++ []
def dkwX10_endsRota_7 : List UInt8 := [27, 162, 0, 23, 42, 180, 0, 141, 21, 5, 42, 180, 0, 138, 21, 5, 46, 79, 132, 5, 1, 167, 255, 233]
abbrev dktX10_endsRota_7 : List UInt8 := dkwX10_endsRota_7 ++ dktX10_endsRota_8
def dkwX10_endsRota_6 : List UInt8 := [154, 0, 4, 177, 42, 4, 181, 1, 246, 42, 28, 181, 1, 249, 42, 29, 181, 1, 252, 3, 54, 5, 21, 5]
abbrev dktX10_endsRota_6 : List UInt8 := dkwX10_endsRota_6 ++ dktX10_endsRota_7
def dkwX10_endsRota_5 : List UInt8 := [154, 0, 28, 28, 42, 180, 1, 249, 160, 0, 19, 29, 42, 180, 1, 252, 160, 0, 11, 42, 27, 182, 1, 255]
abbrev dktX10_endsRota_5 : List UInt8 := dkwX10_endsRota_5 ++ dktX10_endsRota_6
def dkwX10_endsRota_4 : List UInt8 := [180, 1, 249, 160, 0, 15, 29, 42, 180, 1, 252, 162, 0, 7, 4, 167, 0, 4, 3, 54, 4, 21, 4]
abbrev dktX10_endsRota_4 : List UInt8 := dkwX10_endsRota_4 ++ dktX10_endsRota_5
def dkwX10_endsRota_3 : List UInt8 := [132, 4, 1, 167, 255, 190, 42, 180, 1, 246, 153, 0, 27, 28, 42, 180, 1, 249, 161, 0, 19, 28, 42]
abbrev dktX10_endsRota_3 : List UInt8 := dkwX10_endsRota_3 ++ dktX10_endsRota_4
def dkwX10_endsRota_2 : List UInt8 := [167, 0, 4, 28, 61, 29, 42, 180, 0, 135, 21, 4, 46, 42, 180, 0, 135, 21, 4, 46, 104, 96, 62]
abbrev dktX10_endsRota_2 : List UInt8 := dkwX10_endsRota_2 ++ dktX10_endsRota_3
def dkwX10_endsRota_1 : List UInt8 := [154, 0, 6, 167, 0, 44, 42, 180, 0, 135, 21, 4, 46, 28, 164, 0, 13, 42, 180, 0, 135, 21, 4, 46]
abbrev dktX10_endsRota_1 : List UInt8 := dkwX10_endsRota_1 ++ dktX10_endsRota_2
def dkwX10_endsRota_0 : List UInt8 := [3, 61, 3, 62, 3, 54, 4, 21, 4, 16, 10, 162, 0, 65, 42, 180, 1, 240, 21, 4, 122, 4, 126]
abbrev dktX10_endsRota_0 : List UInt8 := dkwX10_endsRota_0 ++ dktX10_endsRota_1
theorem dksX10_endsRota_0 : cX10_endsRota.data.toList.drop 0 = dktX10_endsRota_0 := by decide +kernel
theorem dksX10_endsRota_1 : cX10_endsRota.data.toList.drop 23 = dktX10_endsRota_1 := dk_seg dksX10_endsRota_0 23 rfl rfl
theorem dksX10_endsRota_2 : cX10_endsRota.data.toList.drop 47 = dktX10_endsRota_2 := dk_seg dksX10_endsRota_1 24 rfl rfl
theorem dksX10_endsRota_3 : cX10_endsRota.data.toList.drop 70 = dktX10_endsRota_3 := dk_seg dksX10_endsRota_2 23 rfl rfl
theorem dksX10_endsRota_4 : cX10_endsRota.data.toList.drop 93 = dktX10_endsRota_4 := dk_seg dksX10_endsRota_3 23 rfl rfl
theorem dksX10_endsRota_5 : cX10_endsRota.data.toList.drop 116 = dktX10_endsRota_5 := dk_seg dksX10_endsRota_4 23 rfl rfl
theorem dksX10_endsRota_6 : cX10_endsRota.data.toList.drop 140 = dktX10_endsRota_6 := dk_seg dksX10_endsRota_5 24 rfl rfl
theorem dksX10_endsRota_7 : cX10_endsRota.data.toList.drop 164 = dktX10_endsRota_7 := dk_seg dksX10_endsRota_6 24 rfl rfl
theorem dksX10_endsRota_8 : cX10_endsRota.data.toList.drop 188 = dktX10_endsRota_8 := dk_seg dksX10_endsRota_7 24 rfl rfl
theorem dX10_endsRota_0 : decode cX10_endsRota 0 = .ok (.iconst 0, 1) := dk_3 (dk_at dksX10_endsRota_0 0 rfl rfl)
theorem dX10_endsRota_1 : decode cX10_endsRota 1 = .ok (.istore_n 2, 1) := dk_61 (dk_at dksX10_endsRota_0 1 rfl rfl)
theorem dX10_endsRota_2 : decode cX10_endsRota 2 = .ok (.iconst 0, 1) := dk_3 (dk_at dksX10_endsRota_0 2 rfl rfl)
theorem dX10_endsRota_3 : decode cX10_endsRota 3 = .ok (.istore_n 3, 1) := dk_62 (dk_at dksX10_endsRota_0 3 rfl rfl)
theorem dX10_endsRota_4 : decode cX10_endsRota 4 = .ok (.iconst 0, 1) := dk_3 (dk_at dksX10_endsRota_0 4 rfl rfl)
theorem dX10_endsRota_5 : decode cX10_endsRota 5 = .ok (.istore 4, 2) := dk_54 4 (dk_at dksX10_endsRota_0 5 rfl rfl)
theorem dX10_endsRota_7 : decode cX10_endsRota 7 = .ok (.iload 4, 2) := dk_21 4 (dk_at dksX10_endsRota_0 7 rfl rfl)
theorem dX10_endsRota_9 : decode cX10_endsRota 9 = .ok (.bipush 10, 2) := dk_16 10 (dk_at dksX10_endsRota_0 9 rfl rfl)
theorem dX10_endsRota_11 : decode cX10_endsRota 11 = .ok (.if_icmp .ge 65, 3) := dk_162 0 65 (dk_at dksX10_endsRota_0 11 rfl rfl)
theorem dX10_endsRota_14 : decode cX10_endsRota 14 = .ok (.aload_n 0, 1) := dk_42 (dk_at dksX10_endsRota_0 14 rfl rfl)
theorem dX10_endsRota_15 : decode cX10_endsRota 15 = .ok (.getfield 496, 3) := dk_180 1 240 (dk_at dksX10_endsRota_0 15 rfl rfl)
theorem dX10_endsRota_18 : decode cX10_endsRota 18 = .ok (.iload 4, 2) := dk_21 4 (dk_at dksX10_endsRota_0 18 rfl rfl)
theorem dX10_endsRota_20 : decode cX10_endsRota 20 = .ok (.ishr, 1) := dk_122 (dk_at dksX10_endsRota_0 20 rfl rfl)
theorem dX10_endsRota_21 : decode cX10_endsRota 21 = .ok (.iconst 1, 1) := dk_4 (dk_at dksX10_endsRota_0 21 rfl rfl)
theorem dX10_endsRota_22 : decode cX10_endsRota 22 = .ok (.iand, 1) := dk_126 (dk_at dksX10_endsRota_0 22 rfl rfl)
theorem dX10_endsRota_23 : decode cX10_endsRota 23 = .ok (.ifCond .ne 6, 3) := dk_154 0 6 (dk_at dksX10_endsRota_1 0 rfl rfl)
theorem dX10_endsRota_26 : decode cX10_endsRota 26 = .ok (.goto 44, 3) := dk_167 0 44 (dk_at dksX10_endsRota_1 3 rfl rfl)
theorem dX10_endsRota_29 : decode cX10_endsRota 29 = .ok (.aload_n 0, 1) := dk_42 (dk_at dksX10_endsRota_1 6 rfl rfl)
theorem dX10_endsRota_30 : decode cX10_endsRota 30 = .ok (.getfield 135, 3) := dk_180 0 135 (dk_at dksX10_endsRota_1 7 rfl rfl)
theorem dX10_endsRota_33 : decode cX10_endsRota 33 = .ok (.iload 4, 2) := dk_21 4 (dk_at dksX10_endsRota_1 10 rfl rfl)
theorem dX10_endsRota_35 : decode cX10_endsRota 35 = .ok (.iaload, 1) := dk_46 (dk_at dksX10_endsRota_1 12 rfl rfl)
theorem dX10_endsRota_36 : decode cX10_endsRota 36 = .ok (.iload_n 2, 1) := dk_28 (dk_at dksX10_endsRota_1 13 rfl rfl)
theorem dX10_endsRota_37 : decode cX10_endsRota 37 = .ok (.if_icmp .le 13, 3) := dk_164 0 13 (dk_at dksX10_endsRota_1 14 rfl rfl)
theorem dX10_endsRota_40 : decode cX10_endsRota 40 = .ok (.aload_n 0, 1) := dk_42 (dk_at dksX10_endsRota_1 17 rfl rfl)
theorem dX10_endsRota_41 : decode cX10_endsRota 41 = .ok (.getfield 135, 3) := dk_180 0 135 (dk_at dksX10_endsRota_1 18 rfl rfl)
theorem dX10_endsRota_44 : decode cX10_endsRota 44 = .ok (.iload 4, 2) := dk_21 4 (dk_at dksX10_endsRota_1 21 rfl rfl)
theorem dX10_endsRota_46 : decode cX10_endsRota 46 = .ok (.iaload, 1) := dk_46 (dk_at dksX10_endsRota_1 23 rfl rfl)
theorem dX10_endsRota_47 : decode cX10_endsRota 47 = .ok (.goto 4, 3) := dk_167 0 4 (dk_at dksX10_endsRota_2 0 rfl rfl)
theorem dX10_endsRota_50 : decode cX10_endsRota 50 = .ok (.iload_n 2, 1) := dk_28 (dk_at dksX10_endsRota_2 3 rfl rfl)
theorem dX10_endsRota_51 : decode cX10_endsRota 51 = .ok (.istore_n 2, 1) := dk_61 (dk_at dksX10_endsRota_2 4 rfl rfl)
theorem dX10_endsRota_52 : decode cX10_endsRota 52 = .ok (.iload_n 3, 1) := dk_29 (dk_at dksX10_endsRota_2 5 rfl rfl)
theorem dX10_endsRota_53 : decode cX10_endsRota 53 = .ok (.aload_n 0, 1) := dk_42 (dk_at dksX10_endsRota_2 6 rfl rfl)
theorem dX10_endsRota_54 : decode cX10_endsRota 54 = .ok (.getfield 135, 3) := dk_180 0 135 (dk_at dksX10_endsRota_2 7 rfl rfl)
theorem dX10_endsRota_57 : decode cX10_endsRota 57 = .ok (.iload 4, 2) := dk_21 4 (dk_at dksX10_endsRota_2 10 rfl rfl)
theorem dX10_endsRota_59 : decode cX10_endsRota 59 = .ok (.iaload, 1) := dk_46 (dk_at dksX10_endsRota_2 12 rfl rfl)
theorem dX10_endsRota_60 : decode cX10_endsRota 60 = .ok (.aload_n 0, 1) := dk_42 (dk_at dksX10_endsRota_2 13 rfl rfl)
theorem dX10_endsRota_61 : decode cX10_endsRota 61 = .ok (.getfield 135, 3) := dk_180 0 135 (dk_at dksX10_endsRota_2 14 rfl rfl)
theorem dX10_endsRota_64 : decode cX10_endsRota 64 = .ok (.iload 4, 2) := dk_21 4 (dk_at dksX10_endsRota_2 17 rfl rfl)
theorem dX10_endsRota_66 : decode cX10_endsRota 66 = .ok (.iaload, 1) := dk_46 (dk_at dksX10_endsRota_2 19 rfl rfl)
theorem dX10_endsRota_67 : decode cX10_endsRota 67 = .ok (.imul, 1) := dk_104 (dk_at dksX10_endsRota_2 20 rfl rfl)
theorem dX10_endsRota_68 : decode cX10_endsRota 68 = .ok (.iadd, 1) := dk_96 (dk_at dksX10_endsRota_2 21 rfl rfl)
theorem dX10_endsRota_69 : decode cX10_endsRota 69 = .ok (.istore_n 3, 1) := dk_62 (dk_at dksX10_endsRota_2 22 rfl rfl)
theorem dX10_endsRota_70 : decode cX10_endsRota 70 = .ok (.iinc 4 1, 3) := dk_132 4 1 (dk_at dksX10_endsRota_3 0 rfl rfl)
theorem dX10_endsRota_73 : decode cX10_endsRota 73 = .ok (.goto (-66), 3) := dk_167 255 190 (dk_at dksX10_endsRota_3 3 rfl rfl)
theorem dX10_endsRota_76 : decode cX10_endsRota 76 = .ok (.aload_n 0, 1) := dk_42 (dk_at dksX10_endsRota_3 6 rfl rfl)
theorem dX10_endsRota_77 : decode cX10_endsRota 77 = .ok (.getfield 502, 3) := dk_180 1 246 (dk_at dksX10_endsRota_3 7 rfl rfl)
theorem dX10_endsRota_80 : decode cX10_endsRota 80 = .ok (.ifCond .eq 27, 3) := dk_153 0 27 (dk_at dksX10_endsRota_3 10 rfl rfl)
theorem dX10_endsRota_83 : decode cX10_endsRota 83 = .ok (.iload_n 2, 1) := dk_28 (dk_at dksX10_endsRota_3 13 rfl rfl)
theorem dX10_endsRota_84 : decode cX10_endsRota 84 = .ok (.aload_n 0, 1) := dk_42 (dk_at dksX10_endsRota_3 14 rfl rfl)
theorem dX10_endsRota_85 : decode cX10_endsRota 85 = .ok (.getfield 505, 3) := dk_180 1 249 (dk_at dksX10_endsRota_3 15 rfl rfl)
theorem dX10_endsRota_88 : decode cX10_endsRota 88 = .ok (.if_icmp .lt 19, 3) := dk_161 0 19 (dk_at dksX10_endsRota_3 18 rfl rfl)
theorem dX10_endsRota_91 : decode cX10_endsRota 91 = .ok (.iload_n 2, 1) := dk_28 (dk_at dksX10_endsRota_3 21 rfl rfl)
theorem dX10_endsRota_92 : decode cX10_endsRota 92 = .ok (.aload_n 0, 1) := dk_42 (dk_at dksX10_endsRota_3 22 rfl rfl)
theorem dX10_endsRota_93 : decode cX10_endsRota 93 = .ok (.getfield 505, 3) := dk_180 1 249 (dk_at dksX10_endsRota_4 0 rfl rfl)
theorem dX10_endsRota_96 : decode cX10_endsRota 96 = .ok (.if_icmp .ne 15, 3) := dk_160 0 15 (dk_at dksX10_endsRota_4 3 rfl rfl)
theorem dX10_endsRota_99 : decode cX10_endsRota 99 = .ok (.iload_n 3, 1) := dk_29 (dk_at dksX10_endsRota_4 6 rfl rfl)
theorem dX10_endsRota_100 : decode cX10_endsRota 100 = .ok (.aload_n 0, 1) := dk_42 (dk_at dksX10_endsRota_4 7 rfl rfl)
theorem dX10_endsRota_101 : decode cX10_endsRota 101 = .ok (.getfield 508, 3) := dk_180 1 252 (dk_at dksX10_endsRota_4 8 rfl rfl)
theorem dX10_endsRota_104 : decode cX10_endsRota 104 = .ok (.if_icmp .ge 7, 3) := dk_162 0 7 (dk_at dksX10_endsRota_4 11 rfl rfl)
theorem dX10_endsRota_107 : decode cX10_endsRota 107 = .ok (.iconst 1, 1) := dk_4 (dk_at dksX10_endsRota_4 14 rfl rfl)
theorem dX10_endsRota_108 : decode cX10_endsRota 108 = .ok (.goto 4, 3) := dk_167 0 4 (dk_at dksX10_endsRota_4 15 rfl rfl)
theorem dX10_endsRota_111 : decode cX10_endsRota 111 = .ok (.iconst 0, 1) := dk_3 (dk_at dksX10_endsRota_4 18 rfl rfl)
theorem dX10_endsRota_112 : decode cX10_endsRota 112 = .ok (.istore 4, 2) := dk_54 4 (dk_at dksX10_endsRota_4 19 rfl rfl)
theorem dX10_endsRota_114 : decode cX10_endsRota 114 = .ok (.iload 4, 2) := dk_21 4 (dk_at dksX10_endsRota_4 21 rfl rfl)
theorem dX10_endsRota_116 : decode cX10_endsRota 116 = .ok (.ifCond .ne 28, 3) := dk_154 0 28 (dk_at dksX10_endsRota_5 0 rfl rfl)
theorem dX10_endsRota_119 : decode cX10_endsRota 119 = .ok (.iload_n 2, 1) := dk_28 (dk_at dksX10_endsRota_5 3 rfl rfl)
theorem dX10_endsRota_120 : decode cX10_endsRota 120 = .ok (.aload_n 0, 1) := dk_42 (dk_at dksX10_endsRota_5 4 rfl rfl)
theorem dX10_endsRota_121 : decode cX10_endsRota 121 = .ok (.getfield 505, 3) := dk_180 1 249 (dk_at dksX10_endsRota_5 5 rfl rfl)
theorem dX10_endsRota_124 : decode cX10_endsRota 124 = .ok (.if_icmp .ne 19, 3) := dk_160 0 19 (dk_at dksX10_endsRota_5 8 rfl rfl)
theorem dX10_endsRota_127 : decode cX10_endsRota 127 = .ok (.iload_n 3, 1) := dk_29 (dk_at dksX10_endsRota_5 11 rfl rfl)
theorem dX10_endsRota_128 : decode cX10_endsRota 128 = .ok (.aload_n 0, 1) := dk_42 (dk_at dksX10_endsRota_5 12 rfl rfl)
theorem dX10_endsRota_129 : decode cX10_endsRota 129 = .ok (.getfield 508, 3) := dk_180 1 252 (dk_at dksX10_endsRota_5 13 rfl rfl)
theorem dX10_endsRota_132 : decode cX10_endsRota 132 = .ok (.if_icmp .ne 11, 3) := dk_160 0 11 (dk_at dksX10_endsRota_5 16 rfl rfl)
theorem dX10_endsRota_135 : decode cX10_endsRota 135 = .ok (.aload_n 0, 1) := dk_42 (dk_at dksX10_endsRota_5 19 rfl rfl)
theorem dX10_endsRota_136 : decode cX10_endsRota 136 = .ok (.iload_n 1, 1) := dk_27 (dk_at dksX10_endsRota_5 20 rfl rfl)
theorem dX10_endsRota_137 : decode cX10_endsRota 137 = .ok (.invokevirtual 511, 3) := dk_182 1 255 (dk_at dksX10_endsRota_5 21 rfl rfl)
theorem dX10_endsRota_140 : decode cX10_endsRota 140 = .ok (.ifCond .ne 4, 3) := dk_154 0 4 (dk_at dksX10_endsRota_6 0 rfl rfl)
theorem dX10_endsRota_143 : decode cX10_endsRota 143 = .ok (.return_, 1) := dk_177 (dk_at dksX10_endsRota_6 3 rfl rfl)
theorem dX10_endsRota_144 : decode cX10_endsRota 144 = .ok (.aload_n 0, 1) := dk_42 (dk_at dksX10_endsRota_6 4 rfl rfl)
theorem dX10_endsRota_145 : decode cX10_endsRota 145 = .ok (.iconst 1, 1) := dk_4 (dk_at dksX10_endsRota_6 5 rfl rfl)
theorem dX10_endsRota_146 : decode cX10_endsRota 146 = .ok (.putfield 502, 3) := dk_181 1 246 (dk_at dksX10_endsRota_6 6 rfl rfl)
theorem dX10_endsRota_149 : decode cX10_endsRota 149 = .ok (.aload_n 0, 1) := dk_42 (dk_at dksX10_endsRota_6 9 rfl rfl)
theorem dX10_endsRota_150 : decode cX10_endsRota 150 = .ok (.iload_n 2, 1) := dk_28 (dk_at dksX10_endsRota_6 10 rfl rfl)
theorem dX10_endsRota_151 : decode cX10_endsRota 151 = .ok (.putfield 505, 3) := dk_181 1 249 (dk_at dksX10_endsRota_6 11 rfl rfl)
theorem dX10_endsRota_154 : decode cX10_endsRota 154 = .ok (.aload_n 0, 1) := dk_42 (dk_at dksX10_endsRota_6 14 rfl rfl)
theorem dX10_endsRota_155 : decode cX10_endsRota 155 = .ok (.iload_n 3, 1) := dk_29 (dk_at dksX10_endsRota_6 15 rfl rfl)
theorem dX10_endsRota_156 : decode cX10_endsRota 156 = .ok (.putfield 508, 3) := dk_181 1 252 (dk_at dksX10_endsRota_6 16 rfl rfl)
theorem dX10_endsRota_159 : decode cX10_endsRota 159 = .ok (.iconst 0, 1) := dk_3 (dk_at dksX10_endsRota_6 19 rfl rfl)
theorem dX10_endsRota_160 : decode cX10_endsRota 160 = .ok (.istore 5, 2) := dk_54 5 (dk_at dksX10_endsRota_6 20 rfl rfl)
theorem dX10_endsRota_162 : decode cX10_endsRota 162 = .ok (.iload 5, 2) := dk_21 5 (dk_at dksX10_endsRota_6 22 rfl rfl)
theorem dX10_endsRota_164 : decode cX10_endsRota 164 = .ok (.iload_n 1, 1) := dk_27 (dk_at dksX10_endsRota_7 0 rfl rfl)
theorem dX10_endsRota_165 : decode cX10_endsRota 165 = .ok (.if_icmp .ge 23, 3) := dk_162 0 23 (dk_at dksX10_endsRota_7 1 rfl rfl)
theorem dX10_endsRota_168 : decode cX10_endsRota 168 = .ok (.aload_n 0, 1) := dk_42 (dk_at dksX10_endsRota_7 4 rfl rfl)
theorem dX10_endsRota_169 : decode cX10_endsRota 169 = .ok (.getfield 141, 3) := dk_180 0 141 (dk_at dksX10_endsRota_7 5 rfl rfl)
theorem dX10_endsRota_172 : decode cX10_endsRota 172 = .ok (.iload 5, 2) := dk_21 5 (dk_at dksX10_endsRota_7 8 rfl rfl)
theorem dX10_endsRota_174 : decode cX10_endsRota 174 = .ok (.aload_n 0, 1) := dk_42 (dk_at dksX10_endsRota_7 10 rfl rfl)
theorem dX10_endsRota_175 : decode cX10_endsRota 175 = .ok (.getfield 138, 3) := dk_180 0 138 (dk_at dksX10_endsRota_7 11 rfl rfl)
theorem dX10_endsRota_178 : decode cX10_endsRota 178 = .ok (.iload 5, 2) := dk_21 5 (dk_at dksX10_endsRota_7 14 rfl rfl)
theorem dX10_endsRota_180 : decode cX10_endsRota 180 = .ok (.iaload, 1) := dk_46 (dk_at dksX10_endsRota_7 16 rfl rfl)
theorem dX10_endsRota_181 : decode cX10_endsRota 181 = .ok (.iastore, 1) := dk_79 (dk_at dksX10_endsRota_7 17 rfl rfl)
theorem dX10_endsRota_182 : decode cX10_endsRota 182 = .ok (.iinc 5 1, 3) := dk_132 5 1 (dk_at dksX10_endsRota_7 18 rfl rfl)
theorem dX10_endsRota_185 : decode cX10_endsRota 185 = .ok (.goto (-23), 3) := dk_167 255 233 (dk_at dksX10_endsRota_7 21 rfl rfl)
theorem dX10_endsRota_188 : decode cX10_endsRota 188 = .ok (.return_, 1) := dk_177 (dk_at dksX10_endsRota_8 0 rfl rfl)
def dkwX10_isFirst_1 : List UInt8 := [180, 0, 138, 28, 46, 42, 180, 0, 141, 28, 46, 184, 2, 2, 172, 132, 2, 1, 167, 255, 217, 3, 172]
abbrev dktX10_isFirst_1 : List UInt8 := dkwX10_isFirst_1 ++ []
def dkwX10_isFirst_0 : List UInt8 := [3, 61, 28, 27, 162, 0, 40, 42, 180, 0, 138, 28, 46, 42, 180, 0, 141, 28, 46, 159, 0, 19, 42]
abbrev dktX10_isFirst_0 : List UInt8 := dkwX10_isFirst_0 ++ dktX10_isFirst_1
theorem dksX10_isFirst_0 : cX10_isFirst.data.toList.drop 0 = dktX10_isFirst_0 := by decide +kernel
theorem dksX10_isFirst_1 : cX10_isFirst.data.toList.drop 23 = dktX10_isFirst_1 := dk_seg dksX10_isFirst_0 23 rfl rfl
theorem dX10_isFirst_0 : decode cX10_isFirst 0 = .ok (.iconst 0, 1) := dk_3 (dk_at dksX10_isFirst_0 0 rfl rfl)
theorem dX10_isFirst_1 : decode cX10_isFirst 1 = .ok (.istore_n 2, 1) := dk_61 (dk_at dksX10_isFirst_0 1 rfl rfl)
theorem dX10_isFirst_2 : decode cX10_isFirst 2 = .ok (.iload_n 2, 1) := dk_28 (dk_at dksX10_isFirst_0 2 rfl rfl)
theorem dX10_isFirst_3 : decode cX10_isFirst 3 = .ok (.iload_n 1, 1) := dk_27 (dk_at dksX10_isFirst_0 3 rfl rfl)
theorem dX10_isFirst_4 : decode cX10_isFirst 4 = .ok (.if_icmp .ge 40, 3) := dk_162 0 40 (dk_at dksX10_isFirst_0 4 rfl rfl)
theorem dX10_isFirst_7 : decode cX10_isFirst 7 = .ok (.aload_n 0, 1) := dk_42 (dk_at dksX10_isFirst_0 7 rfl rfl)
theorem dX10_isFirst_8 : decode cX10_isFirst 8 = .ok (.getfield 138, 3) := dk_180 0 138 (dk_at dksX10_isFirst_0 8 rfl rfl)
theorem dX10_isFirst_11 : decode cX10_isFirst 11 = .ok (.iload_n 2, 1) := dk_28 (dk_at dksX10_isFirst_0 11 rfl rfl)
theorem dX10_isFirst_12 : decode cX10_isFirst 12 = .ok (.iaload, 1) := dk_46 (dk_at dksX10_isFirst_0 12 rfl rfl)
theorem dX10_isFirst_13 : decode cX10_isFirst 13 = .ok (.aload_n 0, 1) := dk_42 (dk_at dksX10_isFirst_0 13 rfl rfl)
theorem dX10_isFirst_14 : decode cX10_isFirst 14 = .ok (.getfield 141, 3) := dk_180 0 141 (dk_at dksX10_isFirst_0 14 rfl rfl)
theorem dX10_isFirst_17 : decode cX10_isFirst 17 = .ok (.iload_n 2, 1) := dk_28 (dk_at dksX10_isFirst_0 17 rfl rfl)
theorem dX10_isFirst_18 : decode cX10_isFirst 18 = .ok (.iaload, 1) := dk_46 (dk_at dksX10_isFirst_0 18 rfl rfl)
theorem dX10_isFirst_19 : decode cX10_isFirst 19 = .ok (.if_icmp .eq 19, 3) := dk_159 0 19 (dk_at dksX10_isFirst_0 19 rfl rfl)
theorem dX10_isFirst_22 : decode cX10_isFirst 22 = .ok (.aload_n 0, 1) := dk_42 (dk_at dksX10_isFirst_0 22 rfl rfl)
theorem dX10_isFirst_23 : decode cX10_isFirst 23 = .ok (.getfield 138, 3) := dk_180 0 138 (dk_at dksX10_isFirst_1 0 rfl rfl)
theorem dX10_isFirst_26 : decode cX10_isFirst 26 = .ok (.iload_n 2, 1) := dk_28 (dk_at dksX10_isFirst_1 3 rfl rfl)
theorem dX10_isFirst_27 : decode cX10_isFirst 27 = .ok (.iaload, 1) := dk_46 (dk_at dksX10_isFirst_1 4 rfl rfl)
theorem dX10_isFirst_28 : decode cX10_isFirst 28 = .ok (.aload_n 0, 1) := dk_42 (dk_at dksX10_isFirst_1 5 rfl rfl)
theorem dX10_isFirst_29 : decode cX10_isFirst 29 = .ok (.getfield 141, 3) := dk_180 0 141 (dk_at dksX10_isFirst_1 6 rfl rfl)
theorem dX10_isFirst_32 : decode cX10_isFirst 32 = .ok (.iload_n 2, 1) := dk_28 (dk_at dksX10_isFirst_1 9 rfl rfl)
theorem dX10_isFirst_33 : decode cX10_isFirst 33 = .ok (.iaload, 1) := dk_46 (dk_at dksX10_isFirst_1 10 rfl rfl)
theorem dX10_isFirst_34 : decode cX10_isFirst 34 = .ok (.invokestatic 514, 3) := dk_184 2 2 (dk_at dksX10_isFirst_1 11 rfl rfl)
theorem dX10_isFirst_37 : decode cX10_isFirst 37 = .ok (.ireturn, 1) := dk_172 (dk_at dksX10_isFirst_1 14 rfl rfl)
theorem dX10_isFirst_38 : decode cX10_isFirst 38 = .ok (.iinc 2 1, 3) := dk_132 2 1 (dk_at dksX10_isFirst_1 15 rfl rfl)
theorem dX10_isFirst_41 : decode cX10_isFirst 41 = .ok (.goto (-39), 3) := dk_167 255 217 (dk_at dksX10_isFirst_1 18 rfl rfl)
theorem dX10_isFirst_44 : decode cX10_isFirst 44 = .ok (.iconst 0, 1) := dk_3 (dk_at dksX10_isFirst_1 21 rfl rfl)
theorem dX10_isFirst_45 : decode cX10_isFirst 45 = .ok (.ireturn, 1) := dk_172 (dk_at dksX10_isFirst_1 22 rfl rfl)
def dkwX10_isAhead_0 : List UInt8 := [26, 27, 130, 61, 26, 28, 126, 28, 116, 126, 153, 0, 7, 4, 167, 0, 4, 3, 172]
abbrev dktX10_isAhead_0 : List UInt8 := dkwX10_isAhead_0 ++ []
theorem dksX10_isAhead_0 : cX10_isAhead.data.toList.drop 0 = dktX10_isAhead_0 := by decide +kernel
theorem dX10_isAhead_0 : decode cX10_isAhead 0 = .ok (.iload_n 0, 1) := dk_26 (dk_at dksX10_isAhead_0 0 rfl rfl)
theorem dX10_isAhead_1 : decode cX10_isAhead 1 = .ok (.iload_n 1, 1) := dk_27 (dk_at dksX10_isAhead_0 1 rfl rfl)
theorem dX10_isAhead_2 : decode cX10_isAhead 2 = .ok (.ixor, 1) := dk_130 (dk_at dksX10_isAhead_0 2 rfl rfl)
theorem dX10_isAhead_3 : decode cX10_isAhead 3 = .ok (.istore_n 2, 1) := dk_61 (dk_at dksX10_isAhead_0 3 rfl rfl)
theorem dX10_isAhead_4 : decode cX10_isAhead 4 = .ok (.iload_n 0, 1) := dk_26 (dk_at dksX10_isAhead_0 4 rfl rfl)
theorem dX10_isAhead_5 : decode cX10_isAhead 5 = .ok (.iload_n 2, 1) := dk_28 (dk_at dksX10_isAhead_0 5 rfl rfl)
theorem dX10_isAhead_6 : decode cX10_isAhead 6 = .ok (.iand, 1) := dk_126 (dk_at dksX10_isAhead_0 6 rfl rfl)
theorem dX10_isAhead_7 : decode cX10_isAhead 7 = .ok (.iload_n 2, 1) := dk_28 (dk_at dksX10_isAhead_0 7 rfl rfl)
theorem dX10_isAhead_8 : decode cX10_isAhead 8 = .ok (.ineg, 1) := dk_116 (dk_at dksX10_isAhead_0 8 rfl rfl)
theorem dX10_isAhead_9 : decode cX10_isAhead 9 = .ok (.iand, 1) := dk_126 (dk_at dksX10_isAhead_0 9 rfl rfl)
theorem dX10_isAhead_10 : decode cX10_isAhead 10 = .ok (.ifCond .eq 7, 3) := dk_153 0 7 (dk_at dksX10_isAhead_0 10 rfl rfl)
theorem dX10_isAhead_13 : decode cX10_isAhead 13 = .ok (.iconst 1, 1) := dk_4 (dk_at dksX10_isAhead_0 13 rfl rfl)
theorem dX10_isAhead_14 : decode cX10_isAhead 14 = .ok (.goto 4, 3) := dk_167 0 4 (dk_at dksX10_isAhead_0 14 rfl rfl)
theorem dX10_isAhead_17 : decode cX10_isAhead 17 = .ok (.iconst 0, 1) := dk_3 (dk_at dksX10_isAhead_0 17 rfl rfl)
theorem dX10_isAhead_18 : decode cX10_isAhead 18 = .ok (.ireturn, 1) := dk_172 (dk_at dksX10_isAhead_0 18 rfl rfl)
def dkwX10_freeIn_2 : List UInt8 := [167, 255, 217, 28, 172]
abbrev dktX10_freeIn_2 : List UInt8 := dkwX10_freeIn_2 ++ []
def dkwX10_freeIn_1 : List UInt8 := [17, 3, 232, 29, 104, 27, 96, 51, 153, 0, 11, 28, 4, 29, 120, 2, 130, 126, 61, 132, 3, 1]
abbrev dktX10_freeIn_1 : List UInt8 := dkwX10_freeIn_1 ++ dktX10_freeIn_2
def dkwX10_freeIn_0 : List UInt8 := [42, 180, 1, 240, 61, 3, 62, 29, 16, 10, 162, 0, 39, 27, 17, 3, 232, 162, 0, 26, 42, 180, 0, 131]
abbrev dktX10_freeIn_0 : List UInt8 := dkwX10_freeIn_0 ++ dktX10_freeIn_1
theorem dksX10_freeIn_0 : cX10_freeIn.data.toList.drop 0 = dktX10_freeIn_0 := by decide +kernel
theorem dksX10_freeIn_1 : cX10_freeIn.data.toList.drop 24 = dktX10_freeIn_1 := dk_seg dksX10_freeIn_0 24 rfl rfl
theorem dksX10_freeIn_2 : cX10_freeIn.data.toList.drop 46 = dktX10_freeIn_2 := dk_seg dksX10_freeIn_1 22 rfl rfl
theorem dX10_freeIn_0 : decode cX10_freeIn 0 = .ok (.aload_n 0, 1) := dk_42 (dk_at dksX10_freeIn_0 0 rfl rfl)
theorem dX10_freeIn_1 : decode cX10_freeIn 1 = .ok (.getfield 496, 3) := dk_180 1 240 (dk_at dksX10_freeIn_0 1 rfl rfl)
theorem dX10_freeIn_4 : decode cX10_freeIn 4 = .ok (.istore_n 2, 1) := dk_61 (dk_at dksX10_freeIn_0 4 rfl rfl)
theorem dX10_freeIn_5 : decode cX10_freeIn 5 = .ok (.iconst 0, 1) := dk_3 (dk_at dksX10_freeIn_0 5 rfl rfl)
theorem dX10_freeIn_6 : decode cX10_freeIn 6 = .ok (.istore_n 3, 1) := dk_62 (dk_at dksX10_freeIn_0 6 rfl rfl)
theorem dX10_freeIn_7 : decode cX10_freeIn 7 = .ok (.iload_n 3, 1) := dk_29 (dk_at dksX10_freeIn_0 7 rfl rfl)
theorem dX10_freeIn_8 : decode cX10_freeIn 8 = .ok (.bipush 10, 2) := dk_16 10 (dk_at dksX10_freeIn_0 8 rfl rfl)
theorem dX10_freeIn_10 : decode cX10_freeIn 10 = .ok (.if_icmp .ge 39, 3) := dk_162 0 39 (dk_at dksX10_freeIn_0 10 rfl rfl)
theorem dX10_freeIn_13 : decode cX10_freeIn 13 = .ok (.iload_n 1, 1) := dk_27 (dk_at dksX10_freeIn_0 13 rfl rfl)
theorem dX10_freeIn_14 : decode cX10_freeIn 14 = .ok (.sipush 1000, 3) := dk_17 3 232 (dk_at dksX10_freeIn_0 14 rfl rfl)
theorem dX10_freeIn_17 : decode cX10_freeIn 17 = .ok (.if_icmp .ge 26, 3) := dk_162 0 26 (dk_at dksX10_freeIn_0 17 rfl rfl)
theorem dX10_freeIn_20 : decode cX10_freeIn 20 = .ok (.aload_n 0, 1) := dk_42 (dk_at dksX10_freeIn_0 20 rfl rfl)
theorem dX10_freeIn_21 : decode cX10_freeIn 21 = .ok (.getfield 131, 3) := dk_180 0 131 (dk_at dksX10_freeIn_0 21 rfl rfl)
theorem dX10_freeIn_24 : decode cX10_freeIn 24 = .ok (.sipush 1000, 3) := dk_17 3 232 (dk_at dksX10_freeIn_1 0 rfl rfl)
theorem dX10_freeIn_27 : decode cX10_freeIn 27 = .ok (.iload_n 3, 1) := dk_29 (dk_at dksX10_freeIn_1 3 rfl rfl)
theorem dX10_freeIn_28 : decode cX10_freeIn 28 = .ok (.imul, 1) := dk_104 (dk_at dksX10_freeIn_1 4 rfl rfl)
theorem dX10_freeIn_29 : decode cX10_freeIn 29 = .ok (.iload_n 1, 1) := dk_27 (dk_at dksX10_freeIn_1 5 rfl rfl)
theorem dX10_freeIn_30 : decode cX10_freeIn 30 = .ok (.iadd, 1) := dk_96 (dk_at dksX10_freeIn_1 6 rfl rfl)
theorem dX10_freeIn_31 : decode cX10_freeIn 31 = .ok (.baload, 1) := dk_51 (dk_at dksX10_freeIn_1 7 rfl rfl)
theorem dX10_freeIn_32 : decode cX10_freeIn 32 = .ok (.ifCond .eq 11, 3) := dk_153 0 11 (dk_at dksX10_freeIn_1 8 rfl rfl)
theorem dX10_freeIn_35 : decode cX10_freeIn 35 = .ok (.iload_n 2, 1) := dk_28 (dk_at dksX10_freeIn_1 11 rfl rfl)
theorem dX10_freeIn_36 : decode cX10_freeIn 36 = .ok (.iconst 1, 1) := dk_4 (dk_at dksX10_freeIn_1 12 rfl rfl)
theorem dX10_freeIn_37 : decode cX10_freeIn 37 = .ok (.iload_n 3, 1) := dk_29 (dk_at dksX10_freeIn_1 13 rfl rfl)
theorem dX10_freeIn_38 : decode cX10_freeIn 38 = .ok (.ishl, 1) := dk_120 (dk_at dksX10_freeIn_1 14 rfl rfl)
theorem dX10_freeIn_39 : decode cX10_freeIn 39 = .ok (.iconst (-1), 1) := dk_2 (dk_at dksX10_freeIn_1 15 rfl rfl)
theorem dX10_freeIn_40 : decode cX10_freeIn 40 = .ok (.ixor, 1) := dk_130 (dk_at dksX10_freeIn_1 16 rfl rfl)
theorem dX10_freeIn_41 : decode cX10_freeIn 41 = .ok (.iand, 1) := dk_126 (dk_at dksX10_freeIn_1 17 rfl rfl)
theorem dX10_freeIn_42 : decode cX10_freeIn 42 = .ok (.istore_n 2, 1) := dk_61 (dk_at dksX10_freeIn_1 18 rfl rfl)
theorem dX10_freeIn_43 : decode cX10_freeIn 43 = .ok (.iinc 3 1, 3) := dk_132 3 1 (dk_at dksX10_freeIn_1 19 rfl rfl)
theorem dX10_freeIn_46 : decode cX10_freeIn 46 = .ok (.goto (-39), 3) := dk_167 255 217 (dk_at dksX10_freeIn_2 0 rfl rfl)
theorem dX10_freeIn_49 : decode cX10_freeIn 49 = .ok (.iload_n 2, 1) := dk_28 (dk_at dksX10_freeIn_2 3 rfl rfl)
theorem dX10_freeIn_50 : decode cX10_freeIn 50 = .ok (.ireturn, 1) := dk_172 (dk_at dksX10_freeIn_2 4 rfl rfl)
def dkwX10_loads_2 : List UInt8 := [180, 1, 246, 153, 0, 10, 42, 180, 1, 252, 167, 0, 4, 2, 172]
abbrev dktX10_loads_2 : List UInt8 := dkwX10_loads_2 ++ []
def dkwX10_loads_1 : List UInt8 := [153, 0, 7, 4, 167, 0, 4, 3, 4, 182, 0, 214, 154, 0, 5, 3, 172, 42, 27, 28, 182, 2, 15, 42]
abbrev dktX10_loads_1 : List UInt8 := dkwX10_loads_1 ++ dktX10_loads_2
def dkwX10_loads_0 : List UInt8 := [42, 3, 181, 0, 1, 42, 27, 4, 16, 6, 184, 0, 210, 153, 0, 16, 28, 4, 5, 184, 0, 210]
abbrev dktX10_loads_0 : List UInt8 := dkwX10_loads_0 ++ dktX10_loads_1
theorem dksX10_loads_0 : cX10_loads.data.toList.drop 0 = dktX10_loads_0 := by decide +kernel
theorem dksX10_loads_1 : cX10_loads.data.toList.drop 22 = dktX10_loads_1 := dk_seg dksX10_loads_0 22 rfl rfl
theorem dksX10_loads_2 : cX10_loads.data.toList.drop 46 = dktX10_loads_2 := dk_seg dksX10_loads_1 24 rfl rfl
theorem dX10_loads_0 : decode cX10_loads 0 = .ok (.aload_n 0, 1) := dk_42 (dk_at dksX10_loads_0 0 rfl rfl)
theorem dX10_loads_1 : decode cX10_loads 1 = .ok (.iconst 0, 1) := dk_3 (dk_at dksX10_loads_0 1 rfl rfl)
theorem dX10_loads_2 : decode cX10_loads 2 = .ok (.putfield 1, 3) := dk_181 0 1 (dk_at dksX10_loads_0 2 rfl rfl)
theorem dX10_loads_5 : decode cX10_loads 5 = .ok (.aload_n 0, 1) := dk_42 (dk_at dksX10_loads_0 5 rfl rfl)
theorem dX10_loads_6 : decode cX10_loads 6 = .ok (.iload_n 1, 1) := dk_27 (dk_at dksX10_loads_0 6 rfl rfl)
theorem dX10_loads_7 : decode cX10_loads 7 = .ok (.iconst 1, 1) := dk_4 (dk_at dksX10_loads_0 7 rfl rfl)
theorem dX10_loads_8 : decode cX10_loads 8 = .ok (.bipush 6, 2) := dk_16 6 (dk_at dksX10_loads_0 8 rfl rfl)
theorem dX10_loads_10 : decode cX10_loads 10 = .ok (.invokestatic 210, 3) := dk_184 0 210 (dk_at dksX10_loads_0 10 rfl rfl)
theorem dX10_loads_13 : decode cX10_loads 13 = .ok (.ifCond .eq 16, 3) := dk_153 0 16 (dk_at dksX10_loads_0 13 rfl rfl)
theorem dX10_loads_16 : decode cX10_loads 16 = .ok (.iload_n 2, 1) := dk_28 (dk_at dksX10_loads_0 16 rfl rfl)
theorem dX10_loads_17 : decode cX10_loads 17 = .ok (.iconst 1, 1) := dk_4 (dk_at dksX10_loads_0 17 rfl rfl)
theorem dX10_loads_18 : decode cX10_loads 18 = .ok (.iconst 2, 1) := dk_5 (dk_at dksX10_loads_0 18 rfl rfl)
theorem dX10_loads_19 : decode cX10_loads 19 = .ok (.invokestatic 210, 3) := dk_184 0 210 (dk_at dksX10_loads_0 19 rfl rfl)
theorem dX10_loads_22 : decode cX10_loads 22 = .ok (.ifCond .eq 7, 3) := dk_153 0 7 (dk_at dksX10_loads_1 0 rfl rfl)
theorem dX10_loads_25 : decode cX10_loads 25 = .ok (.iconst 1, 1) := dk_4 (dk_at dksX10_loads_1 3 rfl rfl)
theorem dX10_loads_26 : decode cX10_loads 26 = .ok (.goto 4, 3) := dk_167 0 4 (dk_at dksX10_loads_1 4 rfl rfl)
theorem dX10_loads_29 : decode cX10_loads 29 = .ok (.iconst 0, 1) := dk_3 (dk_at dksX10_loads_1 7 rfl rfl)
theorem dX10_loads_30 : decode cX10_loads 30 = .ok (.iconst 1, 1) := dk_4 (dk_at dksX10_loads_1 8 rfl rfl)
theorem dX10_loads_31 : decode cX10_loads 31 = .ok (.invokevirtual 214, 3) := dk_182 0 214 (dk_at dksX10_loads_1 9 rfl rfl)
theorem dX10_loads_34 : decode cX10_loads 34 = .ok (.ifCond .ne 5, 3) := dk_154 0 5 (dk_at dksX10_loads_1 12 rfl rfl)
theorem dX10_loads_37 : decode cX10_loads 37 = .ok (.iconst 0, 1) := dk_3 (dk_at dksX10_loads_1 15 rfl rfl)
theorem dX10_loads_38 : decode cX10_loads 38 = .ok (.ireturn, 1) := dk_172 (dk_at dksX10_loads_1 16 rfl rfl)
theorem dX10_loads_39 : decode cX10_loads 39 = .ok (.aload_n 0, 1) := dk_42 (dk_at dksX10_loads_1 17 rfl rfl)
theorem dX10_loads_40 : decode cX10_loads 40 = .ok (.iload_n 1, 1) := dk_27 (dk_at dksX10_loads_1 18 rfl rfl)
theorem dX10_loads_41 : decode cX10_loads 41 = .ok (.iload_n 2, 1) := dk_28 (dk_at dksX10_loads_1 19 rfl rfl)
theorem dX10_loads_42 : decode cX10_loads 42 = .ok (.invokevirtual 527, 3) := dk_182 2 15 (dk_at dksX10_loads_1 20 rfl rfl)
theorem dX10_loads_45 : decode cX10_loads 45 = .ok (.aload_n 0, 1) := dk_42 (dk_at dksX10_loads_1 23 rfl rfl)
theorem dX10_loads_46 : decode cX10_loads 46 = .ok (.getfield 502, 3) := dk_180 1 246 (dk_at dksX10_loads_2 0 rfl rfl)
theorem dX10_loads_49 : decode cX10_loads 49 = .ok (.ifCond .eq 10, 3) := dk_153 0 10 (dk_at dksX10_loads_2 3 rfl rfl)
theorem dX10_loads_52 : decode cX10_loads 52 = .ok (.aload_n 0, 1) := dk_42 (dk_at dksX10_loads_2 6 rfl rfl)
theorem dX10_loads_53 : decode cX10_loads 53 = .ok (.getfield 508, 3) := dk_180 1 252 (dk_at dksX10_loads_2 7 rfl rfl)
theorem dX10_loads_56 : decode cX10_loads 56 = .ok (.goto 4, 3) := dk_167 0 4 (dk_at dksX10_loads_2 10 rfl rfl)
theorem dX10_loads_59 : decode cX10_loads 59 = .ok (.iconst (-1), 1) := dk_2 (dk_at dksX10_loads_2 13 rfl rfl)
theorem dX10_loads_60 : decode cX10_loads 60 = .ok (.ireturn, 1) := dk_172 (dk_at dksX10_loads_2 14 rfl rfl)
def dkwX10_find_2 : List UInt8 := [4, 96, 181, 2, 25, 42, 27, 28, 182, 1, 221, 42, 27, 182, 2, 28, 172]
abbrev dktX10_find_2 : List UInt8 := dkwX10_find_2 ++ []
def dkwX10_find_1 : List UInt8 := [182, 0, 214, 154, 0, 5, 3, 172, 42, 180, 2, 25, 16, 100, 160, 0, 5, 2, 172, 42, 89, 180, 2, 25]
abbrev dktX10_find_1 : List UInt8 := dkwX10_find_1 ++ dktX10_find_2
def dkwX10_find_0 : List UInt8 := [42, 3, 181, 0, 1, 42, 27, 182, 2, 21, 153, 0, 19, 42, 28, 3, 19, 2, 24, 184, 0, 210, 5]
abbrev dktX10_find_0 : List UInt8 := dkwX10_find_0 ++ dktX10_find_1
theorem dksX10_find_0 : cX10_find.data.toList.drop 0 = dktX10_find_0 := by decide +kernel
theorem dksX10_find_1 : cX10_find.data.toList.drop 23 = dktX10_find_1 := dk_seg dksX10_find_0 23 rfl rfl
theorem dksX10_find_2 : cX10_find.data.toList.drop 47 = dktX10_find_2 := dk_seg dksX10_find_1 24 rfl rfl
theorem dX10_find_0 : decode cX10_find 0 = .ok (.aload_n 0, 1) := dk_42 (dk_at dksX10_find_0 0 rfl rfl)
theorem dX10_find_1 : decode cX10_find 1 = .ok (.iconst 0, 1) := dk_3 (dk_at dksX10_find_0 1 rfl rfl)
theorem dX10_find_2 : decode cX10_find 2 = .ok (.putfield 1, 3) := dk_181 0 1 (dk_at dksX10_find_0 2 rfl rfl)
theorem dX10_find_5 : decode cX10_find 5 = .ok (.aload_n 0, 1) := dk_42 (dk_at dksX10_find_0 5 rfl rfl)
theorem dX10_find_6 : decode cX10_find 6 = .ok (.iload_n 1, 1) := dk_27 (dk_at dksX10_find_0 6 rfl rfl)
theorem dX10_find_7 : decode cX10_find 7 = .ok (.invokevirtual 533, 3) := dk_182 2 21 (dk_at dksX10_find_0 7 rfl rfl)
theorem dX10_find_10 : decode cX10_find 10 = .ok (.ifCond .eq 19, 3) := dk_153 0 19 (dk_at dksX10_find_0 10 rfl rfl)
theorem dX10_find_13 : decode cX10_find 13 = .ok (.aload_n 0, 1) := dk_42 (dk_at dksX10_find_0 13 rfl rfl)
theorem dX10_find_14 : decode cX10_find 14 = .ok (.iload_n 2, 1) := dk_28 (dk_at dksX10_find_0 14 rfl rfl)
theorem dX10_find_15 : decode cX10_find 15 = .ok (.iconst 0, 1) := dk_3 (dk_at dksX10_find_0 15 rfl rfl)
theorem dX10_find_16 : decode cX10_find 16 = .ok (.ldc_w 536, 3) := dk_19 2 24 (dk_at dksX10_find_0 16 rfl rfl)
theorem dX10_find_19 : decode cX10_find 19 = .ok (.invokestatic 210, 3) := dk_184 0 210 (dk_at dksX10_find_0 19 rfl rfl)
theorem dX10_find_22 : decode cX10_find 22 = .ok (.iconst 2, 1) := dk_5 (dk_at dksX10_find_0 22 rfl rfl)
theorem dX10_find_23 : decode cX10_find 23 = .ok (.invokevirtual 214, 3) := dk_182 0 214 (dk_at dksX10_find_1 0 rfl rfl)
theorem dX10_find_26 : decode cX10_find 26 = .ok (.ifCond .ne 5, 3) := dk_154 0 5 (dk_at dksX10_find_1 3 rfl rfl)
theorem dX10_find_29 : decode cX10_find 29 = .ok (.iconst 0, 1) := dk_3 (dk_at dksX10_find_1 6 rfl rfl)
theorem dX10_find_30 : decode cX10_find 30 = .ok (.ireturn, 1) := dk_172 (dk_at dksX10_find_1 7 rfl rfl)
theorem dX10_find_31 : decode cX10_find 31 = .ok (.aload_n 0, 1) := dk_42 (dk_at dksX10_find_1 8 rfl rfl)
theorem dX10_find_32 : decode cX10_find 32 = .ok (.getfield 537, 3) := dk_180 2 25 (dk_at dksX10_find_1 9 rfl rfl)
theorem dX10_find_35 : decode cX10_find 35 = .ok (.bipush 100, 2) := dk_16 100 (dk_at dksX10_find_1 12 rfl rfl)
theorem dX10_find_37 : decode cX10_find 37 = .ok (.if_icmp .ne 5, 3) := dk_160 0 5 (dk_at dksX10_find_1 14 rfl rfl)
theorem dX10_find_40 : decode cX10_find 40 = .ok (.iconst (-1), 1) := dk_2 (dk_at dksX10_find_1 17 rfl rfl)
theorem dX10_find_41 : decode cX10_find 41 = .ok (.ireturn, 1) := dk_172 (dk_at dksX10_find_1 18 rfl rfl)
theorem dX10_find_42 : decode cX10_find 42 = .ok (.aload_n 0, 1) := dk_42 (dk_at dksX10_find_1 19 rfl rfl)
theorem dX10_find_43 : decode cX10_find 43 = .ok (.dup, 1) := dk_89 (dk_at dksX10_find_1 20 rfl rfl)
theorem dX10_find_44 : decode cX10_find 44 = .ok (.getfield 537, 3) := dk_180 2 25 (dk_at dksX10_find_1 21 rfl rfl)
theorem dX10_find_47 : decode cX10_find 47 = .ok (.iconst 1, 1) := dk_4 (dk_at dksX10_find_2 0 rfl rfl)
theorem dX10_find_48 : decode cX10_find 48 = .ok (.iadd, 1) := dk_96 (dk_at dksX10_find_2 1 rfl rfl)
theorem dX10_find_49 : decode cX10_find 49 = .ok (.putfield 537, 3) := dk_181 2 25 (dk_at dksX10_find_2 2 rfl rfl)
theorem dX10_find_52 : decode cX10_find 52 = .ok (.aload_n 0, 1) := dk_42 (dk_at dksX10_find_2 5 rfl rfl)
theorem dX10_find_53 : decode cX10_find 53 = .ok (.iload_n 1, 1) := dk_27 (dk_at dksX10_find_2 6 rfl rfl)
theorem dX10_find_54 : decode cX10_find 54 = .ok (.iload_n 2, 1) := dk_28 (dk_at dksX10_find_2 7 rfl rfl)
theorem dX10_find_55 : decode cX10_find 55 = .ok (.invokevirtual 477, 3) := dk_182 1 221 (dk_at dksX10_find_2 8 rfl rfl)
theorem dX10_find_58 : decode cX10_find 58 = .ok (.aload_n 0, 1) := dk_42 (dk_at dksX10_find_2 11 rfl rfl)
theorem dX10_find_59 : decode cX10_find 59 = .ok (.iload_n 1, 1) := dk_27 (dk_at dksX10_find_2 12 rfl rfl)
theorem dX10_find_60 : decode cX10_find 60 = .ok (.invokevirtual 540, 3) := dk_182 2 28 (dk_at dksX10_find_2 13 rfl rfl)
theorem dX10_find_63 : decode cX10_find 63 = .ok (.ireturn, 1) := dk_172 (dk_at dksX10_find_2 16 rfl rfl)
def dkwX10_isClaim_0 : List UInt8 := [42, 27, 3, 42, 180, 1, 213, 4, 100, 184, 0, 210, 4, 182, 0, 214, 172]
abbrev dktX10_isClaim_0 : List UInt8 := dkwX10_isClaim_0 ++ []
theorem dksX10_isClaim_0 : cX10_isClaim.data.toList.drop 0 = dktX10_isClaim_0 := by decide +kernel
theorem dX10_isClaim_0 : decode cX10_isClaim 0 = .ok (.aload_n 0, 1) := dk_42 (dk_at dksX10_isClaim_0 0 rfl rfl)
theorem dX10_isClaim_1 : decode cX10_isClaim 1 = .ok (.iload_n 1, 1) := dk_27 (dk_at dksX10_isClaim_0 1 rfl rfl)
theorem dX10_isClaim_2 : decode cX10_isClaim 2 = .ok (.iconst 0, 1) := dk_3 (dk_at dksX10_isClaim_0 2 rfl rfl)
theorem dX10_isClaim_3 : decode cX10_isClaim 3 = .ok (.aload_n 0, 1) := dk_42 (dk_at dksX10_isClaim_0 3 rfl rfl)
theorem dX10_isClaim_4 : decode cX10_isClaim 4 = .ok (.getfield 469, 3) := dk_180 1 213 (dk_at dksX10_isClaim_0 4 rfl rfl)
theorem dX10_isClaim_7 : decode cX10_isClaim 7 = .ok (.iconst 1, 1) := dk_4 (dk_at dksX10_isClaim_0 7 rfl rfl)
theorem dX10_isClaim_8 : decode cX10_isClaim 8 = .ok (.isub, 1) := dk_100 (dk_at dksX10_isClaim_0 8 rfl rfl)
theorem dX10_isClaim_9 : decode cX10_isClaim 9 = .ok (.invokestatic 210, 3) := dk_184 0 210 (dk_at dksX10_isClaim_0 9 rfl rfl)
theorem dX10_isClaim_12 : decode cX10_isClaim 12 = .ok (.iconst 1, 1) := dk_4 (dk_at dksX10_isClaim_0 12 rfl rfl)
theorem dX10_isClaim_13 : decode cX10_isClaim 13 = .ok (.invokevirtual 214, 3) := dk_182 0 214 (dk_at dksX10_isClaim_0 13 rfl rfl)
theorem dX10_isClaim_16 : decode cX10_isClaim 16 = .ok (.ireturn, 1) := dk_172 (dk_at dksX10_isClaim_0 16 rfl rfl)
def dkwX10_rowsOf_1 : List UInt8 := [167, 0, 4, 3, 96, 61, 132, 3, 1, 167, 255, 227, 28, 172]
abbrev dktX10_rowsOf_1 : List UInt8 := dkwX10_rowsOf_1 ++ []
def dkwX10_rowsOf_0 : List UInt8 := [3, 61, 3, 62, 29, 42, 180, 2, 18, 162, 0, 27, 28, 42, 180, 0, 144, 29, 46, 27, 160, 0, 7, 4]
abbrev dktX10_rowsOf_0 : List UInt8 := dkwX10_rowsOf_0 ++ dktX10_rowsOf_1
theorem dksX10_rowsOf_0 : cX10_rowsOf.data.toList.drop 0 = dktX10_rowsOf_0 := by decide +kernel
theorem dksX10_rowsOf_1 : cX10_rowsOf.data.toList.drop 24 = dktX10_rowsOf_1 := dk_seg dksX10_rowsOf_0 24 rfl rfl
theorem dX10_rowsOf_0 : decode cX10_rowsOf 0 = .ok (.iconst 0, 1) := dk_3 (dk_at dksX10_rowsOf_0 0 rfl rfl)
theorem dX10_rowsOf_1 : decode cX10_rowsOf 1 = .ok (.istore_n 2, 1) := dk_61 (dk_at dksX10_rowsOf_0 1 rfl rfl)
theorem dX10_rowsOf_2 : decode cX10_rowsOf 2 = .ok (.iconst 0, 1) := dk_3 (dk_at dksX10_rowsOf_0 2 rfl rfl)
theorem dX10_rowsOf_3 : decode cX10_rowsOf 3 = .ok (.istore_n 3, 1) := dk_62 (dk_at dksX10_rowsOf_0 3 rfl rfl)
theorem dX10_rowsOf_4 : decode cX10_rowsOf 4 = .ok (.iload_n 3, 1) := dk_29 (dk_at dksX10_rowsOf_0 4 rfl rfl)
theorem dX10_rowsOf_5 : decode cX10_rowsOf 5 = .ok (.aload_n 0, 1) := dk_42 (dk_at dksX10_rowsOf_0 5 rfl rfl)
theorem dX10_rowsOf_6 : decode cX10_rowsOf 6 = .ok (.getfield 530, 3) := dk_180 2 18 (dk_at dksX10_rowsOf_0 6 rfl rfl)
theorem dX10_rowsOf_9 : decode cX10_rowsOf 9 = .ok (.if_icmp .ge 27, 3) := dk_162 0 27 (dk_at dksX10_rowsOf_0 9 rfl rfl)
theorem dX10_rowsOf_12 : decode cX10_rowsOf 12 = .ok (.iload_n 2, 1) := dk_28 (dk_at dksX10_rowsOf_0 12 rfl rfl)
theorem dX10_rowsOf_13 : decode cX10_rowsOf 13 = .ok (.aload_n 0, 1) := dk_42 (dk_at dksX10_rowsOf_0 13 rfl rfl)
theorem dX10_rowsOf_14 : decode cX10_rowsOf 14 = .ok (.getfield 144, 3) := dk_180 0 144 (dk_at dksX10_rowsOf_0 14 rfl rfl)
theorem dX10_rowsOf_17 : decode cX10_rowsOf 17 = .ok (.iload_n 3, 1) := dk_29 (dk_at dksX10_rowsOf_0 17 rfl rfl)
theorem dX10_rowsOf_18 : decode cX10_rowsOf 18 = .ok (.iaload, 1) := dk_46 (dk_at dksX10_rowsOf_0 18 rfl rfl)
theorem dX10_rowsOf_19 : decode cX10_rowsOf 19 = .ok (.iload_n 1, 1) := dk_27 (dk_at dksX10_rowsOf_0 19 rfl rfl)
theorem dX10_rowsOf_20 : decode cX10_rowsOf 20 = .ok (.if_icmp .ne 7, 3) := dk_160 0 7 (dk_at dksX10_rowsOf_0 20 rfl rfl)
theorem dX10_rowsOf_23 : decode cX10_rowsOf 23 = .ok (.iconst 1, 1) := dk_4 (dk_at dksX10_rowsOf_0 23 rfl rfl)
theorem dX10_rowsOf_24 : decode cX10_rowsOf 24 = .ok (.goto 4, 3) := dk_167 0 4 (dk_at dksX10_rowsOf_1 0 rfl rfl)
theorem dX10_rowsOf_27 : decode cX10_rowsOf 27 = .ok (.iconst 0, 1) := dk_3 (dk_at dksX10_rowsOf_1 3 rfl rfl)
theorem dX10_rowsOf_28 : decode cX10_rowsOf 28 = .ok (.iadd, 1) := dk_96 (dk_at dksX10_rowsOf_1 4 rfl rfl)
theorem dX10_rowsOf_29 : decode cX10_rowsOf 29 = .ok (.istore_n 2, 1) := dk_61 (dk_at dksX10_rowsOf_1 5 rfl rfl)
theorem dX10_rowsOf_30 : decode cX10_rowsOf 30 = .ok (.iinc 3 1, 3) := dk_132 3 1 (dk_at dksX10_rowsOf_1 6 rfl rfl)
theorem dX10_rowsOf_33 : decode cX10_rowsOf 33 = .ok (.goto (-29), 3) := dk_167 255 227 (dk_at dksX10_rowsOf_1 9 rfl rfl)
theorem dX10_rowsOf_36 : decode cX10_rowsOf 36 = .ok (.iload_n 2, 1) := dk_28 (dk_at dksX10_rowsOf_1 12 rfl rfl)
theorem dX10_rowsOf_37 : decode cX10_rowsOf 37 = .ok (.ireturn, 1) := dk_172 (dk_at dksX10_rowsOf_1 13 rfl rfl)
def dkwX10_harm_4 : List UInt8 := [21, 5, 172]
abbrev dktX10_harm_4 : List UInt8 := dkwX10_harm_4 ++ []
def dkwX10_harm_3 : List UInt8 := [163, 0, 14, 42, 21, 6, 21, 4, 182, 2, 31, 167, 0, 4, 3, 96, 54, 5, 132, 6, 1, 167, 255, 194]
abbrev dktX10_harm_3 : List UInt8 := dkwX10_harm_3 ++ dktX10_harm_4
def dkwX10_harm_2 : List UInt8 := [160, 0, 36, 42, 180, 0, 122, 21, 6, 46, 28, 161, 0, 25, 42, 180, 0, 122, 21, 6, 46, 29]
abbrev dktX10_harm_2 : List UInt8 := dkwX10_harm_2 ++ dktX10_harm_3
def dkwX10_harm_1 : List UInt8 := [54, 5, 3, 54, 6, 21, 6, 42, 180, 1, 213, 162, 0, 59, 21, 5, 42, 180, 0, 119, 21, 6, 46, 27]
abbrev dktX10_harm_1 : List UInt8 := dkwX10_harm_1 ++ dktX10_harm_2
def dkwX10_harm_0 : List UInt8 := [42, 3, 181, 0, 1, 42, 27, 3, 16, 9, 184, 0, 210, 4, 182, 0, 214, 154, 0, 5, 3, 172, 3]
abbrev dktX10_harm_0 : List UInt8 := dkwX10_harm_0 ++ dktX10_harm_1
theorem dksX10_harm_0 : cX10_harm.data.toList.drop 0 = dktX10_harm_0 := by decide +kernel
theorem dksX10_harm_1 : cX10_harm.data.toList.drop 23 = dktX10_harm_1 := dk_seg dksX10_harm_0 23 rfl rfl
theorem dksX10_harm_2 : cX10_harm.data.toList.drop 47 = dktX10_harm_2 := dk_seg dksX10_harm_1 24 rfl rfl
theorem dksX10_harm_3 : cX10_harm.data.toList.drop 69 = dktX10_harm_3 := dk_seg dksX10_harm_2 22 rfl rfl
theorem dksX10_harm_4 : cX10_harm.data.toList.drop 93 = dktX10_harm_4 := dk_seg dksX10_harm_3 24 rfl rfl
theorem dX10_harm_0 : decode cX10_harm 0 = .ok (.aload_n 0, 1) := dk_42 (dk_at dksX10_harm_0 0 rfl rfl)
theorem dX10_harm_1 : decode cX10_harm 1 = .ok (.iconst 0, 1) := dk_3 (dk_at dksX10_harm_0 1 rfl rfl)
theorem dX10_harm_2 : decode cX10_harm 2 = .ok (.putfield 1, 3) := dk_181 0 1 (dk_at dksX10_harm_0 2 rfl rfl)
theorem dX10_harm_5 : decode cX10_harm 5 = .ok (.aload_n 0, 1) := dk_42 (dk_at dksX10_harm_0 5 rfl rfl)
theorem dX10_harm_6 : decode cX10_harm 6 = .ok (.iload_n 1, 1) := dk_27 (dk_at dksX10_harm_0 6 rfl rfl)
theorem dX10_harm_7 : decode cX10_harm 7 = .ok (.iconst 0, 1) := dk_3 (dk_at dksX10_harm_0 7 rfl rfl)
theorem dX10_harm_8 : decode cX10_harm 8 = .ok (.bipush 9, 2) := dk_16 9 (dk_at dksX10_harm_0 8 rfl rfl)
theorem dX10_harm_10 : decode cX10_harm 10 = .ok (.invokestatic 210, 3) := dk_184 0 210 (dk_at dksX10_harm_0 10 rfl rfl)
theorem dX10_harm_13 : decode cX10_harm 13 = .ok (.iconst 1, 1) := dk_4 (dk_at dksX10_harm_0 13 rfl rfl)
theorem dX10_harm_14 : decode cX10_harm 14 = .ok (.invokevirtual 214, 3) := dk_182 0 214 (dk_at dksX10_harm_0 14 rfl rfl)
theorem dX10_harm_17 : decode cX10_harm 17 = .ok (.ifCond .ne 5, 3) := dk_154 0 5 (dk_at dksX10_harm_0 17 rfl rfl)
theorem dX10_harm_20 : decode cX10_harm 20 = .ok (.iconst 0, 1) := dk_3 (dk_at dksX10_harm_0 20 rfl rfl)
theorem dX10_harm_21 : decode cX10_harm 21 = .ok (.ireturn, 1) := dk_172 (dk_at dksX10_harm_0 21 rfl rfl)
theorem dX10_harm_22 : decode cX10_harm 22 = .ok (.iconst 0, 1) := dk_3 (dk_at dksX10_harm_0 22 rfl rfl)
theorem dX10_harm_23 : decode cX10_harm 23 = .ok (.istore 5, 2) := dk_54 5 (dk_at dksX10_harm_1 0 rfl rfl)
theorem dX10_harm_25 : decode cX10_harm 25 = .ok (.iconst 0, 1) := dk_3 (dk_at dksX10_harm_1 2 rfl rfl)
theorem dX10_harm_26 : decode cX10_harm 26 = .ok (.istore 6, 2) := dk_54 6 (dk_at dksX10_harm_1 3 rfl rfl)
theorem dX10_harm_28 : decode cX10_harm 28 = .ok (.iload 6, 2) := dk_21 6 (dk_at dksX10_harm_1 5 rfl rfl)
theorem dX10_harm_30 : decode cX10_harm 30 = .ok (.aload_n 0, 1) := dk_42 (dk_at dksX10_harm_1 7 rfl rfl)
theorem dX10_harm_31 : decode cX10_harm 31 = .ok (.getfield 469, 3) := dk_180 1 213 (dk_at dksX10_harm_1 8 rfl rfl)
theorem dX10_harm_34 : decode cX10_harm 34 = .ok (.if_icmp .ge 59, 3) := dk_162 0 59 (dk_at dksX10_harm_1 11 rfl rfl)
theorem dX10_harm_37 : decode cX10_harm 37 = .ok (.iload 5, 2) := dk_21 5 (dk_at dksX10_harm_1 14 rfl rfl)
theorem dX10_harm_39 : decode cX10_harm 39 = .ok (.aload_n 0, 1) := dk_42 (dk_at dksX10_harm_1 16 rfl rfl)
theorem dX10_harm_40 : decode cX10_harm 40 = .ok (.getfield 119, 3) := dk_180 0 119 (dk_at dksX10_harm_1 17 rfl rfl)
theorem dX10_harm_43 : decode cX10_harm 43 = .ok (.iload 6, 2) := dk_21 6 (dk_at dksX10_harm_1 20 rfl rfl)
theorem dX10_harm_45 : decode cX10_harm 45 = .ok (.iaload, 1) := dk_46 (dk_at dksX10_harm_1 22 rfl rfl)
theorem dX10_harm_46 : decode cX10_harm 46 = .ok (.iload_n 1, 1) := dk_27 (dk_at dksX10_harm_1 23 rfl rfl)
theorem dX10_harm_47 : decode cX10_harm 47 = .ok (.if_icmp .ne 36, 3) := dk_160 0 36 (dk_at dksX10_harm_2 0 rfl rfl)
theorem dX10_harm_50 : decode cX10_harm 50 = .ok (.aload_n 0, 1) := dk_42 (dk_at dksX10_harm_2 3 rfl rfl)
theorem dX10_harm_51 : decode cX10_harm 51 = .ok (.getfield 122, 3) := dk_180 0 122 (dk_at dksX10_harm_2 4 rfl rfl)
theorem dX10_harm_54 : decode cX10_harm 54 = .ok (.iload 6, 2) := dk_21 6 (dk_at dksX10_harm_2 7 rfl rfl)
theorem dX10_harm_56 : decode cX10_harm 56 = .ok (.iaload, 1) := dk_46 (dk_at dksX10_harm_2 9 rfl rfl)
theorem dX10_harm_57 : decode cX10_harm 57 = .ok (.iload_n 2, 1) := dk_28 (dk_at dksX10_harm_2 10 rfl rfl)
theorem dX10_harm_58 : decode cX10_harm 58 = .ok (.if_icmp .lt 25, 3) := dk_161 0 25 (dk_at dksX10_harm_2 11 rfl rfl)
theorem dX10_harm_61 : decode cX10_harm 61 = .ok (.aload_n 0, 1) := dk_42 (dk_at dksX10_harm_2 14 rfl rfl)
theorem dX10_harm_62 : decode cX10_harm 62 = .ok (.getfield 122, 3) := dk_180 0 122 (dk_at dksX10_harm_2 15 rfl rfl)
theorem dX10_harm_65 : decode cX10_harm 65 = .ok (.iload 6, 2) := dk_21 6 (dk_at dksX10_harm_2 18 rfl rfl)
theorem dX10_harm_67 : decode cX10_harm 67 = .ok (.iaload, 1) := dk_46 (dk_at dksX10_harm_2 20 rfl rfl)
theorem dX10_harm_68 : decode cX10_harm 68 = .ok (.iload_n 3, 1) := dk_29 (dk_at dksX10_harm_2 21 rfl rfl)
theorem dX10_harm_69 : decode cX10_harm 69 = .ok (.if_icmp .gt 14, 3) := dk_163 0 14 (dk_at dksX10_harm_3 0 rfl rfl)
theorem dX10_harm_72 : decode cX10_harm 72 = .ok (.aload_n 0, 1) := dk_42 (dk_at dksX10_harm_3 3 rfl rfl)
theorem dX10_harm_73 : decode cX10_harm 73 = .ok (.iload 6, 2) := dk_21 6 (dk_at dksX10_harm_3 4 rfl rfl)
theorem dX10_harm_75 : decode cX10_harm 75 = .ok (.iload 4, 2) := dk_21 4 (dk_at dksX10_harm_3 6 rfl rfl)
theorem dX10_harm_77 : decode cX10_harm 77 = .ok (.invokevirtual 543, 3) := dk_182 2 31 (dk_at dksX10_harm_3 8 rfl rfl)
theorem dX10_harm_80 : decode cX10_harm 80 = .ok (.goto 4, 3) := dk_167 0 4 (dk_at dksX10_harm_3 11 rfl rfl)
theorem dX10_harm_83 : decode cX10_harm 83 = .ok (.iconst 0, 1) := dk_3 (dk_at dksX10_harm_3 14 rfl rfl)
theorem dX10_harm_84 : decode cX10_harm 84 = .ok (.iadd, 1) := dk_96 (dk_at dksX10_harm_3 15 rfl rfl)
theorem dX10_harm_85 : decode cX10_harm 85 = .ok (.istore 5, 2) := dk_54 5 (dk_at dksX10_harm_3 16 rfl rfl)
theorem dX10_harm_87 : decode cX10_harm 87 = .ok (.iinc 6 1, 3) := dk_132 6 1 (dk_at dksX10_harm_3 18 rfl rfl)
theorem dX10_harm_90 : decode cX10_harm 90 = .ok (.goto (-62), 3) := dk_167 255 194 (dk_at dksX10_harm_3 21 rfl rfl)
theorem dX10_harm_93 : decode cX10_harm 93 = .ok (.iload 5, 2) := dk_21 5 (dk_at dksX10_harm_4 0 rfl rfl)
theorem dX10_harm_95 : decode cX10_harm 95 = .ok (.ireturn, 1) := dk_172 (dk_at dksX10_harm_4 2 rfl rfl)
def dkwX10_latest_2 : List UInt8 := [132, 4, 1, 167, 255, 214, 29, 172]
abbrev dktX10_latest_2 : List UInt8 := dkwX10_latest_2 ++ []
def dkwX10_latest_1 : List UInt8 := [160, 0, 22, 42, 180, 0, 147, 21, 4, 46, 28, 163, 0, 11, 42, 180, 0, 150, 21, 4, 46, 62]
abbrev dktX10_latest_1 : List UInt8 := dkwX10_latest_1 ++ dktX10_latest_2
def dkwX10_latest_0 : List UInt8 := [3, 62, 3, 54, 4, 21, 4, 42, 180, 2, 18, 162, 0, 39, 42, 180, 0, 144, 21, 4, 46, 27]
abbrev dktX10_latest_0 : List UInt8 := dkwX10_latest_0 ++ dktX10_latest_1
theorem dksX10_latest_0 : cX10_latest.data.toList.drop 0 = dktX10_latest_0 := by decide +kernel
theorem dksX10_latest_1 : cX10_latest.data.toList.drop 22 = dktX10_latest_1 := dk_seg dksX10_latest_0 22 rfl rfl
theorem dksX10_latest_2 : cX10_latest.data.toList.drop 44 = dktX10_latest_2 := dk_seg dksX10_latest_1 22 rfl rfl
theorem dX10_latest_0 : decode cX10_latest 0 = .ok (.iconst 0, 1) := dk_3 (dk_at dksX10_latest_0 0 rfl rfl)
theorem dX10_latest_1 : decode cX10_latest 1 = .ok (.istore_n 3, 1) := dk_62 (dk_at dksX10_latest_0 1 rfl rfl)
theorem dX10_latest_2 : decode cX10_latest 2 = .ok (.iconst 0, 1) := dk_3 (dk_at dksX10_latest_0 2 rfl rfl)
theorem dX10_latest_3 : decode cX10_latest 3 = .ok (.istore 4, 2) := dk_54 4 (dk_at dksX10_latest_0 3 rfl rfl)
theorem dX10_latest_5 : decode cX10_latest 5 = .ok (.iload 4, 2) := dk_21 4 (dk_at dksX10_latest_0 5 rfl rfl)
theorem dX10_latest_7 : decode cX10_latest 7 = .ok (.aload_n 0, 1) := dk_42 (dk_at dksX10_latest_0 7 rfl rfl)
theorem dX10_latest_8 : decode cX10_latest 8 = .ok (.getfield 530, 3) := dk_180 2 18 (dk_at dksX10_latest_0 8 rfl rfl)
theorem dX10_latest_11 : decode cX10_latest 11 = .ok (.if_icmp .ge 39, 3) := dk_162 0 39 (dk_at dksX10_latest_0 11 rfl rfl)
theorem dX10_latest_14 : decode cX10_latest 14 = .ok (.aload_n 0, 1) := dk_42 (dk_at dksX10_latest_0 14 rfl rfl)
theorem dX10_latest_15 : decode cX10_latest 15 = .ok (.getfield 144, 3) := dk_180 0 144 (dk_at dksX10_latest_0 15 rfl rfl)
theorem dX10_latest_18 : decode cX10_latest 18 = .ok (.iload 4, 2) := dk_21 4 (dk_at dksX10_latest_0 18 rfl rfl)
theorem dX10_latest_20 : decode cX10_latest 20 = .ok (.iaload, 1) := dk_46 (dk_at dksX10_latest_0 20 rfl rfl)
theorem dX10_latest_21 : decode cX10_latest 21 = .ok (.iload_n 1, 1) := dk_27 (dk_at dksX10_latest_0 21 rfl rfl)
theorem dX10_latest_22 : decode cX10_latest 22 = .ok (.if_icmp .ne 22, 3) := dk_160 0 22 (dk_at dksX10_latest_1 0 rfl rfl)
theorem dX10_latest_25 : decode cX10_latest 25 = .ok (.aload_n 0, 1) := dk_42 (dk_at dksX10_latest_1 3 rfl rfl)
theorem dX10_latest_26 : decode cX10_latest 26 = .ok (.getfield 147, 3) := dk_180 0 147 (dk_at dksX10_latest_1 4 rfl rfl)
theorem dX10_latest_29 : decode cX10_latest 29 = .ok (.iload 4, 2) := dk_21 4 (dk_at dksX10_latest_1 7 rfl rfl)
theorem dX10_latest_31 : decode cX10_latest 31 = .ok (.iaload, 1) := dk_46 (dk_at dksX10_latest_1 9 rfl rfl)
theorem dX10_latest_32 : decode cX10_latest 32 = .ok (.iload_n 2, 1) := dk_28 (dk_at dksX10_latest_1 10 rfl rfl)
theorem dX10_latest_33 : decode cX10_latest 33 = .ok (.if_icmp .gt 11, 3) := dk_163 0 11 (dk_at dksX10_latest_1 11 rfl rfl)
theorem dX10_latest_36 : decode cX10_latest 36 = .ok (.aload_n 0, 1) := dk_42 (dk_at dksX10_latest_1 14 rfl rfl)
theorem dX10_latest_37 : decode cX10_latest 37 = .ok (.getfield 150, 3) := dk_180 0 150 (dk_at dksX10_latest_1 15 rfl rfl)
theorem dX10_latest_40 : decode cX10_latest 40 = .ok (.iload 4, 2) := dk_21 4 (dk_at dksX10_latest_1 18 rfl rfl)
theorem dX10_latest_42 : decode cX10_latest 42 = .ok (.iaload, 1) := dk_46 (dk_at dksX10_latest_1 20 rfl rfl)
theorem dX10_latest_43 : decode cX10_latest 43 = .ok (.istore_n 3, 1) := dk_62 (dk_at dksX10_latest_1 21 rfl rfl)
theorem dX10_latest_44 : decode cX10_latest 44 = .ok (.iinc 4 1, 3) := dk_132 4 1 (dk_at dksX10_latest_2 0 rfl rfl)
theorem dX10_latest_47 : decode cX10_latest 47 = .ok (.goto (-42), 3) := dk_167 255 214 (dk_at dksX10_latest_2 3 rfl rfl)
theorem dX10_latest_50 : decode cX10_latest 50 = .ok (.iload_n 3, 1) := dk_29 (dk_at dksX10_latest_2 6 rfl rfl)
theorem dX10_latest_51 : decode cX10_latest 51 = .ok (.ireturn, 1) := dk_172 (dk_at dksX10_latest_2 7 rfl rfl)
def dkwX10_fund_2 : List UInt8 := [181, 2, 35, 42, 180, 2, 35, 172]
abbrev dktX10_fund_2 : List UInt8 := dkwX10_fund_2 ++ []
def dkwX10_fund_1 : List UInt8 := [42, 180, 2, 35, 19, 1, 122, 27, 100, 164, 0, 9, 19, 1, 122, 167, 0, 9, 42, 180, 2, 35, 27, 96]
abbrev dktX10_fund_1 : List UInt8 := dkwX10_fund_1 ++ dktX10_fund_2
def dkwX10_fund_0 : List UInt8 := [42, 3, 181, 0, 1, 42, 27, 3, 19, 2, 34, 184, 0, 210, 4, 182, 0, 214, 154, 0, 5, 3, 172, 42]
abbrev dktX10_fund_0 : List UInt8 := dkwX10_fund_0 ++ dktX10_fund_1
theorem dksX10_fund_0 : cX10_fund.data.toList.drop 0 = dktX10_fund_0 := by decide +kernel
theorem dksX10_fund_1 : cX10_fund.data.toList.drop 24 = dktX10_fund_1 := dk_seg dksX10_fund_0 24 rfl rfl
theorem dksX10_fund_2 : cX10_fund.data.toList.drop 48 = dktX10_fund_2 := dk_seg dksX10_fund_1 24 rfl rfl
theorem dX10_fund_0 : decode cX10_fund 0 = .ok (.aload_n 0, 1) := dk_42 (dk_at dksX10_fund_0 0 rfl rfl)
theorem dX10_fund_1 : decode cX10_fund 1 = .ok (.iconst 0, 1) := dk_3 (dk_at dksX10_fund_0 1 rfl rfl)
theorem dX10_fund_2 : decode cX10_fund 2 = .ok (.putfield 1, 3) := dk_181 0 1 (dk_at dksX10_fund_0 2 rfl rfl)
theorem dX10_fund_5 : decode cX10_fund 5 = .ok (.aload_n 0, 1) := dk_42 (dk_at dksX10_fund_0 5 rfl rfl)
theorem dX10_fund_6 : decode cX10_fund 6 = .ok (.iload_n 1, 1) := dk_27 (dk_at dksX10_fund_0 6 rfl rfl)
theorem dX10_fund_7 : decode cX10_fund 7 = .ok (.iconst 0, 1) := dk_3 (dk_at dksX10_fund_0 7 rfl rfl)
theorem dX10_fund_8 : decode cX10_fund 8 = .ok (.ldc_w 546, 3) := dk_19 2 34 (dk_at dksX10_fund_0 8 rfl rfl)
theorem dX10_fund_11 : decode cX10_fund 11 = .ok (.invokestatic 210, 3) := dk_184 0 210 (dk_at dksX10_fund_0 11 rfl rfl)
theorem dX10_fund_14 : decode cX10_fund 14 = .ok (.iconst 1, 1) := dk_4 (dk_at dksX10_fund_0 14 rfl rfl)
theorem dX10_fund_15 : decode cX10_fund 15 = .ok (.invokevirtual 214, 3) := dk_182 0 214 (dk_at dksX10_fund_0 15 rfl rfl)
theorem dX10_fund_18 : decode cX10_fund 18 = .ok (.ifCond .ne 5, 3) := dk_154 0 5 (dk_at dksX10_fund_0 18 rfl rfl)
theorem dX10_fund_21 : decode cX10_fund 21 = .ok (.iconst 0, 1) := dk_3 (dk_at dksX10_fund_0 21 rfl rfl)
theorem dX10_fund_22 : decode cX10_fund 22 = .ok (.ireturn, 1) := dk_172 (dk_at dksX10_fund_0 22 rfl rfl)
theorem dX10_fund_23 : decode cX10_fund 23 = .ok (.aload_n 0, 1) := dk_42 (dk_at dksX10_fund_0 23 rfl rfl)
theorem dX10_fund_24 : decode cX10_fund 24 = .ok (.aload_n 0, 1) := dk_42 (dk_at dksX10_fund_1 0 rfl rfl)
theorem dX10_fund_25 : decode cX10_fund 25 = .ok (.getfield 547, 3) := dk_180 2 35 (dk_at dksX10_fund_1 1 rfl rfl)
theorem dX10_fund_28 : decode cX10_fund 28 = .ok (.ldc_w 378, 3) := dk_19 1 122 (dk_at dksX10_fund_1 4 rfl rfl)
theorem dX10_fund_31 : decode cX10_fund 31 = .ok (.iload_n 1, 1) := dk_27 (dk_at dksX10_fund_1 7 rfl rfl)
theorem dX10_fund_32 : decode cX10_fund 32 = .ok (.isub, 1) := dk_100 (dk_at dksX10_fund_1 8 rfl rfl)
theorem dX10_fund_33 : decode cX10_fund 33 = .ok (.if_icmp .le 9, 3) := dk_164 0 9 (dk_at dksX10_fund_1 9 rfl rfl)
theorem dX10_fund_36 : decode cX10_fund 36 = .ok (.ldc_w 378, 3) := dk_19 1 122 (dk_at dksX10_fund_1 12 rfl rfl)
theorem dX10_fund_39 : decode cX10_fund 39 = .ok (.goto 9, 3) := dk_167 0 9 (dk_at dksX10_fund_1 15 rfl rfl)
theorem dX10_fund_42 : decode cX10_fund 42 = .ok (.aload_n 0, 1) := dk_42 (dk_at dksX10_fund_1 18 rfl rfl)
theorem dX10_fund_43 : decode cX10_fund 43 = .ok (.getfield 547, 3) := dk_180 2 35 (dk_at dksX10_fund_1 19 rfl rfl)
theorem dX10_fund_46 : decode cX10_fund 46 = .ok (.iload_n 1, 1) := dk_27 (dk_at dksX10_fund_1 22 rfl rfl)
theorem dX10_fund_47 : decode cX10_fund 47 = .ok (.iadd, 1) := dk_96 (dk_at dksX10_fund_1 23 rfl rfl)
theorem dX10_fund_48 : decode cX10_fund 48 = .ok (.putfield 547, 3) := dk_181 2 35 (dk_at dksX10_fund_2 0 rfl rfl)
theorem dX10_fund_51 : decode cX10_fund 51 = .ok (.aload_n 0, 1) := dk_42 (dk_at dksX10_fund_2 3 rfl rfl)
theorem dX10_fund_52 : decode cX10_fund 52 = .ok (.getfield 547, 3) := dk_180 2 35 (dk_at dksX10_fund_2 4 rfl rfl)
theorem dX10_fund_55 : decode cX10_fund 55 = .ok (.ireturn, 1) := dk_172 (dk_at dksX10_fund_2 7 rfl rfl)
def dkwX10_judge_10 : List UInt8 := [21, 7, 172]
abbrev dktX10_judge_10 : List UInt8 := dkwX10_judge_10 ++ []
def dkwX10_judge_9 : List UInt8 := [21, 7, 54, 7, 42, 180, 0, 125, 27, 21, 7, 79, 42, 89, 180, 2, 35, 21, 7, 100, 181, 2, 35]
abbrev dktX10_judge_9 : List UInt8 := dkwX10_judge_9 ++ dktX10_judge_10
def dkwX10_judge_8 : List UInt8 := [167, 0, 5, 21, 7, 54, 7, 21, 7, 42, 180, 2, 35, 164, 0, 10, 42, 180, 2, 35, 167, 0, 5]
abbrev dktX10_judge_8 : List UInt8 := dkwX10_judge_8 ++ dktX10_judge_9
def dkwX10_judge_7 : List UInt8 := [156, 0, 7, 3, 167, 0, 5, 21, 7, 54, 7, 21, 7, 42, 180, 1, 16, 164, 0, 10, 42, 180, 1, 16]
abbrev dktX10_judge_7 : List UInt8 := dkwX10_judge_7 ++ dktX10_judge_8
def dkwX10_judge_6 : List UInt8 := [16, 30, 108, 16, 12, 112, 42, 180, 1, 168, 42, 180, 0, 122, 27, 46, 100, 182, 2, 45, 54, 7, 21, 7]
abbrev dktX10_judge_6 : List UInt8 := dkwX10_judge_6 ++ dktX10_judge_7
def dkwX10_judge_5 : List UInt8 := [29, 21, 4, 184, 2, 42, 167, 0, 5, 21, 5, 54, 6, 42, 21, 5, 21, 6, 42, 180, 0, 122, 27, 46]
abbrev dktX10_judge_5 : List UInt8 := dkwX10_judge_5 ++ dktX10_judge_6
def dkwX10_judge_4 : List UInt8 := [42, 27, 42, 180, 1, 168, 182, 2, 31, 54, 5, 28, 29, 21, 4, 184, 2, 42, 21, 5, 162, 0, 13, 28]
abbrev dktX10_judge_4 : List UInt8 := dkwX10_judge_4 ++ dktX10_judge_5
def dkwX10_judge_3 : List UInt8 := [159, 0, 5, 2, 172, 42, 180, 1, 168, 42, 180, 0, 122, 27, 46, 16, 10, 96, 164, 0, 6, 16, 254, 172]
abbrev dktX10_judge_3 : List UInt8 := dkwX10_judge_3 ++ dktX10_judge_4
def dkwX10_judge_2 : List UInt8 := [153, 0, 7, 4, 167, 0, 4, 3, 5, 182, 0, 214, 154, 0, 5, 3, 172, 42, 180, 0, 125, 27, 46, 2]
abbrev dktX10_judge_2 : List UInt8 := dkwX10_judge_2 ++ dktX10_judge_3
def dkwX10_judge_1 : List UInt8 := [153, 0, 30, 29, 3, 17, 39, 16, 184, 0, 210, 153, 0, 19, 21, 4, 3, 17, 39, 16, 184, 0, 210]
abbrev dktX10_judge_1 : List UInt8 := dkwX10_judge_1 ++ dktX10_judge_2
def dkwX10_judge_0 : List UInt8 := [42, 3, 181, 0, 1, 42, 27, 182, 2, 21, 153, 0, 50, 42, 28, 3, 17, 39, 16, 184, 0, 210]
abbrev dktX10_judge_0 : List UInt8 := dkwX10_judge_0 ++ dktX10_judge_1
theorem dksX10_judge_0 : cX10_judge.data.toList.drop 0 = dktX10_judge_0 := by decide +kernel
theorem dksX10_judge_1 : cX10_judge.data.toList.drop 22 = dktX10_judge_1 := dk_seg dksX10_judge_0 22 rfl rfl
theorem dksX10_judge_2 : cX10_judge.data.toList.drop 45 = dktX10_judge_2 := dk_seg dksX10_judge_1 23 rfl rfl
theorem dksX10_judge_3 : cX10_judge.data.toList.drop 69 = dktX10_judge_3 := dk_seg dksX10_judge_2 24 rfl rfl
theorem dksX10_judge_4 : cX10_judge.data.toList.drop 93 = dktX10_judge_4 := dk_seg dksX10_judge_3 24 rfl rfl
theorem dksX10_judge_5 : cX10_judge.data.toList.drop 117 = dktX10_judge_5 := dk_seg dksX10_judge_4 24 rfl rfl
theorem dksX10_judge_6 : cX10_judge.data.toList.drop 141 = dktX10_judge_6 := dk_seg dksX10_judge_5 24 rfl rfl
theorem dksX10_judge_7 : cX10_judge.data.toList.drop 165 = dktX10_judge_7 := dk_seg dksX10_judge_6 24 rfl rfl
theorem dksX10_judge_8 : cX10_judge.data.toList.drop 189 = dktX10_judge_8 := dk_seg dksX10_judge_7 24 rfl rfl
theorem dksX10_judge_9 : cX10_judge.data.toList.drop 212 = dktX10_judge_9 := dk_seg dksX10_judge_8 23 rfl rfl
theorem dksX10_judge_10 : cX10_judge.data.toList.drop 235 = dktX10_judge_10 := dk_seg dksX10_judge_9 23 rfl rfl
theorem dX10_judge_0 : decode cX10_judge 0 = .ok (.aload_n 0, 1) := dk_42 (dk_at dksX10_judge_0 0 rfl rfl)
theorem dX10_judge_1 : decode cX10_judge 1 = .ok (.iconst 0, 1) := dk_3 (dk_at dksX10_judge_0 1 rfl rfl)
theorem dX10_judge_2 : decode cX10_judge 2 = .ok (.putfield 1, 3) := dk_181 0 1 (dk_at dksX10_judge_0 2 rfl rfl)
theorem dX10_judge_5 : decode cX10_judge 5 = .ok (.aload_n 0, 1) := dk_42 (dk_at dksX10_judge_0 5 rfl rfl)
theorem dX10_judge_6 : decode cX10_judge 6 = .ok (.iload_n 1, 1) := dk_27 (dk_at dksX10_judge_0 6 rfl rfl)
theorem dX10_judge_7 : decode cX10_judge 7 = .ok (.invokevirtual 533, 3) := dk_182 2 21 (dk_at dksX10_judge_0 7 rfl rfl)
theorem dX10_judge_10 : decode cX10_judge 10 = .ok (.ifCond .eq 50, 3) := dk_153 0 50 (dk_at dksX10_judge_0 10 rfl rfl)
theorem dX10_judge_13 : decode cX10_judge 13 = .ok (.aload_n 0, 1) := dk_42 (dk_at dksX10_judge_0 13 rfl rfl)
theorem dX10_judge_14 : decode cX10_judge 14 = .ok (.iload_n 2, 1) := dk_28 (dk_at dksX10_judge_0 14 rfl rfl)
theorem dX10_judge_15 : decode cX10_judge 15 = .ok (.iconst 0, 1) := dk_3 (dk_at dksX10_judge_0 15 rfl rfl)
theorem dX10_judge_16 : decode cX10_judge 16 = .ok (.sipush 10000, 3) := dk_17 39 16 (dk_at dksX10_judge_0 16 rfl rfl)
theorem dX10_judge_19 : decode cX10_judge 19 = .ok (.invokestatic 210, 3) := dk_184 0 210 (dk_at dksX10_judge_0 19 rfl rfl)
theorem dX10_judge_22 : decode cX10_judge 22 = .ok (.ifCond .eq 30, 3) := dk_153 0 30 (dk_at dksX10_judge_1 0 rfl rfl)
theorem dX10_judge_25 : decode cX10_judge 25 = .ok (.iload_n 3, 1) := dk_29 (dk_at dksX10_judge_1 3 rfl rfl)
theorem dX10_judge_26 : decode cX10_judge 26 = .ok (.iconst 0, 1) := dk_3 (dk_at dksX10_judge_1 4 rfl rfl)
theorem dX10_judge_27 : decode cX10_judge 27 = .ok (.sipush 10000, 3) := dk_17 39 16 (dk_at dksX10_judge_1 5 rfl rfl)
theorem dX10_judge_30 : decode cX10_judge 30 = .ok (.invokestatic 210, 3) := dk_184 0 210 (dk_at dksX10_judge_1 8 rfl rfl)
theorem dX10_judge_33 : decode cX10_judge 33 = .ok (.ifCond .eq 19, 3) := dk_153 0 19 (dk_at dksX10_judge_1 11 rfl rfl)
theorem dX10_judge_36 : decode cX10_judge 36 = .ok (.iload 4, 2) := dk_21 4 (dk_at dksX10_judge_1 14 rfl rfl)
theorem dX10_judge_38 : decode cX10_judge 38 = .ok (.iconst 0, 1) := dk_3 (dk_at dksX10_judge_1 16 rfl rfl)
theorem dX10_judge_39 : decode cX10_judge 39 = .ok (.sipush 10000, 3) := dk_17 39 16 (dk_at dksX10_judge_1 17 rfl rfl)
theorem dX10_judge_42 : decode cX10_judge 42 = .ok (.invokestatic 210, 3) := dk_184 0 210 (dk_at dksX10_judge_1 20 rfl rfl)
theorem dX10_judge_45 : decode cX10_judge 45 = .ok (.ifCond .eq 7, 3) := dk_153 0 7 (dk_at dksX10_judge_2 0 rfl rfl)
theorem dX10_judge_48 : decode cX10_judge 48 = .ok (.iconst 1, 1) := dk_4 (dk_at dksX10_judge_2 3 rfl rfl)
theorem dX10_judge_49 : decode cX10_judge 49 = .ok (.goto 4, 3) := dk_167 0 4 (dk_at dksX10_judge_2 4 rfl rfl)
theorem dX10_judge_52 : decode cX10_judge 52 = .ok (.iconst 0, 1) := dk_3 (dk_at dksX10_judge_2 7 rfl rfl)
theorem dX10_judge_53 : decode cX10_judge 53 = .ok (.iconst 2, 1) := dk_5 (dk_at dksX10_judge_2 8 rfl rfl)
theorem dX10_judge_54 : decode cX10_judge 54 = .ok (.invokevirtual 214, 3) := dk_182 0 214 (dk_at dksX10_judge_2 9 rfl rfl)
theorem dX10_judge_57 : decode cX10_judge 57 = .ok (.ifCond .ne 5, 3) := dk_154 0 5 (dk_at dksX10_judge_2 12 rfl rfl)
theorem dX10_judge_60 : decode cX10_judge 60 = .ok (.iconst 0, 1) := dk_3 (dk_at dksX10_judge_2 15 rfl rfl)
theorem dX10_judge_61 : decode cX10_judge 61 = .ok (.ireturn, 1) := dk_172 (dk_at dksX10_judge_2 16 rfl rfl)
theorem dX10_judge_62 : decode cX10_judge 62 = .ok (.aload_n 0, 1) := dk_42 (dk_at dksX10_judge_2 17 rfl rfl)
theorem dX10_judge_63 : decode cX10_judge 63 = .ok (.getfield 125, 3) := dk_180 0 125 (dk_at dksX10_judge_2 18 rfl rfl)
theorem dX10_judge_66 : decode cX10_judge 66 = .ok (.iload_n 1, 1) := dk_27 (dk_at dksX10_judge_2 21 rfl rfl)
theorem dX10_judge_67 : decode cX10_judge 67 = .ok (.iaload, 1) := dk_46 (dk_at dksX10_judge_2 22 rfl rfl)
theorem dX10_judge_68 : decode cX10_judge 68 = .ok (.iconst (-1), 1) := dk_2 (dk_at dksX10_judge_2 23 rfl rfl)
theorem dX10_judge_69 : decode cX10_judge 69 = .ok (.if_icmp .eq 5, 3) := dk_159 0 5 (dk_at dksX10_judge_3 0 rfl rfl)
theorem dX10_judge_72 : decode cX10_judge 72 = .ok (.iconst (-1), 1) := dk_2 (dk_at dksX10_judge_3 3 rfl rfl)
theorem dX10_judge_73 : decode cX10_judge 73 = .ok (.ireturn, 1) := dk_172 (dk_at dksX10_judge_3 4 rfl rfl)
theorem dX10_judge_74 : decode cX10_judge 74 = .ok (.aload_n 0, 1) := dk_42 (dk_at dksX10_judge_3 5 rfl rfl)
theorem dX10_judge_75 : decode cX10_judge 75 = .ok (.getfield 424, 3) := dk_180 1 168 (dk_at dksX10_judge_3 6 rfl rfl)
theorem dX10_judge_78 : decode cX10_judge 78 = .ok (.aload_n 0, 1) := dk_42 (dk_at dksX10_judge_3 9 rfl rfl)
theorem dX10_judge_79 : decode cX10_judge 79 = .ok (.getfield 122, 3) := dk_180 0 122 (dk_at dksX10_judge_3 10 rfl rfl)
theorem dX10_judge_82 : decode cX10_judge 82 = .ok (.iload_n 1, 1) := dk_27 (dk_at dksX10_judge_3 13 rfl rfl)
theorem dX10_judge_83 : decode cX10_judge 83 = .ok (.iaload, 1) := dk_46 (dk_at dksX10_judge_3 14 rfl rfl)
theorem dX10_judge_84 : decode cX10_judge 84 = .ok (.bipush 10, 2) := dk_16 10 (dk_at dksX10_judge_3 15 rfl rfl)
theorem dX10_judge_86 : decode cX10_judge 86 = .ok (.iadd, 1) := dk_96 (dk_at dksX10_judge_3 17 rfl rfl)
theorem dX10_judge_87 : decode cX10_judge 87 = .ok (.if_icmp .le 6, 3) := dk_164 0 6 (dk_at dksX10_judge_3 18 rfl rfl)
theorem dX10_judge_90 : decode cX10_judge 90 = .ok (.bipush (-2), 2) := dk_16 254 (dk_at dksX10_judge_3 21 rfl rfl)
theorem dX10_judge_92 : decode cX10_judge 92 = .ok (.ireturn, 1) := dk_172 (dk_at dksX10_judge_3 23 rfl rfl)
theorem dX10_judge_93 : decode cX10_judge 93 = .ok (.aload_n 0, 1) := dk_42 (dk_at dksX10_judge_4 0 rfl rfl)
theorem dX10_judge_94 : decode cX10_judge 94 = .ok (.iload_n 1, 1) := dk_27 (dk_at dksX10_judge_4 1 rfl rfl)
theorem dX10_judge_95 : decode cX10_judge 95 = .ok (.aload_n 0, 1) := dk_42 (dk_at dksX10_judge_4 2 rfl rfl)
theorem dX10_judge_96 : decode cX10_judge 96 = .ok (.getfield 424, 3) := dk_180 1 168 (dk_at dksX10_judge_4 3 rfl rfl)
theorem dX10_judge_99 : decode cX10_judge 99 = .ok (.invokevirtual 543, 3) := dk_182 2 31 (dk_at dksX10_judge_4 6 rfl rfl)
theorem dX10_judge_102 : decode cX10_judge 102 = .ok (.istore 5, 2) := dk_54 5 (dk_at dksX10_judge_4 9 rfl rfl)
theorem dX10_judge_104 : decode cX10_judge 104 = .ok (.iload_n 2, 1) := dk_28 (dk_at dksX10_judge_4 11 rfl rfl)
theorem dX10_judge_105 : decode cX10_judge 105 = .ok (.iload_n 3, 1) := dk_29 (dk_at dksX10_judge_4 12 rfl rfl)
theorem dX10_judge_106 : decode cX10_judge 106 = .ok (.iload 4, 2) := dk_21 4 (dk_at dksX10_judge_4 13 rfl rfl)
theorem dX10_judge_108 : decode cX10_judge 108 = .ok (.invokestatic 554, 3) := dk_184 2 42 (dk_at dksX10_judge_4 15 rfl rfl)
theorem dX10_judge_111 : decode cX10_judge 111 = .ok (.iload 5, 2) := dk_21 5 (dk_at dksX10_judge_4 18 rfl rfl)
theorem dX10_judge_113 : decode cX10_judge 113 = .ok (.if_icmp .ge 13, 3) := dk_162 0 13 (dk_at dksX10_judge_4 20 rfl rfl)
theorem dX10_judge_116 : decode cX10_judge 116 = .ok (.iload_n 2, 1) := dk_28 (dk_at dksX10_judge_4 23 rfl rfl)
theorem dX10_judge_117 : decode cX10_judge 117 = .ok (.iload_n 3, 1) := dk_29 (dk_at dksX10_judge_5 0 rfl rfl)
theorem dX10_judge_118 : decode cX10_judge 118 = .ok (.iload 4, 2) := dk_21 4 (dk_at dksX10_judge_5 1 rfl rfl)
theorem dX10_judge_120 : decode cX10_judge 120 = .ok (.invokestatic 554, 3) := dk_184 2 42 (dk_at dksX10_judge_5 3 rfl rfl)
theorem dX10_judge_123 : decode cX10_judge 123 = .ok (.goto 5, 3) := dk_167 0 5 (dk_at dksX10_judge_5 6 rfl rfl)
theorem dX10_judge_126 : decode cX10_judge 126 = .ok (.iload 5, 2) := dk_21 5 (dk_at dksX10_judge_5 9 rfl rfl)
theorem dX10_judge_128 : decode cX10_judge 128 = .ok (.istore 6, 2) := dk_54 6 (dk_at dksX10_judge_5 11 rfl rfl)
theorem dX10_judge_130 : decode cX10_judge 130 = .ok (.aload_n 0, 1) := dk_42 (dk_at dksX10_judge_5 13 rfl rfl)
theorem dX10_judge_131 : decode cX10_judge 131 = .ok (.iload 5, 2) := dk_21 5 (dk_at dksX10_judge_5 14 rfl rfl)
theorem dX10_judge_133 : decode cX10_judge 133 = .ok (.iload 6, 2) := dk_21 6 (dk_at dksX10_judge_5 16 rfl rfl)
theorem dX10_judge_135 : decode cX10_judge 135 = .ok (.aload_n 0, 1) := dk_42 (dk_at dksX10_judge_5 18 rfl rfl)
theorem dX10_judge_136 : decode cX10_judge 136 = .ok (.getfield 122, 3) := dk_180 0 122 (dk_at dksX10_judge_5 19 rfl rfl)
theorem dX10_judge_139 : decode cX10_judge 139 = .ok (.iload_n 1, 1) := dk_27 (dk_at dksX10_judge_5 22 rfl rfl)
theorem dX10_judge_140 : decode cX10_judge 140 = .ok (.iaload, 1) := dk_46 (dk_at dksX10_judge_5 23 rfl rfl)
theorem dX10_judge_141 : decode cX10_judge 141 = .ok (.bipush 30, 2) := dk_16 30 (dk_at dksX10_judge_6 0 rfl rfl)
theorem dX10_judge_143 : decode cX10_judge 143 = .ok (.idiv, 1) := dk_108 (dk_at dksX10_judge_6 2 rfl rfl)
theorem dX10_judge_144 : decode cX10_judge 144 = .ok (.bipush 12, 2) := dk_16 12 (dk_at dksX10_judge_6 3 rfl rfl)
theorem dX10_judge_146 : decode cX10_judge 146 = .ok (.irem, 1) := dk_112 (dk_at dksX10_judge_6 5 rfl rfl)
theorem dX10_judge_147 : decode cX10_judge 147 = .ok (.aload_n 0, 1) := dk_42 (dk_at dksX10_judge_6 6 rfl rfl)
theorem dX10_judge_148 : decode cX10_judge 148 = .ok (.getfield 424, 3) := dk_180 1 168 (dk_at dksX10_judge_6 7 rfl rfl)
theorem dX10_judge_151 : decode cX10_judge 151 = .ok (.aload_n 0, 1) := dk_42 (dk_at dksX10_judge_6 10 rfl rfl)
theorem dX10_judge_152 : decode cX10_judge 152 = .ok (.getfield 122, 3) := dk_180 0 122 (dk_at dksX10_judge_6 11 rfl rfl)
theorem dX10_judge_155 : decode cX10_judge 155 = .ok (.iload_n 1, 1) := dk_27 (dk_at dksX10_judge_6 14 rfl rfl)
theorem dX10_judge_156 : decode cX10_judge 156 = .ok (.iaload, 1) := dk_46 (dk_at dksX10_judge_6 15 rfl rfl)
theorem dX10_judge_157 : decode cX10_judge 157 = .ok (.isub, 1) := dk_100 (dk_at dksX10_judge_6 16 rfl rfl)
theorem dX10_judge_158 : decode cX10_judge 158 = .ok (.invokevirtual 557, 3) := dk_182 2 45 (dk_at dksX10_judge_6 17 rfl rfl)
theorem dX10_judge_161 : decode cX10_judge 161 = .ok (.istore 7, 2) := dk_54 7 (dk_at dksX10_judge_6 20 rfl rfl)
theorem dX10_judge_163 : decode cX10_judge 163 = .ok (.iload 7, 2) := dk_21 7 (dk_at dksX10_judge_6 22 rfl rfl)
theorem dX10_judge_165 : decode cX10_judge 165 = .ok (.ifCond .ge 7, 3) := dk_156 0 7 (dk_at dksX10_judge_7 0 rfl rfl)
theorem dX10_judge_168 : decode cX10_judge 168 = .ok (.iconst 0, 1) := dk_3 (dk_at dksX10_judge_7 3 rfl rfl)
theorem dX10_judge_169 : decode cX10_judge 169 = .ok (.goto 5, 3) := dk_167 0 5 (dk_at dksX10_judge_7 4 rfl rfl)
theorem dX10_judge_172 : decode cX10_judge 172 = .ok (.iload 7, 2) := dk_21 7 (dk_at dksX10_judge_7 7 rfl rfl)
theorem dX10_judge_174 : decode cX10_judge 174 = .ok (.istore 7, 2) := dk_54 7 (dk_at dksX10_judge_7 9 rfl rfl)
theorem dX10_judge_176 : decode cX10_judge 176 = .ok (.iload 7, 2) := dk_21 7 (dk_at dksX10_judge_7 11 rfl rfl)
theorem dX10_judge_178 : decode cX10_judge 178 = .ok (.aload_n 0, 1) := dk_42 (dk_at dksX10_judge_7 13 rfl rfl)
theorem dX10_judge_179 : decode cX10_judge 179 = .ok (.getfield 272, 3) := dk_180 1 16 (dk_at dksX10_judge_7 14 rfl rfl)
theorem dX10_judge_182 : decode cX10_judge 182 = .ok (.if_icmp .le 10, 3) := dk_164 0 10 (dk_at dksX10_judge_7 17 rfl rfl)
theorem dX10_judge_185 : decode cX10_judge 185 = .ok (.aload_n 0, 1) := dk_42 (dk_at dksX10_judge_7 20 rfl rfl)
theorem dX10_judge_186 : decode cX10_judge 186 = .ok (.getfield 272, 3) := dk_180 1 16 (dk_at dksX10_judge_7 21 rfl rfl)
theorem dX10_judge_189 : decode cX10_judge 189 = .ok (.goto 5, 3) := dk_167 0 5 (dk_at dksX10_judge_8 0 rfl rfl)
theorem dX10_judge_192 : decode cX10_judge 192 = .ok (.iload 7, 2) := dk_21 7 (dk_at dksX10_judge_8 3 rfl rfl)
theorem dX10_judge_194 : decode cX10_judge 194 = .ok (.istore 7, 2) := dk_54 7 (dk_at dksX10_judge_8 5 rfl rfl)
theorem dX10_judge_196 : decode cX10_judge 196 = .ok (.iload 7, 2) := dk_21 7 (dk_at dksX10_judge_8 7 rfl rfl)
theorem dX10_judge_198 : decode cX10_judge 198 = .ok (.aload_n 0, 1) := dk_42 (dk_at dksX10_judge_8 9 rfl rfl)
theorem dX10_judge_199 : decode cX10_judge 199 = .ok (.getfield 547, 3) := dk_180 2 35 (dk_at dksX10_judge_8 10 rfl rfl)
theorem dX10_judge_202 : decode cX10_judge 202 = .ok (.if_icmp .le 10, 3) := dk_164 0 10 (dk_at dksX10_judge_8 13 rfl rfl)
theorem dX10_judge_205 : decode cX10_judge 205 = .ok (.aload_n 0, 1) := dk_42 (dk_at dksX10_judge_8 16 rfl rfl)
theorem dX10_judge_206 : decode cX10_judge 206 = .ok (.getfield 547, 3) := dk_180 2 35 (dk_at dksX10_judge_8 17 rfl rfl)
theorem dX10_judge_209 : decode cX10_judge 209 = .ok (.goto 5, 3) := dk_167 0 5 (dk_at dksX10_judge_8 20 rfl rfl)
theorem dX10_judge_212 : decode cX10_judge 212 = .ok (.iload 7, 2) := dk_21 7 (dk_at dksX10_judge_9 0 rfl rfl)
theorem dX10_judge_214 : decode cX10_judge 214 = .ok (.istore 7, 2) := dk_54 7 (dk_at dksX10_judge_9 2 rfl rfl)
theorem dX10_judge_216 : decode cX10_judge 216 = .ok (.aload_n 0, 1) := dk_42 (dk_at dksX10_judge_9 4 rfl rfl)
theorem dX10_judge_217 : decode cX10_judge 217 = .ok (.getfield 125, 3) := dk_180 0 125 (dk_at dksX10_judge_9 5 rfl rfl)
theorem dX10_judge_220 : decode cX10_judge 220 = .ok (.iload_n 1, 1) := dk_27 (dk_at dksX10_judge_9 8 rfl rfl)
theorem dX10_judge_221 : decode cX10_judge 221 = .ok (.iload 7, 2) := dk_21 7 (dk_at dksX10_judge_9 9 rfl rfl)
theorem dX10_judge_223 : decode cX10_judge 223 = .ok (.iastore, 1) := dk_79 (dk_at dksX10_judge_9 11 rfl rfl)
theorem dX10_judge_224 : decode cX10_judge 224 = .ok (.aload_n 0, 1) := dk_42 (dk_at dksX10_judge_9 12 rfl rfl)
theorem dX10_judge_225 : decode cX10_judge 225 = .ok (.dup, 1) := dk_89 (dk_at dksX10_judge_9 13 rfl rfl)
theorem dX10_judge_226 : decode cX10_judge 226 = .ok (.getfield 547, 3) := dk_180 2 35 (dk_at dksX10_judge_9 14 rfl rfl)
theorem dX10_judge_229 : decode cX10_judge 229 = .ok (.iload 7, 2) := dk_21 7 (dk_at dksX10_judge_9 17 rfl rfl)
theorem dX10_judge_231 : decode cX10_judge 231 = .ok (.isub, 1) := dk_100 (dk_at dksX10_judge_9 19 rfl rfl)
theorem dX10_judge_232 : decode cX10_judge 232 = .ok (.putfield 547, 3) := dk_181 2 35 (dk_at dksX10_judge_9 20 rfl rfl)
theorem dX10_judge_235 : decode cX10_judge 235 = .ok (.iload 7, 2) := dk_21 7 (dk_at dksX10_judge_10 0 rfl rfl)
theorem dX10_judge_237 : decode cX10_judge 237 = .ok (.ireturn, 1) := dk_172 (dk_at dksX10_judge_10 2 rfl rfl)
def dkwX10_middle_1 : List UInt8 := [29, 162, 0, 7, 29, 167, 0, 15, 28, 21, 4, 164, 0, 8, 21, 4, 167, 0, 4, 28, 172]
abbrev dktX10_middle_1 : List UInt8 := dkwX10_middle_1 ++ []
def dkwX10_middle_0 : List UInt8 := [26, 27, 162, 0, 7, 26, 167, 0, 4, 27, 62, 26, 27, 162, 0, 7, 27, 167, 0, 4, 26, 54, 4, 28]
abbrev dktX10_middle_0 : List UInt8 := dkwX10_middle_0 ++ dktX10_middle_1
theorem dksX10_middle_0 : cX10_middle.data.toList.drop 0 = dktX10_middle_0 := by decide +kernel
theorem dksX10_middle_1 : cX10_middle.data.toList.drop 24 = dktX10_middle_1 := dk_seg dksX10_middle_0 24 rfl rfl
theorem dX10_middle_0 : decode cX10_middle 0 = .ok (.iload_n 0, 1) := dk_26 (dk_at dksX10_middle_0 0 rfl rfl)
theorem dX10_middle_1 : decode cX10_middle 1 = .ok (.iload_n 1, 1) := dk_27 (dk_at dksX10_middle_0 1 rfl rfl)
theorem dX10_middle_2 : decode cX10_middle 2 = .ok (.if_icmp .ge 7, 3) := dk_162 0 7 (dk_at dksX10_middle_0 2 rfl rfl)
theorem dX10_middle_5 : decode cX10_middle 5 = .ok (.iload_n 0, 1) := dk_26 (dk_at dksX10_middle_0 5 rfl rfl)
theorem dX10_middle_6 : decode cX10_middle 6 = .ok (.goto 4, 3) := dk_167 0 4 (dk_at dksX10_middle_0 6 rfl rfl)
theorem dX10_middle_9 : decode cX10_middle 9 = .ok (.iload_n 1, 1) := dk_27 (dk_at dksX10_middle_0 9 rfl rfl)
theorem dX10_middle_10 : decode cX10_middle 10 = .ok (.istore_n 3, 1) := dk_62 (dk_at dksX10_middle_0 10 rfl rfl)
theorem dX10_middle_11 : decode cX10_middle 11 = .ok (.iload_n 0, 1) := dk_26 (dk_at dksX10_middle_0 11 rfl rfl)
theorem dX10_middle_12 : decode cX10_middle 12 = .ok (.iload_n 1, 1) := dk_27 (dk_at dksX10_middle_0 12 rfl rfl)
theorem dX10_middle_13 : decode cX10_middle 13 = .ok (.if_icmp .ge 7, 3) := dk_162 0 7 (dk_at dksX10_middle_0 13 rfl rfl)
theorem dX10_middle_16 : decode cX10_middle 16 = .ok (.iload_n 1, 1) := dk_27 (dk_at dksX10_middle_0 16 rfl rfl)
theorem dX10_middle_17 : decode cX10_middle 17 = .ok (.goto 4, 3) := dk_167 0 4 (dk_at dksX10_middle_0 17 rfl rfl)
theorem dX10_middle_20 : decode cX10_middle 20 = .ok (.iload_n 0, 1) := dk_26 (dk_at dksX10_middle_0 20 rfl rfl)
theorem dX10_middle_21 : decode cX10_middle 21 = .ok (.istore 4, 2) := dk_54 4 (dk_at dksX10_middle_0 21 rfl rfl)
theorem dX10_middle_23 : decode cX10_middle 23 = .ok (.iload_n 2, 1) := dk_28 (dk_at dksX10_middle_0 23 rfl rfl)
theorem dX10_middle_24 : decode cX10_middle 24 = .ok (.iload_n 3, 1) := dk_29 (dk_at dksX10_middle_1 0 rfl rfl)
theorem dX10_middle_25 : decode cX10_middle 25 = .ok (.if_icmp .ge 7, 3) := dk_162 0 7 (dk_at dksX10_middle_1 1 rfl rfl)
theorem dX10_middle_28 : decode cX10_middle 28 = .ok (.iload_n 3, 1) := dk_29 (dk_at dksX10_middle_1 4 rfl rfl)
theorem dX10_middle_29 : decode cX10_middle 29 = .ok (.goto 15, 3) := dk_167 0 15 (dk_at dksX10_middle_1 5 rfl rfl)
theorem dX10_middle_32 : decode cX10_middle 32 = .ok (.iload_n 2, 1) := dk_28 (dk_at dksX10_middle_1 8 rfl rfl)
theorem dX10_middle_33 : decode cX10_middle 33 = .ok (.iload 4, 2) := dk_21 4 (dk_at dksX10_middle_1 9 rfl rfl)
theorem dX10_middle_35 : decode cX10_middle 35 = .ok (.if_icmp .le 8, 3) := dk_164 0 8 (dk_at dksX10_middle_1 11 rfl rfl)
theorem dX10_middle_38 : decode cX10_middle 38 = .ok (.iload 4, 2) := dk_21 4 (dk_at dksX10_middle_1 14 rfl rfl)
theorem dX10_middle_40 : decode cX10_middle 40 = .ok (.goto 4, 3) := dk_167 0 4 (dk_at dksX10_middle_1 16 rfl rfl)
theorem dX10_middle_43 : decode cX10_middle 43 = .ok (.iload_n 2, 1) := dk_28 (dk_at dksX10_middle_1 19 rfl rfl)
theorem dX10_middle_44 : decode cX10_middle 44 = .ok (.ireturn, 1) := dk_172 (dk_at dksX10_middle_1 20 rfl rfl)
def dkwX10_worked_11 : List UInt8 := [21, 7, 21, 8, 21, 9, 184, 2, 38, 79, 132, 6, 1, 167, 254, 245, 42, 180, 0, 153, 3, 46, 172]
abbrev dktX10_worked_11 : List UInt8 := dkwX10_worked_11 ++ []
def dkwX10_worked_10 : List UInt8 := [21, 5, 4, 100, 46, 54, 8, 42, 180, 0, 153, 21, 5, 46, 54, 9, 42, 180, 0, 153, 21, 5, 4, 100]
abbrev dktX10_worked_10 : List UInt8 := dkwX10_worked_10 ++ dktX10_worked_11
def dkwX10_worked_9 : List UInt8 := [46, 167, 0, 12, 42, 180, 0, 153, 21, 5, 5, 96, 46, 79, 167, 0, 44, 132, 5, 255, 42, 180, 0, 153]
abbrev dktX10_worked_9 : List UInt8 := dkwX10_worked_9 ++ dktX10_worked_10
def dkwX10_worked_8 : List UInt8 := [3, 54, 10, 42, 180, 0, 153, 21, 5, 4, 100, 21, 10, 153, 0, 15, 42, 180, 0, 153, 21, 5, 4, 96]
abbrev dktX10_worked_8 : List UInt8 := dkwX10_worked_8 ++ dktX10_worked_9
def dkwX10_worked_7 : List UInt8 := [21, 9, 164, 0, 7, 4, 167, 0, 19, 3, 167, 0, 15, 21, 8, 21, 9, 160, 0, 7, 4, 167, 0, 4]
abbrev dktX10_worked_7 : List UInt8 := dkwX10_worked_7 ++ dktX10_worked_8
def dkwX10_worked_6 : List UInt8 := [21, 8, 21, 9, 162, 0, 7, 4, 167, 0, 41, 3, 167, 0, 37, 21, 7, 16, 13, 160, 0, 18, 21, 8]
abbrev dktX10_worked_6 : List UInt8 := dkwX10_worked_6 ++ dktX10_worked_7
def dkwX10_worked_5 : List UInt8 := [21, 5, 4, 100, 46, 54, 8, 42, 180, 0, 153, 21, 5, 46, 54, 9, 21, 7, 16, 12, 160, 0, 18]
abbrev dktX10_worked_5 : List UInt8 := dkwX10_worked_5 ++ dktX10_worked_6
def dkwX10_worked_4 : List UInt8 := [21, 4, 79, 132, 5, 1, 167, 0, 170, 21, 7, 16, 12, 161, 0, 122, 132, 5, 253, 42, 180, 0, 153]
abbrev dktX10_worked_4 : List UInt8 := dkwX10_worked_4 ++ dktX10_worked_5
def dkwX10_worked_3 : List UInt8 := [21, 7, 6, 160, 0, 7, 29, 167, 0, 18, 21, 7, 7, 160, 0, 10, 42, 180, 2, 35, 167, 0, 5]
abbrev dktX10_worked_3 : List UInt8 := dkwX10_worked_3 ++ dktX10_worked_4
def dkwX10_worked_2 : List UInt8 := [167, 0, 48, 21, 7, 4, 160, 0, 7, 27, 167, 0, 38, 21, 7, 5, 160, 0, 7, 28, 167, 0, 28]
abbrev dktX10_worked_2 : List UInt8 := dkwX10_worked_2 ++ dktX10_worked_3
def dkwX10_worked_1 : List UInt8 := [21, 7, 8, 163, 0, 76, 42, 180, 0, 153, 21, 5, 21, 7, 154, 0, 13, 42, 180, 0, 50, 21, 6, 46]
abbrev dktX10_worked_1 : List UInt8 := dkwX10_worked_1 ++ dktX10_worked_2
def dkwX10_worked_0 : List UInt8 := [3, 54, 5, 3, 54, 6, 21, 6, 42, 180, 1, 19, 162, 1, 8, 42, 180, 0, 47, 21, 6, 46, 54, 7]
abbrev dktX10_worked_0 : List UInt8 := dkwX10_worked_0 ++ dktX10_worked_1
theorem dksX10_worked_0 : cX10_worked.data.toList.drop 0 = dktX10_worked_0 := by decide +kernel
theorem dksX10_worked_1 : cX10_worked.data.toList.drop 24 = dktX10_worked_1 := dk_seg dksX10_worked_0 24 rfl rfl
theorem dksX10_worked_2 : cX10_worked.data.toList.drop 48 = dktX10_worked_2 := dk_seg dksX10_worked_1 24 rfl rfl
theorem dksX10_worked_3 : cX10_worked.data.toList.drop 71 = dktX10_worked_3 := dk_seg dksX10_worked_2 23 rfl rfl
theorem dksX10_worked_4 : cX10_worked.data.toList.drop 94 = dktX10_worked_4 := dk_seg dksX10_worked_3 23 rfl rfl
theorem dksX10_worked_5 : cX10_worked.data.toList.drop 117 = dktX10_worked_5 := dk_seg dksX10_worked_4 23 rfl rfl
theorem dksX10_worked_6 : cX10_worked.data.toList.drop 140 = dktX10_worked_6 := dk_seg dksX10_worked_5 23 rfl rfl
theorem dksX10_worked_7 : cX10_worked.data.toList.drop 164 = dktX10_worked_7 := dk_seg dksX10_worked_6 24 rfl rfl
theorem dksX10_worked_8 : cX10_worked.data.toList.drop 188 = dktX10_worked_8 := dk_seg dksX10_worked_7 24 rfl rfl
theorem dksX10_worked_9 : cX10_worked.data.toList.drop 212 = dktX10_worked_9 := dk_seg dksX10_worked_8 24 rfl rfl
theorem dksX10_worked_10 : cX10_worked.data.toList.drop 236 = dktX10_worked_10 := dk_seg dksX10_worked_9 24 rfl rfl
theorem dksX10_worked_11 : cX10_worked.data.toList.drop 260 = dktX10_worked_11 := dk_seg dksX10_worked_10 24 rfl rfl
theorem dX10_worked_0 : decode cX10_worked 0 = .ok (.iconst 0, 1) := dk_3 (dk_at dksX10_worked_0 0 rfl rfl)
theorem dX10_worked_1 : decode cX10_worked 1 = .ok (.istore 5, 2) := dk_54 5 (dk_at dksX10_worked_0 1 rfl rfl)
theorem dX10_worked_3 : decode cX10_worked 3 = .ok (.iconst 0, 1) := dk_3 (dk_at dksX10_worked_0 3 rfl rfl)
theorem dX10_worked_4 : decode cX10_worked 4 = .ok (.istore 6, 2) := dk_54 6 (dk_at dksX10_worked_0 4 rfl rfl)
theorem dX10_worked_6 : decode cX10_worked 6 = .ok (.iload 6, 2) := dk_21 6 (dk_at dksX10_worked_0 6 rfl rfl)
theorem dX10_worked_8 : decode cX10_worked 8 = .ok (.aload_n 0, 1) := dk_42 (dk_at dksX10_worked_0 8 rfl rfl)
theorem dX10_worked_9 : decode cX10_worked 9 = .ok (.getfield 275, 3) := dk_180 1 19 (dk_at dksX10_worked_0 9 rfl rfl)
theorem dX10_worked_12 : decode cX10_worked 12 = .ok (.if_icmp .ge 264, 3) := dk_162 1 8 (dk_at dksX10_worked_0 12 rfl rfl)
theorem dX10_worked_15 : decode cX10_worked 15 = .ok (.aload_n 0, 1) := dk_42 (dk_at dksX10_worked_0 15 rfl rfl)
theorem dX10_worked_16 : decode cX10_worked 16 = .ok (.getfield 47, 3) := dk_180 0 47 (dk_at dksX10_worked_0 16 rfl rfl)
theorem dX10_worked_19 : decode cX10_worked 19 = .ok (.iload 6, 2) := dk_21 6 (dk_at dksX10_worked_0 19 rfl rfl)
theorem dX10_worked_21 : decode cX10_worked 21 = .ok (.iaload, 1) := dk_46 (dk_at dksX10_worked_0 21 rfl rfl)
theorem dX10_worked_22 : decode cX10_worked 22 = .ok (.istore 7, 2) := dk_54 7 (dk_at dksX10_worked_0 22 rfl rfl)
theorem dX10_worked_24 : decode cX10_worked 24 = .ok (.iload 7, 2) := dk_21 7 (dk_at dksX10_worked_1 0 rfl rfl)
theorem dX10_worked_26 : decode cX10_worked 26 = .ok (.iconst 5, 1) := dk_8 (dk_at dksX10_worked_1 2 rfl rfl)
theorem dX10_worked_27 : decode cX10_worked 27 = .ok (.if_icmp .gt 76, 3) := dk_163 0 76 (dk_at dksX10_worked_1 3 rfl rfl)
theorem dX10_worked_30 : decode cX10_worked 30 = .ok (.aload_n 0, 1) := dk_42 (dk_at dksX10_worked_1 6 rfl rfl)
theorem dX10_worked_31 : decode cX10_worked 31 = .ok (.getfield 153, 3) := dk_180 0 153 (dk_at dksX10_worked_1 7 rfl rfl)
theorem dX10_worked_34 : decode cX10_worked 34 = .ok (.iload 5, 2) := dk_21 5 (dk_at dksX10_worked_1 10 rfl rfl)
theorem dX10_worked_36 : decode cX10_worked 36 = .ok (.iload 7, 2) := dk_21 7 (dk_at dksX10_worked_1 12 rfl rfl)
theorem dX10_worked_38 : decode cX10_worked 38 = .ok (.ifCond .ne 13, 3) := dk_154 0 13 (dk_at dksX10_worked_1 14 rfl rfl)
theorem dX10_worked_41 : decode cX10_worked 41 = .ok (.aload_n 0, 1) := dk_42 (dk_at dksX10_worked_1 17 rfl rfl)
theorem dX10_worked_42 : decode cX10_worked 42 = .ok (.getfield 50, 3) := dk_180 0 50 (dk_at dksX10_worked_1 18 rfl rfl)
theorem dX10_worked_45 : decode cX10_worked 45 = .ok (.iload 6, 2) := dk_21 6 (dk_at dksX10_worked_1 21 rfl rfl)
theorem dX10_worked_47 : decode cX10_worked 47 = .ok (.iaload, 1) := dk_46 (dk_at dksX10_worked_1 23 rfl rfl)
theorem dX10_worked_48 : decode cX10_worked 48 = .ok (.goto 48, 3) := dk_167 0 48 (dk_at dksX10_worked_2 0 rfl rfl)
theorem dX10_worked_51 : decode cX10_worked 51 = .ok (.iload 7, 2) := dk_21 7 (dk_at dksX10_worked_2 3 rfl rfl)
theorem dX10_worked_53 : decode cX10_worked 53 = .ok (.iconst 1, 1) := dk_4 (dk_at dksX10_worked_2 5 rfl rfl)
theorem dX10_worked_54 : decode cX10_worked 54 = .ok (.if_icmp .ne 7, 3) := dk_160 0 7 (dk_at dksX10_worked_2 6 rfl rfl)
theorem dX10_worked_57 : decode cX10_worked 57 = .ok (.iload_n 1, 1) := dk_27 (dk_at dksX10_worked_2 9 rfl rfl)
theorem dX10_worked_58 : decode cX10_worked 58 = .ok (.goto 38, 3) := dk_167 0 38 (dk_at dksX10_worked_2 10 rfl rfl)
theorem dX10_worked_61 : decode cX10_worked 61 = .ok (.iload 7, 2) := dk_21 7 (dk_at dksX10_worked_2 13 rfl rfl)
theorem dX10_worked_63 : decode cX10_worked 63 = .ok (.iconst 2, 1) := dk_5 (dk_at dksX10_worked_2 15 rfl rfl)
theorem dX10_worked_64 : decode cX10_worked 64 = .ok (.if_icmp .ne 7, 3) := dk_160 0 7 (dk_at dksX10_worked_2 16 rfl rfl)
theorem dX10_worked_67 : decode cX10_worked 67 = .ok (.iload_n 2, 1) := dk_28 (dk_at dksX10_worked_2 19 rfl rfl)
theorem dX10_worked_68 : decode cX10_worked 68 = .ok (.goto 28, 3) := dk_167 0 28 (dk_at dksX10_worked_2 20 rfl rfl)
theorem dX10_worked_71 : decode cX10_worked 71 = .ok (.iload 7, 2) := dk_21 7 (dk_at dksX10_worked_3 0 rfl rfl)
theorem dX10_worked_73 : decode cX10_worked 73 = .ok (.iconst 3, 1) := dk_6 (dk_at dksX10_worked_3 2 rfl rfl)
theorem dX10_worked_74 : decode cX10_worked 74 = .ok (.if_icmp .ne 7, 3) := dk_160 0 7 (dk_at dksX10_worked_3 3 rfl rfl)
theorem dX10_worked_77 : decode cX10_worked 77 = .ok (.iload_n 3, 1) := dk_29 (dk_at dksX10_worked_3 6 rfl rfl)
theorem dX10_worked_78 : decode cX10_worked 78 = .ok (.goto 18, 3) := dk_167 0 18 (dk_at dksX10_worked_3 7 rfl rfl)
theorem dX10_worked_81 : decode cX10_worked 81 = .ok (.iload 7, 2) := dk_21 7 (dk_at dksX10_worked_3 10 rfl rfl)
theorem dX10_worked_83 : decode cX10_worked 83 = .ok (.iconst 4, 1) := dk_7 (dk_at dksX10_worked_3 12 rfl rfl)
theorem dX10_worked_84 : decode cX10_worked 84 = .ok (.if_icmp .ne 10, 3) := dk_160 0 10 (dk_at dksX10_worked_3 13 rfl rfl)
theorem dX10_worked_87 : decode cX10_worked 87 = .ok (.aload_n 0, 1) := dk_42 (dk_at dksX10_worked_3 16 rfl rfl)
theorem dX10_worked_88 : decode cX10_worked 88 = .ok (.getfield 547, 3) := dk_180 2 35 (dk_at dksX10_worked_3 17 rfl rfl)
theorem dX10_worked_91 : decode cX10_worked 91 = .ok (.goto 5, 3) := dk_167 0 5 (dk_at dksX10_worked_3 20 rfl rfl)
theorem dX10_worked_94 : decode cX10_worked 94 = .ok (.iload 4, 2) := dk_21 4 (dk_at dksX10_worked_4 0 rfl rfl)
theorem dX10_worked_96 : decode cX10_worked 96 = .ok (.iastore, 1) := dk_79 (dk_at dksX10_worked_4 2 rfl rfl)
theorem dX10_worked_97 : decode cX10_worked 97 = .ok (.iinc 5 1, 3) := dk_132 5 1 (dk_at dksX10_worked_4 3 rfl rfl)
theorem dX10_worked_100 : decode cX10_worked 100 = .ok (.goto 170, 3) := dk_167 0 170 (dk_at dksX10_worked_4 6 rfl rfl)
theorem dX10_worked_103 : decode cX10_worked 103 = .ok (.iload 7, 2) := dk_21 7 (dk_at dksX10_worked_4 9 rfl rfl)
theorem dX10_worked_105 : decode cX10_worked 105 = .ok (.bipush 12, 2) := dk_16 12 (dk_at dksX10_worked_4 11 rfl rfl)
theorem dX10_worked_107 : decode cX10_worked 107 = .ok (.if_icmp .lt 122, 3) := dk_161 0 122 (dk_at dksX10_worked_4 13 rfl rfl)
theorem dX10_worked_110 : decode cX10_worked 110 = .ok (.iinc 5 (-3), 3) := dk_132 5 253 (dk_at dksX10_worked_4 16 rfl rfl)
theorem dX10_worked_113 : decode cX10_worked 113 = .ok (.aload_n 0, 1) := dk_42 (dk_at dksX10_worked_4 19 rfl rfl)
theorem dX10_worked_114 : decode cX10_worked 114 = .ok (.getfield 153, 3) := dk_180 0 153 (dk_at dksX10_worked_4 20 rfl rfl)
theorem dX10_worked_117 : decode cX10_worked 117 = .ok (.iload 5, 2) := dk_21 5 (dk_at dksX10_worked_5 0 rfl rfl)
theorem dX10_worked_119 : decode cX10_worked 119 = .ok (.iconst 1, 1) := dk_4 (dk_at dksX10_worked_5 2 rfl rfl)
theorem dX10_worked_120 : decode cX10_worked 120 = .ok (.isub, 1) := dk_100 (dk_at dksX10_worked_5 3 rfl rfl)
theorem dX10_worked_121 : decode cX10_worked 121 = .ok (.iaload, 1) := dk_46 (dk_at dksX10_worked_5 4 rfl rfl)
theorem dX10_worked_122 : decode cX10_worked 122 = .ok (.istore 8, 2) := dk_54 8 (dk_at dksX10_worked_5 5 rfl rfl)
theorem dX10_worked_124 : decode cX10_worked 124 = .ok (.aload_n 0, 1) := dk_42 (dk_at dksX10_worked_5 7 rfl rfl)
theorem dX10_worked_125 : decode cX10_worked 125 = .ok (.getfield 153, 3) := dk_180 0 153 (dk_at dksX10_worked_5 8 rfl rfl)
theorem dX10_worked_128 : decode cX10_worked 128 = .ok (.iload 5, 2) := dk_21 5 (dk_at dksX10_worked_5 11 rfl rfl)
theorem dX10_worked_130 : decode cX10_worked 130 = .ok (.iaload, 1) := dk_46 (dk_at dksX10_worked_5 13 rfl rfl)
theorem dX10_worked_131 : decode cX10_worked 131 = .ok (.istore 9, 2) := dk_54 9 (dk_at dksX10_worked_5 14 rfl rfl)
theorem dX10_worked_133 : decode cX10_worked 133 = .ok (.iload 7, 2) := dk_21 7 (dk_at dksX10_worked_5 16 rfl rfl)
theorem dX10_worked_135 : decode cX10_worked 135 = .ok (.bipush 12, 2) := dk_16 12 (dk_at dksX10_worked_5 18 rfl rfl)
theorem dX10_worked_137 : decode cX10_worked 137 = .ok (.if_icmp .ne 18, 3) := dk_160 0 18 (dk_at dksX10_worked_5 20 rfl rfl)
theorem dX10_worked_140 : decode cX10_worked 140 = .ok (.iload 8, 2) := dk_21 8 (dk_at dksX10_worked_6 0 rfl rfl)
theorem dX10_worked_142 : decode cX10_worked 142 = .ok (.iload 9, 2) := dk_21 9 (dk_at dksX10_worked_6 2 rfl rfl)
theorem dX10_worked_144 : decode cX10_worked 144 = .ok (.if_icmp .ge 7, 3) := dk_162 0 7 (dk_at dksX10_worked_6 4 rfl rfl)
theorem dX10_worked_147 : decode cX10_worked 147 = .ok (.iconst 1, 1) := dk_4 (dk_at dksX10_worked_6 7 rfl rfl)
theorem dX10_worked_148 : decode cX10_worked 148 = .ok (.goto 41, 3) := dk_167 0 41 (dk_at dksX10_worked_6 8 rfl rfl)
theorem dX10_worked_151 : decode cX10_worked 151 = .ok (.iconst 0, 1) := dk_3 (dk_at dksX10_worked_6 11 rfl rfl)
theorem dX10_worked_152 : decode cX10_worked 152 = .ok (.goto 37, 3) := dk_167 0 37 (dk_at dksX10_worked_6 12 rfl rfl)
theorem dX10_worked_155 : decode cX10_worked 155 = .ok (.iload 7, 2) := dk_21 7 (dk_at dksX10_worked_6 15 rfl rfl)
theorem dX10_worked_157 : decode cX10_worked 157 = .ok (.bipush 13, 2) := dk_16 13 (dk_at dksX10_worked_6 17 rfl rfl)
theorem dX10_worked_159 : decode cX10_worked 159 = .ok (.if_icmp .ne 18, 3) := dk_160 0 18 (dk_at dksX10_worked_6 19 rfl rfl)
theorem dX10_worked_162 : decode cX10_worked 162 = .ok (.iload 8, 2) := dk_21 8 (dk_at dksX10_worked_6 22 rfl rfl)
theorem dX10_worked_164 : decode cX10_worked 164 = .ok (.iload 9, 2) := dk_21 9 (dk_at dksX10_worked_7 0 rfl rfl)
theorem dX10_worked_166 : decode cX10_worked 166 = .ok (.if_icmp .le 7, 3) := dk_164 0 7 (dk_at dksX10_worked_7 2 rfl rfl)
theorem dX10_worked_169 : decode cX10_worked 169 = .ok (.iconst 1, 1) := dk_4 (dk_at dksX10_worked_7 5 rfl rfl)
theorem dX10_worked_170 : decode cX10_worked 170 = .ok (.goto 19, 3) := dk_167 0 19 (dk_at dksX10_worked_7 6 rfl rfl)
theorem dX10_worked_173 : decode cX10_worked 173 = .ok (.iconst 0, 1) := dk_3 (dk_at dksX10_worked_7 9 rfl rfl)
theorem dX10_worked_174 : decode cX10_worked 174 = .ok (.goto 15, 3) := dk_167 0 15 (dk_at dksX10_worked_7 10 rfl rfl)
theorem dX10_worked_177 : decode cX10_worked 177 = .ok (.iload 8, 2) := dk_21 8 (dk_at dksX10_worked_7 13 rfl rfl)
theorem dX10_worked_179 : decode cX10_worked 179 = .ok (.iload 9, 2) := dk_21 9 (dk_at dksX10_worked_7 15 rfl rfl)
theorem dX10_worked_181 : decode cX10_worked 181 = .ok (.if_icmp .ne 7, 3) := dk_160 0 7 (dk_at dksX10_worked_7 17 rfl rfl)
theorem dX10_worked_184 : decode cX10_worked 184 = .ok (.iconst 1, 1) := dk_4 (dk_at dksX10_worked_7 20 rfl rfl)
theorem dX10_worked_185 : decode cX10_worked 185 = .ok (.goto 4, 3) := dk_167 0 4 (dk_at dksX10_worked_7 21 rfl rfl)
theorem dX10_worked_188 : decode cX10_worked 188 = .ok (.iconst 0, 1) := dk_3 (dk_at dksX10_worked_8 0 rfl rfl)
theorem dX10_worked_189 : decode cX10_worked 189 = .ok (.istore 10, 2) := dk_54 10 (dk_at dksX10_worked_8 1 rfl rfl)
theorem dX10_worked_191 : decode cX10_worked 191 = .ok (.aload_n 0, 1) := dk_42 (dk_at dksX10_worked_8 3 rfl rfl)
theorem dX10_worked_192 : decode cX10_worked 192 = .ok (.getfield 153, 3) := dk_180 0 153 (dk_at dksX10_worked_8 4 rfl rfl)
theorem dX10_worked_195 : decode cX10_worked 195 = .ok (.iload 5, 2) := dk_21 5 (dk_at dksX10_worked_8 7 rfl rfl)
theorem dX10_worked_197 : decode cX10_worked 197 = .ok (.iconst 1, 1) := dk_4 (dk_at dksX10_worked_8 9 rfl rfl)
theorem dX10_worked_198 : decode cX10_worked 198 = .ok (.isub, 1) := dk_100 (dk_at dksX10_worked_8 10 rfl rfl)
theorem dX10_worked_199 : decode cX10_worked 199 = .ok (.iload 10, 2) := dk_21 10 (dk_at dksX10_worked_8 11 rfl rfl)
theorem dX10_worked_201 : decode cX10_worked 201 = .ok (.ifCond .eq 15, 3) := dk_153 0 15 (dk_at dksX10_worked_8 13 rfl rfl)
theorem dX10_worked_204 : decode cX10_worked 204 = .ok (.aload_n 0, 1) := dk_42 (dk_at dksX10_worked_8 16 rfl rfl)
theorem dX10_worked_205 : decode cX10_worked 205 = .ok (.getfield 153, 3) := dk_180 0 153 (dk_at dksX10_worked_8 17 rfl rfl)
theorem dX10_worked_208 : decode cX10_worked 208 = .ok (.iload 5, 2) := dk_21 5 (dk_at dksX10_worked_8 20 rfl rfl)
theorem dX10_worked_210 : decode cX10_worked 210 = .ok (.iconst 1, 1) := dk_4 (dk_at dksX10_worked_8 22 rfl rfl)
theorem dX10_worked_211 : decode cX10_worked 211 = .ok (.iadd, 1) := dk_96 (dk_at dksX10_worked_8 23 rfl rfl)
theorem dX10_worked_212 : decode cX10_worked 212 = .ok (.iaload, 1) := dk_46 (dk_at dksX10_worked_9 0 rfl rfl)
theorem dX10_worked_213 : decode cX10_worked 213 = .ok (.goto 12, 3) := dk_167 0 12 (dk_at dksX10_worked_9 1 rfl rfl)
theorem dX10_worked_216 : decode cX10_worked 216 = .ok (.aload_n 0, 1) := dk_42 (dk_at dksX10_worked_9 4 rfl rfl)
theorem dX10_worked_217 : decode cX10_worked 217 = .ok (.getfield 153, 3) := dk_180 0 153 (dk_at dksX10_worked_9 5 rfl rfl)
theorem dX10_worked_220 : decode cX10_worked 220 = .ok (.iload 5, 2) := dk_21 5 (dk_at dksX10_worked_9 8 rfl rfl)
theorem dX10_worked_222 : decode cX10_worked 222 = .ok (.iconst 2, 1) := dk_5 (dk_at dksX10_worked_9 10 rfl rfl)
theorem dX10_worked_223 : decode cX10_worked 223 = .ok (.iadd, 1) := dk_96 (dk_at dksX10_worked_9 11 rfl rfl)
theorem dX10_worked_224 : decode cX10_worked 224 = .ok (.iaload, 1) := dk_46 (dk_at dksX10_worked_9 12 rfl rfl)
theorem dX10_worked_225 : decode cX10_worked 225 = .ok (.iastore, 1) := dk_79 (dk_at dksX10_worked_9 13 rfl rfl)
theorem dX10_worked_226 : decode cX10_worked 226 = .ok (.goto 44, 3) := dk_167 0 44 (dk_at dksX10_worked_9 14 rfl rfl)
theorem dX10_worked_229 : decode cX10_worked 229 = .ok (.iinc 5 (-1), 3) := dk_132 5 255 (dk_at dksX10_worked_9 17 rfl rfl)
theorem dX10_worked_232 : decode cX10_worked 232 = .ok (.aload_n 0, 1) := dk_42 (dk_at dksX10_worked_9 20 rfl rfl)
theorem dX10_worked_233 : decode cX10_worked 233 = .ok (.getfield 153, 3) := dk_180 0 153 (dk_at dksX10_worked_9 21 rfl rfl)
theorem dX10_worked_236 : decode cX10_worked 236 = .ok (.iload 5, 2) := dk_21 5 (dk_at dksX10_worked_10 0 rfl rfl)
theorem dX10_worked_238 : decode cX10_worked 238 = .ok (.iconst 1, 1) := dk_4 (dk_at dksX10_worked_10 2 rfl rfl)
theorem dX10_worked_239 : decode cX10_worked 239 = .ok (.isub, 1) := dk_100 (dk_at dksX10_worked_10 3 rfl rfl)
theorem dX10_worked_240 : decode cX10_worked 240 = .ok (.iaload, 1) := dk_46 (dk_at dksX10_worked_10 4 rfl rfl)
theorem dX10_worked_241 : decode cX10_worked 241 = .ok (.istore 8, 2) := dk_54 8 (dk_at dksX10_worked_10 5 rfl rfl)
theorem dX10_worked_243 : decode cX10_worked 243 = .ok (.aload_n 0, 1) := dk_42 (dk_at dksX10_worked_10 7 rfl rfl)
theorem dX10_worked_244 : decode cX10_worked 244 = .ok (.getfield 153, 3) := dk_180 0 153 (dk_at dksX10_worked_10 8 rfl rfl)
theorem dX10_worked_247 : decode cX10_worked 247 = .ok (.iload 5, 2) := dk_21 5 (dk_at dksX10_worked_10 11 rfl rfl)
theorem dX10_worked_249 : decode cX10_worked 249 = .ok (.iaload, 1) := dk_46 (dk_at dksX10_worked_10 13 rfl rfl)
theorem dX10_worked_250 : decode cX10_worked 250 = .ok (.istore 9, 2) := dk_54 9 (dk_at dksX10_worked_10 14 rfl rfl)
theorem dX10_worked_252 : decode cX10_worked 252 = .ok (.aload_n 0, 1) := dk_42 (dk_at dksX10_worked_10 16 rfl rfl)
theorem dX10_worked_253 : decode cX10_worked 253 = .ok (.getfield 153, 3) := dk_180 0 153 (dk_at dksX10_worked_10 17 rfl rfl)
theorem dX10_worked_256 : decode cX10_worked 256 = .ok (.iload 5, 2) := dk_21 5 (dk_at dksX10_worked_10 20 rfl rfl)
theorem dX10_worked_258 : decode cX10_worked 258 = .ok (.iconst 1, 1) := dk_4 (dk_at dksX10_worked_10 22 rfl rfl)
theorem dX10_worked_259 : decode cX10_worked 259 = .ok (.isub, 1) := dk_100 (dk_at dksX10_worked_10 23 rfl rfl)
theorem dX10_worked_260 : decode cX10_worked 260 = .ok (.iload 7, 2) := dk_21 7 (dk_at dksX10_worked_11 0 rfl rfl)
theorem dX10_worked_262 : decode cX10_worked 262 = .ok (.iload 8, 2) := dk_21 8 (dk_at dksX10_worked_11 2 rfl rfl)
theorem dX10_worked_264 : decode cX10_worked 264 = .ok (.iload 9, 2) := dk_21 9 (dk_at dksX10_worked_11 4 rfl rfl)
theorem dX10_worked_266 : decode cX10_worked 266 = .ok (.invokestatic 550, 3) := dk_184 2 38 (dk_at dksX10_worked_11 6 rfl rfl)
theorem dX10_worked_269 : decode cX10_worked 269 = .ok (.iastore, 1) := dk_79 (dk_at dksX10_worked_11 9 rfl rfl)
theorem dX10_worked_270 : decode cX10_worked 270 = .ok (.iinc 6 1, 3) := dk_132 6 1 (dk_at dksX10_worked_11 10 rfl rfl)
theorem dX10_worked_273 : decode cX10_worked 273 = .ok (.goto (-267), 3) := dk_167 254 245 (dk_at dksX10_worked_11 13 rfl rfl)
theorem dX10_worked_276 : decode cX10_worked 276 = .ok (.aload_n 0, 1) := dk_42 (dk_at dksX10_worked_11 16 rfl rfl)
theorem dX10_worked_277 : decode cX10_worked 277 = .ok (.getfield 153, 3) := dk_180 0 153 (dk_at dksX10_worked_11 17 rfl rfl)
theorem dX10_worked_280 : decode cX10_worked 280 = .ok (.iconst 0, 1) := dk_3 (dk_at dksX10_worked_11 20 rfl rfl)
theorem dX10_worked_281 : decode cX10_worked 281 = .ok (.iaload, 1) := dk_46 (dk_at dksX10_worked_11 21 rfl rfl)
theorem dX10_worked_282 : decode cX10_worked 282 = .ok (.ireturn, 1) := dk_172 (dk_at dksX10_worked_11 22 rfl rfl)
def dkwX10_two_4 : List UInt8 := [28, 164, 0, 7, 27, 167, 0, 4, 28, 172]
abbrev dktX10_two_4 : List UInt8 := dkwX10_two_4 ++ []
def dkwX10_two_3 : List UInt8 := [160, 0, 8, 27, 116, 167, 0, 6, 27, 28, 108, 172, 27, 28, 162, 0, 7, 27, 167, 0, 4, 28, 172, 27]
abbrev dktX10_two_3 : List UInt8 := dkwX10_two_3 ++ dktX10_two_4
def dkwX10_two_2 : List UInt8 := [27, 28, 96, 172, 27, 28, 100, 172, 27, 28, 104, 172, 28, 154, 0, 7, 3, 167, 0, 16, 28, 2]
abbrev dktX10_two_2 : List UInt8 := dkwX10_two_2 ++ dktX10_two_3
def dkwX10_two_1 : List UInt8 := [170, 0, 0, 0, 0, 0, 80, 0, 0, 0, 6, 0, 0, 0, 10, 0, 0, 0, 35, 0, 0, 0, 39, 0, 0, 0, 43, 0, 0, 0, 47, 0, 0, 0, 69]
abbrev dktX10_two_1 : List UInt8 := dkwX10_two_1 ++ dktX10_two_2
def dkwX10_two_0 : List UInt8 := [26]
abbrev dktX10_two_0 : List UInt8 := dkwX10_two_0 ++ dktX10_two_1
theorem dksX10_two_0 : cX10_two.data.toList.drop 0 = dktX10_two_0 := by decide +kernel
theorem dksX10_two_1 : cX10_two.data.toList.drop 1 = dktX10_two_1 := dk_seg dksX10_two_0 1 rfl rfl
theorem dksX10_two_2 : cX10_two.data.toList.drop 36 = dktX10_two_2 := dk_seg dksX10_two_1 35 rfl rfl
theorem dksX10_two_3 : cX10_two.data.toList.drop 58 = dktX10_two_3 := dk_seg dksX10_two_2 22 rfl rfl
theorem dksX10_two_4 : cX10_two.data.toList.drop 82 = dktX10_two_4 := dk_seg dksX10_two_3 24 rfl rfl
theorem dX10_two_0 : decode cX10_two 0 = .ok (.iload_n 0, 1) := dk_26 (dk_at dksX10_two_0 0 rfl rfl)
theorem dX10_two_1 : decode cX10_two 1 = .ok (.tableswitch 80 6 10 #[35, 39, 43, 47, 69], 35) := by decide +kernel
theorem dX10_two_36 : decode cX10_two 36 = .ok (.iload_n 1, 1) := dk_27 (dk_at dksX10_two_2 0 rfl rfl)
theorem dX10_two_37 : decode cX10_two 37 = .ok (.iload_n 2, 1) := dk_28 (dk_at dksX10_two_2 1 rfl rfl)
theorem dX10_two_38 : decode cX10_two 38 = .ok (.iadd, 1) := dk_96 (dk_at dksX10_two_2 2 rfl rfl)
theorem dX10_two_39 : decode cX10_two 39 = .ok (.ireturn, 1) := dk_172 (dk_at dksX10_two_2 3 rfl rfl)
theorem dX10_two_40 : decode cX10_two 40 = .ok (.iload_n 1, 1) := dk_27 (dk_at dksX10_two_2 4 rfl rfl)
theorem dX10_two_41 : decode cX10_two 41 = .ok (.iload_n 2, 1) := dk_28 (dk_at dksX10_two_2 5 rfl rfl)
theorem dX10_two_42 : decode cX10_two 42 = .ok (.isub, 1) := dk_100 (dk_at dksX10_two_2 6 rfl rfl)
theorem dX10_two_43 : decode cX10_two 43 = .ok (.ireturn, 1) := dk_172 (dk_at dksX10_two_2 7 rfl rfl)
theorem dX10_two_44 : decode cX10_two 44 = .ok (.iload_n 1, 1) := dk_27 (dk_at dksX10_two_2 8 rfl rfl)
theorem dX10_two_45 : decode cX10_two 45 = .ok (.iload_n 2, 1) := dk_28 (dk_at dksX10_two_2 9 rfl rfl)
theorem dX10_two_46 : decode cX10_two 46 = .ok (.imul, 1) := dk_104 (dk_at dksX10_two_2 10 rfl rfl)
theorem dX10_two_47 : decode cX10_two 47 = .ok (.ireturn, 1) := dk_172 (dk_at dksX10_two_2 11 rfl rfl)
theorem dX10_two_48 : decode cX10_two 48 = .ok (.iload_n 2, 1) := dk_28 (dk_at dksX10_two_2 12 rfl rfl)
