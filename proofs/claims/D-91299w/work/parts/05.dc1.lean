set_option maxRecDepth 100000
theorem dX10_unit_113 : decode cX10_unit 113 = .ok (.ldc_w 341, 3) := dk_19 1 85 (dk_at dksX10_unit_4 21 rfl rfl)
theorem dX10_unit_116 : decode cX10_unit 116 = .ok (.if_icmp .eq 26, 3) := dk_159 0 26 (dk_at dksX10_unit_5 0 rfl rfl)
theorem dX10_unit_119 : decode cX10_unit 119 = .ok (.iload_n 2, 1) := dk_28 (dk_at dksX10_unit_5 3 rfl rfl)
theorem dX10_unit_120 : decode cX10_unit 120 = .ok (.ldc_w 342, 3) := dk_19 1 86 (dk_at dksX10_unit_5 4 rfl rfl)
theorem dX10_unit_123 : decode cX10_unit 123 = .ok (.if_icmp .eq 19, 3) := dk_159 0 19 (dk_at dksX10_unit_5 7 rfl rfl)
theorem dX10_unit_126 : decode cX10_unit 126 = .ok (.iload_n 2, 1) := dk_28 (dk_at dksX10_unit_5 10 rfl rfl)
theorem dX10_unit_127 : decode cX10_unit 127 = .ok (.sipush 294, 3) := dk_17 1 38 (dk_at dksX10_unit_5 11 rfl rfl)
theorem dX10_unit_130 : decode cX10_unit 130 = .ok (.if_icmp .eq 12, 3) := dk_159 0 12 (dk_at dksX10_unit_5 14 rfl rfl)
theorem dX10_unit_133 : decode cX10_unit 133 = .ok (.aload_n 0, 1) := dk_42 (dk_at dksX10_unit_5 17 rfl rfl)
theorem dX10_unit_134 : decode cX10_unit 134 = .ok (.aload_n 0, 1) := dk_42 (dk_at dksX10_unit_5 18 rfl rfl)
theorem dX10_unit_135 : decode cX10_unit 135 = .ok (.getfield 284, 3) := dk_180 1 28 (dk_at dksX10_unit_5 19 rfl rfl)
theorem dX10_unit_138 : decode cX10_unit 138 = .ok (.invokevirtual 304, 3) := dk_182 1 48 (dk_at dksX10_unit_6 0 rfl rfl)
theorem dX10_unit_141 : decode cX10_unit 141 = .ok (.return_, 1) := dk_177 (dk_at dksX10_unit_6 3 rfl rfl)
theorem dX10_unit_142 : decode cX10_unit 142 = .ok (.aload_n 0, 1) := dk_42 (dk_at dksX10_unit_6 4 rfl rfl)
theorem dX10_unit_143 : decode cX10_unit 143 = .ok (.invokevirtual 343, 3) := dk_182 1 87 (dk_at dksX10_unit_6 5 rfl rfl)
theorem dX10_unit_146 : decode cX10_unit 146 = .ok (.iload_n 3, 1) := dk_29 (dk_at dksX10_unit_6 8 rfl rfl)
theorem dX10_unit_147 : decode cX10_unit 147 = .ok (.ifCond .eq 54, 3) := dk_153 0 54 (dk_at dksX10_unit_6 9 rfl rfl)
theorem dX10_unit_150 : decode cX10_unit 150 = .ok (.aload_n 0, 1) := dk_42 (dk_at dksX10_unit_6 12 rfl rfl)
theorem dX10_unit_151 : decode cX10_unit 151 = .ok (.iload_n 2, 1) := dk_28 (dk_at dksX10_unit_6 13 rfl rfl)
theorem dX10_unit_152 : decode cX10_unit 152 = .ok (.ldc_w 336, 3) := dk_19 1 80 (dk_at dksX10_unit_6 14 rfl rfl)
theorem dX10_unit_155 : decode cX10_unit 155 = .ok (.if_icmp .ne 7, 3) := dk_160 0 7 (dk_at dksX10_unit_6 17 rfl rfl)
theorem dX10_unit_158 : decode cX10_unit 158 = .ok (.iconst 1, 1) := dk_4 (dk_at dksX10_unit_6 20 rfl rfl)
theorem dX10_unit_159 : decode cX10_unit 159 = .ok (.goto 37, 3) := dk_167 0 37 (dk_at dksX10_unit_6 21 rfl rfl)
theorem dX10_unit_162 : decode cX10_unit 162 = .ok (.iload_n 2, 1) := dk_28 (dk_at dksX10_unit_7 0 rfl rfl)
theorem dX10_unit_163 : decode cX10_unit 163 = .ok (.ldc_w 337, 3) := dk_19 1 81 (dk_at dksX10_unit_7 1 rfl rfl)
theorem dX10_unit_166 : decode cX10_unit 166 = .ok (.if_icmp .ne 7, 3) := dk_160 0 7 (dk_at dksX10_unit_7 4 rfl rfl)
theorem dX10_unit_169 : decode cX10_unit 169 = .ok (.iconst 2, 1) := dk_5 (dk_at dksX10_unit_7 7 rfl rfl)
theorem dX10_unit_170 : decode cX10_unit 170 = .ok (.goto 26, 3) := dk_167 0 26 (dk_at dksX10_unit_7 8 rfl rfl)
theorem dX10_unit_173 : decode cX10_unit 173 = .ok (.iload_n 2, 1) := dk_28 (dk_at dksX10_unit_7 11 rfl rfl)
theorem dX10_unit_174 : decode cX10_unit 174 = .ok (.ldc_w 338, 3) := dk_19 1 82 (dk_at dksX10_unit_7 12 rfl rfl)
theorem dX10_unit_177 : decode cX10_unit 177 = .ok (.if_icmp .ne 7, 3) := dk_160 0 7 (dk_at dksX10_unit_7 15 rfl rfl)
theorem dX10_unit_180 : decode cX10_unit 180 = .ok (.iconst 3, 1) := dk_6 (dk_at dksX10_unit_7 18 rfl rfl)
theorem dX10_unit_181 : decode cX10_unit 181 = .ok (.goto 15, 3) := dk_167 0 15 (dk_at dksX10_unit_7 19 rfl rfl)
theorem dX10_unit_184 : decode cX10_unit 184 = .ok (.iload_n 2, 1) := dk_28 (dk_at dksX10_unit_7 22 rfl rfl)
theorem dX10_unit_185 : decode cX10_unit 185 = .ok (.ldc_w 339, 3) := dk_19 1 83 (dk_at dksX10_unit_8 0 rfl rfl)
theorem dX10_unit_188 : decode cX10_unit 188 = .ok (.if_icmp .ne 7, 3) := dk_160 0 7 (dk_at dksX10_unit_8 3 rfl rfl)
theorem dX10_unit_191 : decode cX10_unit 191 = .ok (.iconst 4, 1) := dk_7 (dk_at dksX10_unit_8 6 rfl rfl)
theorem dX10_unit_192 : decode cX10_unit 192 = .ok (.goto 4, 3) := dk_167 0 4 (dk_at dksX10_unit_8 7 rfl rfl)
theorem dX10_unit_195 : decode cX10_unit 195 = .ok (.iconst 5, 1) := dk_8 (dk_at dksX10_unit_8 10 rfl rfl)
theorem dX10_unit_196 : decode cX10_unit 196 = .ok (.iconst 0, 1) := dk_3 (dk_at dksX10_unit_8 11 rfl rfl)
theorem dX10_unit_197 : decode cX10_unit 197 = .ok (.invokevirtual 320, 3) := dk_182 1 64 (dk_at dksX10_unit_8 12 rfl rfl)
theorem dX10_unit_200 : decode cX10_unit 200 = .ok (.return_, 1) := dk_177 (dk_at dksX10_unit_8 15 rfl rfl)
theorem dX10_unit_201 : decode cX10_unit 201 = .ok (.aload_n 0, 1) := dk_42 (dk_at dksX10_unit_8 16 rfl rfl)
theorem dX10_unit_202 : decode cX10_unit 202 = .ok (.invokevirtual 324, 3) := dk_182 1 68 (dk_at dksX10_unit_8 17 rfl rfl)
theorem dX10_unit_205 : decode cX10_unit 205 = .ok (.aload_n 0, 1) := dk_42 (dk_at dksX10_unit_8 20 rfl rfl)
theorem dX10_unit_206 : decode cX10_unit 206 = .ok (.invokevirtual 327, 3) := dk_182 1 71 (dk_at dksX10_unit_8 21 rfl rfl)
theorem dX10_unit_209 : decode cX10_unit 209 = .ok (.iload_n 2, 1) := dk_28 (dk_at dksX10_unit_9 0 rfl rfl)
theorem dX10_unit_210 : decode cX10_unit 210 = .ok (.sipush 294, 3) := dk_17 1 38 (dk_at dksX10_unit_9 1 rfl rfl)
theorem dX10_unit_213 : decode cX10_unit 213 = .ok (.if_icmp .ne 8, 3) := dk_160 0 8 (dk_at dksX10_unit_9 4 rfl rfl)
theorem dX10_unit_216 : decode cX10_unit 216 = .ok (.aload_n 0, 1) := dk_42 (dk_at dksX10_unit_9 7 rfl rfl)
theorem dX10_unit_217 : decode cX10_unit 217 = .ok (.invokevirtual 346, 3) := dk_182 1 90 (dk_at dksX10_unit_9 8 rfl rfl)
theorem dX10_unit_220 : decode cX10_unit 220 = .ok (.return_, 1) := dk_177 (dk_at dksX10_unit_9 11 rfl rfl)
theorem dX10_unit_221 : decode cX10_unit 221 = .ok (.aload_n 0, 1) := dk_42 (dk_at dksX10_unit_9 12 rfl rfl)
theorem dX10_unit_222 : decode cX10_unit 222 = .ok (.bipush 44, 2) := dk_16 44 (dk_at dksX10_unit_9 13 rfl rfl)
theorem dX10_unit_224 : decode cX10_unit 224 = .ok (.invokevirtual 314, 3) := dk_182 1 58 (dk_at dksX10_unit_9 15 rfl rfl)
theorem dX10_unit_227 : decode cX10_unit 227 = .ok (.aload_n 0, 1) := dk_42 (dk_at dksX10_unit_9 18 rfl rfl)
theorem dX10_unit_228 : decode cX10_unit 228 = .ok (.invokevirtual 327, 3) := dk_182 1 71 (dk_at dksX10_unit_9 19 rfl rfl)
theorem dX10_unit_231 : decode cX10_unit 231 = .ok (.aload_n 0, 1) := dk_42 (dk_at dksX10_unit_9 22 rfl rfl)
theorem dX10_unit_232 : decode cX10_unit 232 = .ok (.invokevirtual 330, 3) := dk_182 1 74 (dk_at dksX10_unit_10 0 rfl rfl)
theorem dX10_unit_235 : decode cX10_unit 235 = .ok (.aload_n 0, 1) := dk_42 (dk_at dksX10_unit_10 3 rfl rfl)
theorem dX10_unit_236 : decode cX10_unit 236 = .ok (.invokevirtual 297, 3) := dk_182 1 41 (dk_at dksX10_unit_10 4 rfl rfl)
theorem dX10_unit_239 : decode cX10_unit 239 = .ok (.ifCond .eq 22, 3) := dk_153 0 22 (dk_at dksX10_unit_10 7 rfl rfl)
theorem dX10_unit_242 : decode cX10_unit 242 = .ok (.aload_n 0, 1) := dk_42 (dk_at dksX10_unit_10 10 rfl rfl)
theorem dX10_unit_243 : decode cX10_unit 243 = .ok (.iload_n 2, 1) := dk_28 (dk_at dksX10_unit_10 11 rfl rfl)
theorem dX10_unit_244 : decode cX10_unit 244 = .ok (.ldc_w 341, 3) := dk_19 1 85 (dk_at dksX10_unit_10 12 rfl rfl)
theorem dX10_unit_247 : decode cX10_unit 247 = .ok (.if_icmp .ne 8, 3) := dk_160 0 8 (dk_at dksX10_unit_10 15 rfl rfl)
theorem dX10_unit_250 : decode cX10_unit 250 = .ok (.bipush 10, 2) := dk_16 10 (dk_at dksX10_unit_10 18 rfl rfl)
theorem dX10_unit_252 : decode cX10_unit 252 = .ok (.goto 5, 3) := dk_167 0 5 (dk_at dksX10_unit_10 20 rfl rfl)
theorem dX10_unit_255 : decode cX10_unit 255 = .ok (.bipush 11, 2) := dk_16 11 (dk_at dksX10_unit_11 0 rfl rfl)
theorem dX10_unit_257 : decode cX10_unit 257 = .ok (.iconst 0, 1) := dk_3 (dk_at dksX10_unit_11 2 rfl rfl)
theorem dX10_unit_258 : decode cX10_unit 258 = .ok (.invokevirtual 320, 3) := dk_182 1 64 (dk_at dksX10_unit_11 3 rfl rfl)
theorem dX10_unit_261 : decode cX10_unit 261 = .ok (.return_, 1) := dk_177 (dk_at dksX10_unit_11 6 rfl rfl)
def dkwX10_emit_1 : List UInt8 := [180, 1, 52, 4, 96, 181, 1, 52, 177]
abbrev dktX10_emit_1 : List UInt8 := dkwX10_emit_1 ++ []
def dkwX10_emit_0 : List UInt8 := [42, 180, 0, 41, 42, 180, 1, 52, 27, 79, 42, 180, 0, 44, 42, 180, 1, 52, 28, 79, 42, 89]
abbrev dktX10_emit_0 : List UInt8 := dkwX10_emit_0 ++ dktX10_emit_1
theorem dksX10_emit_0 : cX10_emit.data.toList.drop 0 = dktX10_emit_0 := by decide +kernel
theorem dksX10_emit_1 : cX10_emit.data.toList.drop 22 = dktX10_emit_1 := dk_seg dksX10_emit_0 22 rfl rfl
theorem dX10_emit_0 : decode cX10_emit 0 = .ok (.aload_n 0, 1) := dk_42 (dk_at dksX10_emit_0 0 rfl rfl)
theorem dX10_emit_1 : decode cX10_emit 1 = .ok (.getfield 41, 3) := dk_180 0 41 (dk_at dksX10_emit_0 1 rfl rfl)
theorem dX10_emit_4 : decode cX10_emit 4 = .ok (.aload_n 0, 1) := dk_42 (dk_at dksX10_emit_0 4 rfl rfl)
theorem dX10_emit_5 : decode cX10_emit 5 = .ok (.getfield 308, 3) := dk_180 1 52 (dk_at dksX10_emit_0 5 rfl rfl)
theorem dX10_emit_8 : decode cX10_emit 8 = .ok (.iload_n 1, 1) := dk_27 (dk_at dksX10_emit_0 8 rfl rfl)
theorem dX10_emit_9 : decode cX10_emit 9 = .ok (.iastore, 1) := dk_79 (dk_at dksX10_emit_0 9 rfl rfl)
theorem dX10_emit_10 : decode cX10_emit 10 = .ok (.aload_n 0, 1) := dk_42 (dk_at dksX10_emit_0 10 rfl rfl)
theorem dX10_emit_11 : decode cX10_emit 11 = .ok (.getfield 44, 3) := dk_180 0 44 (dk_at dksX10_emit_0 11 rfl rfl)
theorem dX10_emit_14 : decode cX10_emit 14 = .ok (.aload_n 0, 1) := dk_42 (dk_at dksX10_emit_0 14 rfl rfl)
theorem dX10_emit_15 : decode cX10_emit 15 = .ok (.getfield 308, 3) := dk_180 1 52 (dk_at dksX10_emit_0 15 rfl rfl)
theorem dX10_emit_18 : decode cX10_emit 18 = .ok (.iload_n 2, 1) := dk_28 (dk_at dksX10_emit_0 18 rfl rfl)
theorem dX10_emit_19 : decode cX10_emit 19 = .ok (.iastore, 1) := dk_79 (dk_at dksX10_emit_0 19 rfl rfl)
theorem dX10_emit_20 : decode cX10_emit 20 = .ok (.aload_n 0, 1) := dk_42 (dk_at dksX10_emit_0 20 rfl rfl)
theorem dX10_emit_21 : decode cX10_emit 21 = .ok (.dup, 1) := dk_89 (dk_at dksX10_emit_0 21 rfl rfl)
theorem dX10_emit_22 : decode cX10_emit 22 = .ok (.getfield 308, 3) := dk_180 1 52 (dk_at dksX10_emit_1 0 rfl rfl)
theorem dX10_emit_25 : decode cX10_emit 25 = .ok (.iconst 1, 1) := dk_4 (dk_at dksX10_emit_1 3 rfl rfl)
theorem dX10_emit_26 : decode cX10_emit 26 = .ok (.iadd, 1) := dk_96 (dk_at dksX10_emit_1 4 rfl rfl)
theorem dX10_emit_27 : decode cX10_emit 27 = .ok (.putfield 308, 3) := dk_181 1 52 (dk_at dksX10_emit_1 5 rfl rfl)
theorem dX10_emit_30 : decode cX10_emit 30 = .ok (.return_, 1) := dk_177 (dk_at dksX10_emit_1 8 rfl rfl)
def dkwX10_opensOne_2 : List UInt8 := [180, 1, 55, 4, 96, 181, 1, 55, 177]
abbrev dktX10_opensOne_2 : List UInt8 := dkwX10_opensOne_2 ++ []
def dkwX10_opensOne_1 : List UInt8 := [160, 0, 12, 42, 42, 180, 1, 28, 182, 1, 48, 177, 42, 89, 180, 1, 28, 4, 96, 181, 1, 28, 42, 89]
abbrev dktX10_opensOne_1 : List UInt8 := dkwX10_opensOne_1 ++ dktX10_opensOne_2
def dkwX10_opensOne_0 : List UInt8 := [42, 182, 1, 41, 154, 0, 4, 177, 42, 182, 1, 34, 16, 40, 160, 0, 12, 42, 180, 1, 55, 16, 8]
abbrev dktX10_opensOne_0 : List UInt8 := dkwX10_opensOne_0 ++ dktX10_opensOne_1
theorem dksX10_opensOne_0 : cX10_opensOne.data.toList.drop 0 = dktX10_opensOne_0 := by decide +kernel
theorem dksX10_opensOne_1 : cX10_opensOne.data.toList.drop 23 = dktX10_opensOne_1 := dk_seg dksX10_opensOne_0 23 rfl rfl
theorem dksX10_opensOne_2 : cX10_opensOne.data.toList.drop 47 = dktX10_opensOne_2 := dk_seg dksX10_opensOne_1 24 rfl rfl
theorem dX10_opensOne_0 : decode cX10_opensOne 0 = .ok (.aload_n 0, 1) := dk_42 (dk_at dksX10_opensOne_0 0 rfl rfl)
theorem dX10_opensOne_1 : decode cX10_opensOne 1 = .ok (.invokevirtual 297, 3) := dk_182 1 41 (dk_at dksX10_opensOne_0 1 rfl rfl)
theorem dX10_opensOne_4 : decode cX10_opensOne 4 = .ok (.ifCond .ne 4, 3) := dk_154 0 4 (dk_at dksX10_opensOne_0 4 rfl rfl)
theorem dX10_opensOne_7 : decode cX10_opensOne 7 = .ok (.return_, 1) := dk_177 (dk_at dksX10_opensOne_0 7 rfl rfl)
theorem dX10_opensOne_8 : decode cX10_opensOne 8 = .ok (.aload_n 0, 1) := dk_42 (dk_at dksX10_opensOne_0 8 rfl rfl)
theorem dX10_opensOne_9 : decode cX10_opensOne 9 = .ok (.invokevirtual 290, 3) := dk_182 1 34 (dk_at dksX10_opensOne_0 9 rfl rfl)
theorem dX10_opensOne_12 : decode cX10_opensOne 12 = .ok (.bipush 40, 2) := dk_16 40 (dk_at dksX10_opensOne_0 12 rfl rfl)
theorem dX10_opensOne_14 : decode cX10_opensOne 14 = .ok (.if_icmp .ne 12, 3) := dk_160 0 12 (dk_at dksX10_opensOne_0 14 rfl rfl)
theorem dX10_opensOne_17 : decode cX10_opensOne 17 = .ok (.aload_n 0, 1) := dk_42 (dk_at dksX10_opensOne_0 17 rfl rfl)
theorem dX10_opensOne_18 : decode cX10_opensOne 18 = .ok (.getfield 311, 3) := dk_180 1 55 (dk_at dksX10_opensOne_0 18 rfl rfl)
theorem dX10_opensOne_21 : decode cX10_opensOne 21 = .ok (.bipush 8, 2) := dk_16 8 (dk_at dksX10_opensOne_0 21 rfl rfl)
theorem dX10_opensOne_23 : decode cX10_opensOne 23 = .ok (.if_icmp .ne 12, 3) := dk_160 0 12 (dk_at dksX10_opensOne_1 0 rfl rfl)
theorem dX10_opensOne_26 : decode cX10_opensOne 26 = .ok (.aload_n 0, 1) := dk_42 (dk_at dksX10_opensOne_1 3 rfl rfl)
theorem dX10_opensOne_27 : decode cX10_opensOne 27 = .ok (.aload_n 0, 1) := dk_42 (dk_at dksX10_opensOne_1 4 rfl rfl)
theorem dX10_opensOne_28 : decode cX10_opensOne 28 = .ok (.getfield 284, 3) := dk_180 1 28 (dk_at dksX10_opensOne_1 5 rfl rfl)
theorem dX10_opensOne_31 : decode cX10_opensOne 31 = .ok (.invokevirtual 304, 3) := dk_182 1 48 (dk_at dksX10_opensOne_1 8 rfl rfl)
theorem dX10_opensOne_34 : decode cX10_opensOne 34 = .ok (.return_, 1) := dk_177 (dk_at dksX10_opensOne_1 11 rfl rfl)
theorem dX10_opensOne_35 : decode cX10_opensOne 35 = .ok (.aload_n 0, 1) := dk_42 (dk_at dksX10_opensOne_1 12 rfl rfl)
theorem dX10_opensOne_36 : decode cX10_opensOne 36 = .ok (.dup, 1) := dk_89 (dk_at dksX10_opensOne_1 13 rfl rfl)
theorem dX10_opensOne_37 : decode cX10_opensOne 37 = .ok (.getfield 284, 3) := dk_180 1 28 (dk_at dksX10_opensOne_1 14 rfl rfl)
theorem dX10_opensOne_40 : decode cX10_opensOne 40 = .ok (.iconst 1, 1) := dk_4 (dk_at dksX10_opensOne_1 17 rfl rfl)
theorem dX10_opensOne_41 : decode cX10_opensOne 41 = .ok (.iadd, 1) := dk_96 (dk_at dksX10_opensOne_1 18 rfl rfl)
theorem dX10_opensOne_42 : decode cX10_opensOne 42 = .ok (.putfield 284, 3) := dk_181 1 28 (dk_at dksX10_opensOne_1 19 rfl rfl)
theorem dX10_opensOne_45 : decode cX10_opensOne 45 = .ok (.aload_n 0, 1) := dk_42 (dk_at dksX10_opensOne_1 22 rfl rfl)
theorem dX10_opensOne_46 : decode cX10_opensOne 46 = .ok (.dup, 1) := dk_89 (dk_at dksX10_opensOne_1 23 rfl rfl)
theorem dX10_opensOne_47 : decode cX10_opensOne 47 = .ok (.getfield 311, 3) := dk_180 1 55 (dk_at dksX10_opensOne_2 0 rfl rfl)
theorem dX10_opensOne_50 : decode cX10_opensOne 50 = .ok (.iconst 1, 1) := dk_4 (dk_at dksX10_opensOne_2 3 rfl rfl)
theorem dX10_opensOne_51 : decode cX10_opensOne 51 = .ok (.iadd, 1) := dk_96 (dk_at dksX10_opensOne_2 4 rfl rfl)
theorem dX10_opensOne_52 : decode cX10_opensOne 52 = .ok (.putfield 311, 3) := dk_181 1 55 (dk_at dksX10_opensOne_2 5 rfl rfl)
theorem dX10_opensOne_55 : decode cX10_opensOne 55 = .ok (.return_, 1) := dk_177 (dk_at dksX10_opensOne_2 8 rfl rfl)
def dkwX10_closesOne_0 : List UInt8 := [42, 16, 41, 182, 1, 58, 42, 89, 180, 1, 55, 4, 100, 181, 1, 55, 177]
abbrev dktX10_closesOne_0 : List UInt8 := dkwX10_closesOne_0 ++ []
theorem dksX10_closesOne_0 : cX10_closesOne.data.toList.drop 0 = dktX10_closesOne_0 := by decide +kernel
theorem dX10_closesOne_0 : decode cX10_closesOne 0 = .ok (.aload_n 0, 1) := dk_42 (dk_at dksX10_closesOne_0 0 rfl rfl)
theorem dX10_closesOne_1 : decode cX10_closesOne 1 = .ok (.bipush 41, 2) := dk_16 41 (dk_at dksX10_closesOne_0 1 rfl rfl)
theorem dX10_closesOne_3 : decode cX10_closesOne 3 = .ok (.invokevirtual 314, 3) := dk_182 1 58 (dk_at dksX10_closesOne_0 3 rfl rfl)
theorem dX10_closesOne_6 : decode cX10_closesOne 6 = .ok (.aload_n 0, 1) := dk_42 (dk_at dksX10_closesOne_0 6 rfl rfl)
theorem dX10_closesOne_7 : decode cX10_closesOne 7 = .ok (.dup, 1) := dk_89 (dk_at dksX10_closesOne_0 7 rfl rfl)
theorem dX10_closesOne_8 : decode cX10_closesOne 8 = .ok (.getfield 311, 3) := dk_180 1 55 (dk_at dksX10_closesOne_0 8 rfl rfl)
theorem dX10_closesOne_11 : decode cX10_closesOne 11 = .ok (.iconst 1, 1) := dk_4 (dk_at dksX10_closesOne_0 11 rfl rfl)
theorem dX10_closesOne_12 : decode cX10_closesOne 12 = .ok (.isub, 1) := dk_100 (dk_at dksX10_closesOne_0 12 rfl rfl)
theorem dX10_closesOne_13 : decode cX10_closesOne 13 = .ok (.putfield 311, 3) := dk_181 1 55 (dk_at dksX10_closesOne_0 13 rfl rfl)
theorem dX10_closesOne_16 : decode cX10_closesOne 16 = .ok (.return_, 1) := dk_177 (dk_at dksX10_closesOne_0 16 rfl rfl)
def dkwX10_need_1 : List UInt8 := [182, 1, 41, 153, 0, 13, 42, 89, 180, 1, 28, 4, 96, 181, 1, 28, 177]
abbrev dktX10_need_1 : List UInt8 := dkwX10_need_1 ++ []
def dkwX10_need_0 : List UInt8 := [42, 182, 1, 41, 153, 0, 19, 42, 182, 1, 34, 27, 159, 0, 11, 42, 42, 180, 1, 28, 182, 1, 48, 42]
abbrev dktX10_need_0 : List UInt8 := dkwX10_need_0 ++ dktX10_need_1
theorem dksX10_need_0 : cX10_need.data.toList.drop 0 = dktX10_need_0 := by decide +kernel
theorem dksX10_need_1 : cX10_need.data.toList.drop 24 = dktX10_need_1 := dk_seg dksX10_need_0 24 rfl rfl
theorem dX10_need_0 : decode cX10_need 0 = .ok (.aload_n 0, 1) := dk_42 (dk_at dksX10_need_0 0 rfl rfl)
theorem dX10_need_1 : decode cX10_need 1 = .ok (.invokevirtual 297, 3) := dk_182 1 41 (dk_at dksX10_need_0 1 rfl rfl)
theorem dX10_need_4 : decode cX10_need 4 = .ok (.ifCond .eq 19, 3) := dk_153 0 19 (dk_at dksX10_need_0 4 rfl rfl)
theorem dX10_need_7 : decode cX10_need 7 = .ok (.aload_n 0, 1) := dk_42 (dk_at dksX10_need_0 7 rfl rfl)
theorem dX10_need_8 : decode cX10_need 8 = .ok (.invokevirtual 290, 3) := dk_182 1 34 (dk_at dksX10_need_0 8 rfl rfl)
theorem dX10_need_11 : decode cX10_need 11 = .ok (.iload_n 1, 1) := dk_27 (dk_at dksX10_need_0 11 rfl rfl)
theorem dX10_need_12 : decode cX10_need 12 = .ok (.if_icmp .eq 11, 3) := dk_159 0 11 (dk_at dksX10_need_0 12 rfl rfl)
theorem dX10_need_15 : decode cX10_need 15 = .ok (.aload_n 0, 1) := dk_42 (dk_at dksX10_need_0 15 rfl rfl)
theorem dX10_need_16 : decode cX10_need 16 = .ok (.aload_n 0, 1) := dk_42 (dk_at dksX10_need_0 16 rfl rfl)
theorem dX10_need_17 : decode cX10_need 17 = .ok (.getfield 284, 3) := dk_180 1 28 (dk_at dksX10_need_0 17 rfl rfl)
theorem dX10_need_20 : decode cX10_need 20 = .ok (.invokevirtual 304, 3) := dk_182 1 48 (dk_at dksX10_need_0 20 rfl rfl)
theorem dX10_need_23 : decode cX10_need 23 = .ok (.aload_n 0, 1) := dk_42 (dk_at dksX10_need_0 23 rfl rfl)
theorem dX10_need_24 : decode cX10_need 24 = .ok (.invokevirtual 297, 3) := dk_182 1 41 (dk_at dksX10_need_1 0 rfl rfl)
theorem dX10_need_27 : decode cX10_need 27 = .ok (.ifCond .eq 13, 3) := dk_153 0 13 (dk_at dksX10_need_1 3 rfl rfl)
theorem dX10_need_30 : decode cX10_need 30 = .ok (.aload_n 0, 1) := dk_42 (dk_at dksX10_need_1 6 rfl rfl)
theorem dX10_need_31 : decode cX10_need 31 = .ok (.dup, 1) := dk_89 (dk_at dksX10_need_1 7 rfl rfl)
theorem dX10_need_32 : decode cX10_need 32 = .ok (.getfield 284, 3) := dk_180 1 28 (dk_at dksX10_need_1 8 rfl rfl)
theorem dX10_need_35 : decode cX10_need 35 = .ok (.iconst 1, 1) := dk_4 (dk_at dksX10_need_1 11 rfl rfl)
theorem dX10_need_36 : decode cX10_need 36 = .ok (.iadd, 1) := dk_96 (dk_at dksX10_need_1 12 rfl rfl)
theorem dX10_need_37 : decode cX10_need 37 = .ok (.putfield 284, 3) := dk_181 1 28 (dk_at dksX10_need_1 13 rfl rfl)
theorem dX10_need_40 : decode cX10_need 40 = .ok (.return_, 1) := dk_177 (dk_at dksX10_need_1 16 rfl rfl)
def dkwX10_branch_5 : List UInt8 := [16, 14, 3, 182, 1, 64, 177]
abbrev dktX10_branch_5 : List UInt8 := dkwX10_branch_5 ++ []
def dkwX10_branch_4 : List UInt8 := [42, 27, 16, 60, 160, 0, 8, 16, 12, 167, 0, 16, 27, 16, 62, 160, 0, 8, 16, 13, 167, 0, 5]
abbrev dktX10_branch_4 : List UInt8 := dkwX10_branch_4 ++ dktX10_branch_5
def dkwX10_branch_3 : List UInt8 := [182, 1, 71, 42, 16, 44, 182, 1, 58, 42, 182, 1, 71, 42, 182, 1, 74, 42, 182, 1, 41, 153, 0, 32]
abbrev dktX10_branch_3 : List UInt8 := dkwX10_branch_3 ++ dktX10_branch_4
def dkwX10_branch_2 : List UInt8 := [153, 0, 13, 42, 89, 180, 1, 28, 4, 96, 181, 1, 28, 42, 182, 1, 71, 42, 16, 44, 182, 1, 58, 42]
abbrev dktX10_branch_2 : List UInt8 := dkwX10_branch_2 ++ dktX10_branch_3
def dkwX10_branch_1 : List UInt8 := [16, 62, 159, 0, 17, 27, 16, 61, 159, 0, 11, 42, 42, 180, 1, 28, 182, 1, 48, 42, 182, 1, 41]
abbrev dktX10_branch_1 : List UInt8 := dkwX10_branch_1 ++ dktX10_branch_2
def dkwX10_branch_0 : List UInt8 := [42, 182, 1, 41, 153, 0, 10, 42, 182, 1, 34, 167, 0, 4, 3, 60, 27, 16, 60, 159, 0, 23, 27]
abbrev dktX10_branch_0 : List UInt8 := dkwX10_branch_0 ++ dktX10_branch_1
theorem dksX10_branch_0 : cX10_branch.data.toList.drop 0 = dktX10_branch_0 := by decide +kernel
theorem dksX10_branch_1 : cX10_branch.data.toList.drop 23 = dktX10_branch_1 := dk_seg dksX10_branch_0 23 rfl rfl
theorem dksX10_branch_2 : cX10_branch.data.toList.drop 46 = dktX10_branch_2 := dk_seg dksX10_branch_1 23 rfl rfl
theorem dksX10_branch_3 : cX10_branch.data.toList.drop 70 = dktX10_branch_3 := dk_seg dksX10_branch_2 24 rfl rfl
theorem dksX10_branch_4 : cX10_branch.data.toList.drop 94 = dktX10_branch_4 := dk_seg dksX10_branch_3 24 rfl rfl
theorem dksX10_branch_5 : cX10_branch.data.toList.drop 117 = dktX10_branch_5 := dk_seg dksX10_branch_4 23 rfl rfl
theorem dX10_branch_0 : decode cX10_branch 0 = .ok (.aload_n 0, 1) := dk_42 (dk_at dksX10_branch_0 0 rfl rfl)
theorem dX10_branch_1 : decode cX10_branch 1 = .ok (.invokevirtual 297, 3) := dk_182 1 41 (dk_at dksX10_branch_0 1 rfl rfl)
theorem dX10_branch_4 : decode cX10_branch 4 = .ok (.ifCond .eq 10, 3) := dk_153 0 10 (dk_at dksX10_branch_0 4 rfl rfl)
theorem dX10_branch_7 : decode cX10_branch 7 = .ok (.aload_n 0, 1) := dk_42 (dk_at dksX10_branch_0 7 rfl rfl)
theorem dX10_branch_8 : decode cX10_branch 8 = .ok (.invokevirtual 290, 3) := dk_182 1 34 (dk_at dksX10_branch_0 8 rfl rfl)
theorem dX10_branch_11 : decode cX10_branch 11 = .ok (.goto 4, 3) := dk_167 0 4 (dk_at dksX10_branch_0 11 rfl rfl)
theorem dX10_branch_14 : decode cX10_branch 14 = .ok (.iconst 0, 1) := dk_3 (dk_at dksX10_branch_0 14 rfl rfl)
theorem dX10_branch_15 : decode cX10_branch 15 = .ok (.istore_n 1, 1) := dk_60 (dk_at dksX10_branch_0 15 rfl rfl)
theorem dX10_branch_16 : decode cX10_branch 16 = .ok (.iload_n 1, 1) := dk_27 (dk_at dksX10_branch_0 16 rfl rfl)
theorem dX10_branch_17 : decode cX10_branch 17 = .ok (.bipush 60, 2) := dk_16 60 (dk_at dksX10_branch_0 17 rfl rfl)
theorem dX10_branch_19 : decode cX10_branch 19 = .ok (.if_icmp .eq 23, 3) := dk_159 0 23 (dk_at dksX10_branch_0 19 rfl rfl)
theorem dX10_branch_22 : decode cX10_branch 22 = .ok (.iload_n 1, 1) := dk_27 (dk_at dksX10_branch_0 22 rfl rfl)
theorem dX10_branch_23 : decode cX10_branch 23 = .ok (.bipush 62, 2) := dk_16 62 (dk_at dksX10_branch_1 0 rfl rfl)
theorem dX10_branch_25 : decode cX10_branch 25 = .ok (.if_icmp .eq 17, 3) := dk_159 0 17 (dk_at dksX10_branch_1 2 rfl rfl)
theorem dX10_branch_28 : decode cX10_branch 28 = .ok (.iload_n 1, 1) := dk_27 (dk_at dksX10_branch_1 5 rfl rfl)
theorem dX10_branch_29 : decode cX10_branch 29 = .ok (.bipush 61, 2) := dk_16 61 (dk_at dksX10_branch_1 6 rfl rfl)
theorem dX10_branch_31 : decode cX10_branch 31 = .ok (.if_icmp .eq 11, 3) := dk_159 0 11 (dk_at dksX10_branch_1 8 rfl rfl)
theorem dX10_branch_34 : decode cX10_branch 34 = .ok (.aload_n 0, 1) := dk_42 (dk_at dksX10_branch_1 11 rfl rfl)
theorem dX10_branch_35 : decode cX10_branch 35 = .ok (.aload_n 0, 1) := dk_42 (dk_at dksX10_branch_1 12 rfl rfl)
theorem dX10_branch_36 : decode cX10_branch 36 = .ok (.getfield 284, 3) := dk_180 1 28 (dk_at dksX10_branch_1 13 rfl rfl)
theorem dX10_branch_39 : decode cX10_branch 39 = .ok (.invokevirtual 304, 3) := dk_182 1 48 (dk_at dksX10_branch_1 16 rfl rfl)
theorem dX10_branch_42 : decode cX10_branch 42 = .ok (.aload_n 0, 1) := dk_42 (dk_at dksX10_branch_1 19 rfl rfl)
theorem dX10_branch_43 : decode cX10_branch 43 = .ok (.invokevirtual 297, 3) := dk_182 1 41 (dk_at dksX10_branch_1 20 rfl rfl)
theorem dX10_branch_46 : decode cX10_branch 46 = .ok (.ifCond .eq 13, 3) := dk_153 0 13 (dk_at dksX10_branch_2 0 rfl rfl)
theorem dX10_branch_49 : decode cX10_branch 49 = .ok (.aload_n 0, 1) := dk_42 (dk_at dksX10_branch_2 3 rfl rfl)
theorem dX10_branch_50 : decode cX10_branch 50 = .ok (.dup, 1) := dk_89 (dk_at dksX10_branch_2 4 rfl rfl)
theorem dX10_branch_51 : decode cX10_branch 51 = .ok (.getfield 284, 3) := dk_180 1 28 (dk_at dksX10_branch_2 5 rfl rfl)
theorem dX10_branch_54 : decode cX10_branch 54 = .ok (.iconst 1, 1) := dk_4 (dk_at dksX10_branch_2 8 rfl rfl)
theorem dX10_branch_55 : decode cX10_branch 55 = .ok (.iadd, 1) := dk_96 (dk_at dksX10_branch_2 9 rfl rfl)
theorem dX10_branch_56 : decode cX10_branch 56 = .ok (.putfield 284, 3) := dk_181 1 28 (dk_at dksX10_branch_2 10 rfl rfl)
theorem dX10_branch_59 : decode cX10_branch 59 = .ok (.aload_n 0, 1) := dk_42 (dk_at dksX10_branch_2 13 rfl rfl)
theorem dX10_branch_60 : decode cX10_branch 60 = .ok (.invokevirtual 327, 3) := dk_182 1 71 (dk_at dksX10_branch_2 14 rfl rfl)
theorem dX10_branch_63 : decode cX10_branch 63 = .ok (.aload_n 0, 1) := dk_42 (dk_at dksX10_branch_2 17 rfl rfl)
theorem dX10_branch_64 : decode cX10_branch 64 = .ok (.bipush 44, 2) := dk_16 44 (dk_at dksX10_branch_2 18 rfl rfl)
theorem dX10_branch_66 : decode cX10_branch 66 = .ok (.invokevirtual 314, 3) := dk_182 1 58 (dk_at dksX10_branch_2 20 rfl rfl)
theorem dX10_branch_69 : decode cX10_branch 69 = .ok (.aload_n 0, 1) := dk_42 (dk_at dksX10_branch_2 23 rfl rfl)
theorem dX10_branch_70 : decode cX10_branch 70 = .ok (.invokevirtual 327, 3) := dk_182 1 71 (dk_at dksX10_branch_3 0 rfl rfl)
theorem dX10_branch_73 : decode cX10_branch 73 = .ok (.aload_n 0, 1) := dk_42 (dk_at dksX10_branch_3 3 rfl rfl)
theorem dX10_branch_74 : decode cX10_branch 74 = .ok (.bipush 44, 2) := dk_16 44 (dk_at dksX10_branch_3 4 rfl rfl)
theorem dX10_branch_76 : decode cX10_branch 76 = .ok (.invokevirtual 314, 3) := dk_182 1 58 (dk_at dksX10_branch_3 6 rfl rfl)
theorem dX10_branch_79 : decode cX10_branch 79 = .ok (.aload_n 0, 1) := dk_42 (dk_at dksX10_branch_3 9 rfl rfl)
theorem dX10_branch_80 : decode cX10_branch 80 = .ok (.invokevirtual 327, 3) := dk_182 1 71 (dk_at dksX10_branch_3 10 rfl rfl)
theorem dX10_branch_83 : decode cX10_branch 83 = .ok (.aload_n 0, 1) := dk_42 (dk_at dksX10_branch_3 13 rfl rfl)
theorem dX10_branch_84 : decode cX10_branch 84 = .ok (.invokevirtual 330, 3) := dk_182 1 74 (dk_at dksX10_branch_3 14 rfl rfl)
theorem dX10_branch_87 : decode cX10_branch 87 = .ok (.aload_n 0, 1) := dk_42 (dk_at dksX10_branch_3 17 rfl rfl)
theorem dX10_branch_88 : decode cX10_branch 88 = .ok (.invokevirtual 297, 3) := dk_182 1 41 (dk_at dksX10_branch_3 18 rfl rfl)
theorem dX10_branch_91 : decode cX10_branch 91 = .ok (.ifCond .eq 32, 3) := dk_153 0 32 (dk_at dksX10_branch_3 21 rfl rfl)
theorem dX10_branch_94 : decode cX10_branch 94 = .ok (.aload_n 0, 1) := dk_42 (dk_at dksX10_branch_4 0 rfl rfl)
theorem dX10_branch_95 : decode cX10_branch 95 = .ok (.iload_n 1, 1) := dk_27 (dk_at dksX10_branch_4 1 rfl rfl)
theorem dX10_branch_96 : decode cX10_branch 96 = .ok (.bipush 60, 2) := dk_16 60 (dk_at dksX10_branch_4 2 rfl rfl)
theorem dX10_branch_98 : decode cX10_branch 98 = .ok (.if_icmp .ne 8, 3) := dk_160 0 8 (dk_at dksX10_branch_4 4 rfl rfl)
theorem dX10_branch_101 : decode cX10_branch 101 = .ok (.bipush 12, 2) := dk_16 12 (dk_at dksX10_branch_4 7 rfl rfl)
theorem dX10_branch_103 : decode cX10_branch 103 = .ok (.goto 16, 3) := dk_167 0 16 (dk_at dksX10_branch_4 9 rfl rfl)
theorem dX10_branch_106 : decode cX10_branch 106 = .ok (.iload_n 1, 1) := dk_27 (dk_at dksX10_branch_4 12 rfl rfl)
theorem dX10_branch_107 : decode cX10_branch 107 = .ok (.bipush 62, 2) := dk_16 62 (dk_at dksX10_branch_4 13 rfl rfl)
theorem dX10_branch_109 : decode cX10_branch 109 = .ok (.if_icmp .ne 8, 3) := dk_160 0 8 (dk_at dksX10_branch_4 15 rfl rfl)
theorem dX10_branch_112 : decode cX10_branch 112 = .ok (.bipush 13, 2) := dk_16 13 (dk_at dksX10_branch_4 18 rfl rfl)
theorem dX10_branch_114 : decode cX10_branch 114 = .ok (.goto 5, 3) := dk_167 0 5 (dk_at dksX10_branch_4 20 rfl rfl)
theorem dX10_branch_117 : decode cX10_branch 117 = .ok (.bipush 14, 2) := dk_16 14 (dk_at dksX10_branch_5 0 rfl rfl)
theorem dX10_branch_119 : decode cX10_branch 119 = .ok (.iconst 0, 1) := dk_3 (dk_at dksX10_branch_5 2 rfl rfl)
theorem dX10_branch_120 : decode cX10_branch 120 = .ok (.invokevirtual 320, 3) := dk_182 1 64 (dk_at dksX10_branch_5 3 rfl rfl)
theorem dX10_branch_123 : decode cX10_branch 123 = .ok (.return_, 1) := dk_177 (dk_at dksX10_branch_5 6 rfl rfl)
def dkwX10_like_1 : List UInt8 := [153, 0, 7, 4, 167, 0, 4, 3, 4, 182, 0, 214, 154, 0, 5, 3, 172, 42, 27, 28, 182, 1, 119, 172]
abbrev dktX10_like_1 : List UInt8 := dkwX10_like_1 ++ []
def dkwX10_like_0 : List UInt8 := [42, 3, 181, 0, 1, 42, 27, 3, 6, 184, 0, 210, 153, 0, 17, 28, 3, 16, 11, 184, 0, 210]
abbrev dktX10_like_0 : List UInt8 := dkwX10_like_0 ++ dktX10_like_1
theorem dksX10_like_0 : cX10_like.data.toList.drop 0 = dktX10_like_0 := by decide +kernel
theorem dksX10_like_1 : cX10_like.data.toList.drop 22 = dktX10_like_1 := dk_seg dksX10_like_0 22 rfl rfl
theorem dX10_like_0 : decode cX10_like 0 = .ok (.aload_n 0, 1) := dk_42 (dk_at dksX10_like_0 0 rfl rfl)
theorem dX10_like_1 : decode cX10_like 1 = .ok (.iconst 0, 1) := dk_3 (dk_at dksX10_like_0 1 rfl rfl)
theorem dX10_like_2 : decode cX10_like 2 = .ok (.putfield 1, 3) := dk_181 0 1 (dk_at dksX10_like_0 2 rfl rfl)
theorem dX10_like_5 : decode cX10_like 5 = .ok (.aload_n 0, 1) := dk_42 (dk_at dksX10_like_0 5 rfl rfl)
theorem dX10_like_6 : decode cX10_like 6 = .ok (.iload_n 1, 1) := dk_27 (dk_at dksX10_like_0 6 rfl rfl)
theorem dX10_like_7 : decode cX10_like 7 = .ok (.iconst 0, 1) := dk_3 (dk_at dksX10_like_0 7 rfl rfl)
theorem dX10_like_8 : decode cX10_like 8 = .ok (.iconst 3, 1) := dk_6 (dk_at dksX10_like_0 8 rfl rfl)
theorem dX10_like_9 : decode cX10_like 9 = .ok (.invokestatic 210, 3) := dk_184 0 210 (dk_at dksX10_like_0 9 rfl rfl)
theorem dX10_like_12 : decode cX10_like 12 = .ok (.ifCond .eq 17, 3) := dk_153 0 17 (dk_at dksX10_like_0 12 rfl rfl)
theorem dX10_like_15 : decode cX10_like 15 = .ok (.iload_n 2, 1) := dk_28 (dk_at dksX10_like_0 15 rfl rfl)
theorem dX10_like_16 : decode cX10_like 16 = .ok (.iconst 0, 1) := dk_3 (dk_at dksX10_like_0 16 rfl rfl)
theorem dX10_like_17 : decode cX10_like 17 = .ok (.bipush 11, 2) := dk_16 11 (dk_at dksX10_like_0 17 rfl rfl)
theorem dX10_like_19 : decode cX10_like 19 = .ok (.invokestatic 210, 3) := dk_184 0 210 (dk_at dksX10_like_0 19 rfl rfl)
theorem dX10_like_22 : decode cX10_like 22 = .ok (.ifCond .eq 7, 3) := dk_153 0 7 (dk_at dksX10_like_1 0 rfl rfl)
theorem dX10_like_25 : decode cX10_like 25 = .ok (.iconst 1, 1) := dk_4 (dk_at dksX10_like_1 3 rfl rfl)
theorem dX10_like_26 : decode cX10_like 26 = .ok (.goto 4, 3) := dk_167 0 4 (dk_at dksX10_like_1 4 rfl rfl)
theorem dX10_like_29 : decode cX10_like 29 = .ok (.iconst 0, 1) := dk_3 (dk_at dksX10_like_1 7 rfl rfl)
theorem dX10_like_30 : decode cX10_like 30 = .ok (.iconst 1, 1) := dk_4 (dk_at dksX10_like_1 8 rfl rfl)
theorem dX10_like_31 : decode cX10_like 31 = .ok (.invokevirtual 214, 3) := dk_182 0 214 (dk_at dksX10_like_1 9 rfl rfl)
theorem dX10_like_34 : decode cX10_like 34 = .ok (.ifCond .ne 5, 3) := dk_154 0 5 (dk_at dksX10_like_1 12 rfl rfl)
theorem dX10_like_37 : decode cX10_like 37 = .ok (.iconst 0, 1) := dk_3 (dk_at dksX10_like_1 15 rfl rfl)
theorem dX10_like_38 : decode cX10_like 38 = .ok (.ireturn, 1) := dk_172 (dk_at dksX10_like_1 16 rfl rfl)
theorem dX10_like_39 : decode cX10_like 39 = .ok (.aload_n 0, 1) := dk_42 (dk_at dksX10_like_1 17 rfl rfl)
theorem dX10_like_40 : decode cX10_like 40 = .ok (.iload_n 1, 1) := dk_27 (dk_at dksX10_like_1 18 rfl rfl)
theorem dX10_like_41 : decode cX10_like 41 = .ok (.iload_n 2, 1) := dk_28 (dk_at dksX10_like_1 19 rfl rfl)
theorem dX10_like_42 : decode cX10_like 42 = .ok (.invokevirtual 375, 3) := dk_182 1 119 (dk_at dksX10_like_1 20 rfl rfl)
theorem dX10_like_45 : decode cX10_like 45 = .ok (.ireturn, 1) := dk_172 (dk_at dksX10_like_1 23 rfl rfl)
def dkwX10_likeIn_1 : List UInt8 := [180, 0, 56, 27, 46, 4, 100, 96, 46, 172]
abbrev dktX10_likeIn_1 : List UInt8 := dkwX10_likeIn_1 ++ []
def dkwX10_likeIn_0 : List UInt8 := [42, 180, 0, 53, 16, 12, 27, 104, 28, 42, 180, 0, 56, 27, 46, 162, 0, 7, 28, 167, 0, 11, 42]
abbrev dktX10_likeIn_0 : List UInt8 := dkwX10_likeIn_0 ++ dktX10_likeIn_1
theorem dksX10_likeIn_0 : cX10_likeIn.data.toList.drop 0 = dktX10_likeIn_0 := by decide +kernel
theorem dksX10_likeIn_1 : cX10_likeIn.data.toList.drop 23 = dktX10_likeIn_1 := dk_seg dksX10_likeIn_0 23 rfl rfl
theorem dX10_likeIn_0 : decode cX10_likeIn 0 = .ok (.aload_n 0, 1) := dk_42 (dk_at dksX10_likeIn_0 0 rfl rfl)
theorem dX10_likeIn_1 : decode cX10_likeIn 1 = .ok (.getfield 53, 3) := dk_180 0 53 (dk_at dksX10_likeIn_0 1 rfl rfl)
theorem dX10_likeIn_4 : decode cX10_likeIn 4 = .ok (.bipush 12, 2) := dk_16 12 (dk_at dksX10_likeIn_0 4 rfl rfl)
theorem dX10_likeIn_6 : decode cX10_likeIn 6 = .ok (.iload_n 1, 1) := dk_27 (dk_at dksX10_likeIn_0 6 rfl rfl)
theorem dX10_likeIn_7 : decode cX10_likeIn 7 = .ok (.imul, 1) := dk_104 (dk_at dksX10_likeIn_0 7 rfl rfl)
theorem dX10_likeIn_8 : decode cX10_likeIn 8 = .ok (.iload_n 2, 1) := dk_28 (dk_at dksX10_likeIn_0 8 rfl rfl)
theorem dX10_likeIn_9 : decode cX10_likeIn 9 = .ok (.aload_n 0, 1) := dk_42 (dk_at dksX10_likeIn_0 9 rfl rfl)
theorem dX10_likeIn_10 : decode cX10_likeIn 10 = .ok (.getfield 56, 3) := dk_180 0 56 (dk_at dksX10_likeIn_0 10 rfl rfl)
theorem dX10_likeIn_13 : decode cX10_likeIn 13 = .ok (.iload_n 1, 1) := dk_27 (dk_at dksX10_likeIn_0 13 rfl rfl)
theorem dX10_likeIn_14 : decode cX10_likeIn 14 = .ok (.iaload, 1) := dk_46 (dk_at dksX10_likeIn_0 14 rfl rfl)
theorem dX10_likeIn_15 : decode cX10_likeIn 15 = .ok (.if_icmp .ge 7, 3) := dk_162 0 7 (dk_at dksX10_likeIn_0 15 rfl rfl)
theorem dX10_likeIn_18 : decode cX10_likeIn 18 = .ok (.iload_n 2, 1) := dk_28 (dk_at dksX10_likeIn_0 18 rfl rfl)
theorem dX10_likeIn_19 : decode cX10_likeIn 19 = .ok (.goto 11, 3) := dk_167 0 11 (dk_at dksX10_likeIn_0 19 rfl rfl)
theorem dX10_likeIn_22 : decode cX10_likeIn 22 = .ok (.aload_n 0, 1) := dk_42 (dk_at dksX10_likeIn_0 22 rfl rfl)
theorem dX10_likeIn_23 : decode cX10_likeIn 23 = .ok (.getfield 56, 3) := dk_180 0 56 (dk_at dksX10_likeIn_1 0 rfl rfl)
theorem dX10_likeIn_26 : decode cX10_likeIn 26 = .ok (.iload_n 1, 1) := dk_27 (dk_at dksX10_likeIn_1 3 rfl rfl)
theorem dX10_likeIn_27 : decode cX10_likeIn 27 = .ok (.iaload, 1) := dk_46 (dk_at dksX10_likeIn_1 4 rfl rfl)
theorem dX10_likeIn_28 : decode cX10_likeIn 28 = .ok (.iconst 1, 1) := dk_4 (dk_at dksX10_likeIn_1 5 rfl rfl)
theorem dX10_likeIn_29 : decode cX10_likeIn 29 = .ok (.isub, 1) := dk_100 (dk_at dksX10_likeIn_1 6 rfl rfl)
theorem dX10_likeIn_30 : decode cX10_likeIn 30 = .ok (.iadd, 1) := dk_96 (dk_at dksX10_likeIn_1 7 rfl rfl)
theorem dX10_likeIn_31 : decode cX10_likeIn 31 = .ok (.iaload, 1) := dk_46 (dk_at dksX10_likeIn_1 8 rfl rfl)
theorem dX10_likeIn_32 : decode cX10_likeIn 32 = .ok (.ireturn, 1) := dk_172 (dk_at dksX10_likeIn_1 9 rfl rfl)
def dkwX10_herd_4 : List UInt8 := [29, 79, 42, 89, 180, 0, 225, 4, 96, 181, 0, 225, 42, 180, 0, 225, 4, 100, 172]
abbrev dktX10_herd_4 : List UInt8 := dkwX10_herd_4 ++ []
def dkwX10_herd_3 : List UInt8 := [42, 180, 0, 225, 27, 79, 42, 180, 0, 74, 42, 180, 0, 225, 28, 79, 42, 180, 0, 77, 42, 180, 0, 225]
abbrev dktX10_herd_3 : List UInt8 := dkwX10_herd_3 ++ dktX10_herd_4
def dkwX10_herd_2 : List UInt8 := [3, 5, 182, 0, 214, 154, 0, 5, 3, 172, 42, 180, 0, 225, 7, 160, 0, 5, 2, 172, 42, 180, 0, 71]
abbrev dktX10_herd_2 : List UInt8 := dkwX10_herd_2 ++ dktX10_herd_3
def dkwX10_herd_1 : List UInt8 := [28, 4, 17, 0, 200, 184, 0, 210, 153, 0, 16, 29, 4, 6, 184, 0, 210, 153, 0, 7, 4, 167, 0, 4]
abbrev dktX10_herd_1 : List UInt8 := dkwX10_herd_1 ++ dktX10_herd_2
def dkwX10_herd_0 : List UInt8 := [42, 3, 181, 0, 1, 42, 27, 182, 0, 218, 153, 0, 46, 42, 42, 180, 0, 13, 27, 46, 4, 159, 0, 27]
abbrev dktX10_herd_0 : List UInt8 := dkwX10_herd_0 ++ dktX10_herd_1
theorem dksX10_herd_0 : cX10_herd.data.toList.drop 0 = dktX10_herd_0 := by decide +kernel
theorem dksX10_herd_1 : cX10_herd.data.toList.drop 24 = dktX10_herd_1 := dk_seg dksX10_herd_0 24 rfl rfl
theorem dksX10_herd_2 : cX10_herd.data.toList.drop 48 = dktX10_herd_2 := dk_seg dksX10_herd_1 24 rfl rfl
theorem dksX10_herd_3 : cX10_herd.data.toList.drop 72 = dktX10_herd_3 := dk_seg dksX10_herd_2 24 rfl rfl
theorem dksX10_herd_4 : cX10_herd.data.toList.drop 96 = dktX10_herd_4 := dk_seg dksX10_herd_3 24 rfl rfl
theorem dX10_herd_0 : decode cX10_herd 0 = .ok (.aload_n 0, 1) := dk_42 (dk_at dksX10_herd_0 0 rfl rfl)
theorem dX10_herd_1 : decode cX10_herd 1 = .ok (.iconst 0, 1) := dk_3 (dk_at dksX10_herd_0 1 rfl rfl)
theorem dX10_herd_2 : decode cX10_herd 2 = .ok (.putfield 1, 3) := dk_181 0 1 (dk_at dksX10_herd_0 2 rfl rfl)
theorem dX10_herd_5 : decode cX10_herd 5 = .ok (.aload_n 0, 1) := dk_42 (dk_at dksX10_herd_0 5 rfl rfl)
theorem dX10_herd_6 : decode cX10_herd 6 = .ok (.iload_n 1, 1) := dk_27 (dk_at dksX10_herd_0 6 rfl rfl)
theorem dX10_herd_7 : decode cX10_herd 7 = .ok (.invokevirtual 218, 3) := dk_182 0 218 (dk_at dksX10_herd_0 7 rfl rfl)
theorem dX10_herd_10 : decode cX10_herd 10 = .ok (.ifCond .eq 46, 3) := dk_153 0 46 (dk_at dksX10_herd_0 10 rfl rfl)
theorem dX10_herd_13 : decode cX10_herd 13 = .ok (.aload_n 0, 1) := dk_42 (dk_at dksX10_herd_0 13 rfl rfl)
theorem dX10_herd_14 : decode cX10_herd 14 = .ok (.aload_n 0, 1) := dk_42 (dk_at dksX10_herd_0 14 rfl rfl)
theorem dX10_herd_15 : decode cX10_herd 15 = .ok (.getfield 13, 3) := dk_180 0 13 (dk_at dksX10_herd_0 15 rfl rfl)
theorem dX10_herd_18 : decode cX10_herd 18 = .ok (.iload_n 1, 1) := dk_27 (dk_at dksX10_herd_0 18 rfl rfl)
theorem dX10_herd_19 : decode cX10_herd 19 = .ok (.iaload, 1) := dk_46 (dk_at dksX10_herd_0 19 rfl rfl)
theorem dX10_herd_20 : decode cX10_herd 20 = .ok (.iconst 1, 1) := dk_4 (dk_at dksX10_herd_0 20 rfl rfl)
theorem dX10_herd_21 : decode cX10_herd 21 = .ok (.if_icmp .eq 27, 3) := dk_159 0 27 (dk_at dksX10_herd_0 21 rfl rfl)
theorem dX10_herd_24 : decode cX10_herd 24 = .ok (.iload_n 2, 1) := dk_28 (dk_at dksX10_herd_1 0 rfl rfl)
theorem dX10_herd_25 : decode cX10_herd 25 = .ok (.iconst 1, 1) := dk_4 (dk_at dksX10_herd_1 1 rfl rfl)
theorem dX10_herd_26 : decode cX10_herd 26 = .ok (.sipush 200, 3) := dk_17 0 200 (dk_at dksX10_herd_1 2 rfl rfl)
theorem dX10_herd_29 : decode cX10_herd 29 = .ok (.invokestatic 210, 3) := dk_184 0 210 (dk_at dksX10_herd_1 5 rfl rfl)
theorem dX10_herd_32 : decode cX10_herd 32 = .ok (.ifCond .eq 16, 3) := dk_153 0 16 (dk_at dksX10_herd_1 8 rfl rfl)
theorem dX10_herd_35 : decode cX10_herd 35 = .ok (.iload_n 3, 1) := dk_29 (dk_at dksX10_herd_1 11 rfl rfl)
theorem dX10_herd_36 : decode cX10_herd 36 = .ok (.iconst 1, 1) := dk_4 (dk_at dksX10_herd_1 12 rfl rfl)
theorem dX10_herd_37 : decode cX10_herd 37 = .ok (.iconst 3, 1) := dk_6 (dk_at dksX10_herd_1 13 rfl rfl)
theorem dX10_herd_38 : decode cX10_herd 38 = .ok (.invokestatic 210, 3) := dk_184 0 210 (dk_at dksX10_herd_1 14 rfl rfl)
theorem dX10_herd_41 : decode cX10_herd 41 = .ok (.ifCond .eq 7, 3) := dk_153 0 7 (dk_at dksX10_herd_1 17 rfl rfl)
theorem dX10_herd_44 : decode cX10_herd 44 = .ok (.iconst 1, 1) := dk_4 (dk_at dksX10_herd_1 20 rfl rfl)
theorem dX10_herd_45 : decode cX10_herd 45 = .ok (.goto 4, 3) := dk_167 0 4 (dk_at dksX10_herd_1 21 rfl rfl)
theorem dX10_herd_48 : decode cX10_herd 48 = .ok (.iconst 0, 1) := dk_3 (dk_at dksX10_herd_2 0 rfl rfl)
theorem dX10_herd_49 : decode cX10_herd 49 = .ok (.iconst 2, 1) := dk_5 (dk_at dksX10_herd_2 1 rfl rfl)
theorem dX10_herd_50 : decode cX10_herd 50 = .ok (.invokevirtual 214, 3) := dk_182 0 214 (dk_at dksX10_herd_2 2 rfl rfl)
theorem dX10_herd_53 : decode cX10_herd 53 = .ok (.ifCond .ne 5, 3) := dk_154 0 5 (dk_at dksX10_herd_2 5 rfl rfl)
theorem dX10_herd_56 : decode cX10_herd 56 = .ok (.iconst 0, 1) := dk_3 (dk_at dksX10_herd_2 8 rfl rfl)
theorem dX10_herd_57 : decode cX10_herd 57 = .ok (.ireturn, 1) := dk_172 (dk_at dksX10_herd_2 9 rfl rfl)
theorem dX10_herd_58 : decode cX10_herd 58 = .ok (.aload_n 0, 1) := dk_42 (dk_at dksX10_herd_2 10 rfl rfl)
theorem dX10_herd_59 : decode cX10_herd 59 = .ok (.getfield 225, 3) := dk_180 0 225 (dk_at dksX10_herd_2 11 rfl rfl)
theorem dX10_herd_62 : decode cX10_herd 62 = .ok (.iconst 4, 1) := dk_7 (dk_at dksX10_herd_2 14 rfl rfl)
theorem dX10_herd_63 : decode cX10_herd 63 = .ok (.if_icmp .ne 5, 3) := dk_160 0 5 (dk_at dksX10_herd_2 15 rfl rfl)
theorem dX10_herd_66 : decode cX10_herd 66 = .ok (.iconst (-1), 1) := dk_2 (dk_at dksX10_herd_2 18 rfl rfl)
theorem dX10_herd_67 : decode cX10_herd 67 = .ok (.ireturn, 1) := dk_172 (dk_at dksX10_herd_2 19 rfl rfl)
theorem dX10_herd_68 : decode cX10_herd 68 = .ok (.aload_n 0, 1) := dk_42 (dk_at dksX10_herd_2 20 rfl rfl)
theorem dX10_herd_69 : decode cX10_herd 69 = .ok (.getfield 71, 3) := dk_180 0 71 (dk_at dksX10_herd_2 21 rfl rfl)
theorem dX10_herd_72 : decode cX10_herd 72 = .ok (.aload_n 0, 1) := dk_42 (dk_at dksX10_herd_3 0 rfl rfl)
theorem dX10_herd_73 : decode cX10_herd 73 = .ok (.getfield 225, 3) := dk_180 0 225 (dk_at dksX10_herd_3 1 rfl rfl)
theorem dX10_herd_76 : decode cX10_herd 76 = .ok (.iload_n 1, 1) := dk_27 (dk_at dksX10_herd_3 4 rfl rfl)
theorem dX10_herd_77 : decode cX10_herd 77 = .ok (.iastore, 1) := dk_79 (dk_at dksX10_herd_3 5 rfl rfl)
theorem dX10_herd_78 : decode cX10_herd 78 = .ok (.aload_n 0, 1) := dk_42 (dk_at dksX10_herd_3 6 rfl rfl)
theorem dX10_herd_79 : decode cX10_herd 79 = .ok (.getfield 74, 3) := dk_180 0 74 (dk_at dksX10_herd_3 7 rfl rfl)
theorem dX10_herd_82 : decode cX10_herd 82 = .ok (.aload_n 0, 1) := dk_42 (dk_at dksX10_herd_3 10 rfl rfl)
theorem dX10_herd_83 : decode cX10_herd 83 = .ok (.getfield 225, 3) := dk_180 0 225 (dk_at dksX10_herd_3 11 rfl rfl)
theorem dX10_herd_86 : decode cX10_herd 86 = .ok (.iload_n 2, 1) := dk_28 (dk_at dksX10_herd_3 14 rfl rfl)
theorem dX10_herd_87 : decode cX10_herd 87 = .ok (.iastore, 1) := dk_79 (dk_at dksX10_herd_3 15 rfl rfl)
theorem dX10_herd_88 : decode cX10_herd 88 = .ok (.aload_n 0, 1) := dk_42 (dk_at dksX10_herd_3 16 rfl rfl)
theorem dX10_herd_89 : decode cX10_herd 89 = .ok (.getfield 77, 3) := dk_180 0 77 (dk_at dksX10_herd_3 17 rfl rfl)
theorem dX10_herd_92 : decode cX10_herd 92 = .ok (.aload_n 0, 1) := dk_42 (dk_at dksX10_herd_3 20 rfl rfl)
theorem dX10_herd_93 : decode cX10_herd 93 = .ok (.getfield 225, 3) := dk_180 0 225 (dk_at dksX10_herd_3 21 rfl rfl)
theorem dX10_herd_96 : decode cX10_herd 96 = .ok (.iload_n 3, 1) := dk_29 (dk_at dksX10_herd_4 0 rfl rfl)
theorem dX10_herd_97 : decode cX10_herd 97 = .ok (.iastore, 1) := dk_79 (dk_at dksX10_herd_4 1 rfl rfl)
theorem dX10_herd_98 : decode cX10_herd 98 = .ok (.aload_n 0, 1) := dk_42 (dk_at dksX10_herd_4 2 rfl rfl)
theorem dX10_herd_99 : decode cX10_herd 99 = .ok (.dup, 1) := dk_89 (dk_at dksX10_herd_4 3 rfl rfl)
theorem dX10_herd_100 : decode cX10_herd 100 = .ok (.getfield 225, 3) := dk_180 0 225 (dk_at dksX10_herd_4 4 rfl rfl)
theorem dX10_herd_103 : decode cX10_herd 103 = .ok (.iconst 1, 1) := dk_4 (dk_at dksX10_herd_4 7 rfl rfl)
theorem dX10_herd_104 : decode cX10_herd 104 = .ok (.iadd, 1) := dk_96 (dk_at dksX10_herd_4 8 rfl rfl)
theorem dX10_herd_105 : decode cX10_herd 105 = .ok (.putfield 225, 3) := dk_181 0 225 (dk_at dksX10_herd_4 9 rfl rfl)
theorem dX10_herd_108 : decode cX10_herd 108 = .ok (.aload_n 0, 1) := dk_42 (dk_at dksX10_herd_4 12 rfl rfl)
theorem dX10_herd_109 : decode cX10_herd 109 = .ok (.getfield 225, 3) := dk_180 0 225 (dk_at dksX10_herd_4 13 rfl rfl)
theorem dX10_herd_112 : decode cX10_herd 112 = .ok (.iconst 1, 1) := dk_4 (dk_at dksX10_herd_4 16 rfl rfl)
theorem dX10_herd_113 : decode cX10_herd 113 = .ok (.isub, 1) := dk_100 (dk_at dksX10_herd_4 17 rfl rfl)
theorem dX10_herd_114 : decode cX10_herd 114 = .ok (.ireturn, 1) := dk_172 (dk_at dksX10_herd_4 18 rfl rfl)
def dkwX10_cost_2 : List UInt8 := [180, 0, 89, 28, 46, 19, 1, 122, 160, 0, 7, 2, 167, 0, 9, 42, 180, 0, 89, 28, 46, 172]
abbrev dktX10_cost_2 : List UInt8 := dkwX10_cost_2 ++ []
def dkwX10_cost_1 : List UInt8 := [182, 0, 214, 154, 0, 5, 3, 172, 42, 182, 1, 138, 42, 42, 180, 0, 71, 27, 46, 182, 1, 141, 42]
abbrev dktX10_cost_1 : List UInt8 := dkwX10_cost_1 ++ dktX10_cost_2
def dkwX10_cost_0 : List UInt8 := [42, 3, 181, 0, 1, 42, 27, 182, 1, 135, 153, 0, 18, 42, 28, 3, 16, 63, 184, 0, 210, 5]
abbrev dktX10_cost_0 : List UInt8 := dkwX10_cost_0 ++ dktX10_cost_1
theorem dksX10_cost_0 : cX10_cost.data.toList.drop 0 = dktX10_cost_0 := by decide +kernel
theorem dksX10_cost_1 : cX10_cost.data.toList.drop 22 = dktX10_cost_1 := dk_seg dksX10_cost_0 22 rfl rfl
theorem dksX10_cost_2 : cX10_cost.data.toList.drop 45 = dktX10_cost_2 := dk_seg dksX10_cost_1 23 rfl rfl
theorem dX10_cost_0 : decode cX10_cost 0 = .ok (.aload_n 0, 1) := dk_42 (dk_at dksX10_cost_0 0 rfl rfl)
theorem dX10_cost_1 : decode cX10_cost 1 = .ok (.iconst 0, 1) := dk_3 (dk_at dksX10_cost_0 1 rfl rfl)
theorem dX10_cost_2 : decode cX10_cost 2 = .ok (.putfield 1, 3) := dk_181 0 1 (dk_at dksX10_cost_0 2 rfl rfl)
theorem dX10_cost_5 : decode cX10_cost 5 = .ok (.aload_n 0, 1) := dk_42 (dk_at dksX10_cost_0 5 rfl rfl)
theorem dX10_cost_6 : decode cX10_cost 6 = .ok (.iload_n 1, 1) := dk_27 (dk_at dksX10_cost_0 6 rfl rfl)
theorem dX10_cost_7 : decode cX10_cost 7 = .ok (.invokevirtual 391, 3) := dk_182 1 135 (dk_at dksX10_cost_0 7 rfl rfl)
theorem dX10_cost_10 : decode cX10_cost 10 = .ok (.ifCond .eq 18, 3) := dk_153 0 18 (dk_at dksX10_cost_0 10 rfl rfl)
theorem dX10_cost_13 : decode cX10_cost 13 = .ok (.aload_n 0, 1) := dk_42 (dk_at dksX10_cost_0 13 rfl rfl)
theorem dX10_cost_14 : decode cX10_cost 14 = .ok (.iload_n 2, 1) := dk_28 (dk_at dksX10_cost_0 14 rfl rfl)
theorem dX10_cost_15 : decode cX10_cost 15 = .ok (.iconst 0, 1) := dk_3 (dk_at dksX10_cost_0 15 rfl rfl)
theorem dX10_cost_16 : decode cX10_cost 16 = .ok (.bipush 63, 2) := dk_16 63 (dk_at dksX10_cost_0 16 rfl rfl)
theorem dX10_cost_18 : decode cX10_cost 18 = .ok (.invokestatic 210, 3) := dk_184 0 210 (dk_at dksX10_cost_0 18 rfl rfl)
theorem dX10_cost_21 : decode cX10_cost 21 = .ok (.iconst 2, 1) := dk_5 (dk_at dksX10_cost_0 21 rfl rfl)
theorem dX10_cost_22 : decode cX10_cost 22 = .ok (.invokevirtual 214, 3) := dk_182 0 214 (dk_at dksX10_cost_1 0 rfl rfl)
theorem dX10_cost_25 : decode cX10_cost 25 = .ok (.ifCond .ne 5, 3) := dk_154 0 5 (dk_at dksX10_cost_1 3 rfl rfl)
theorem dX10_cost_28 : decode cX10_cost 28 = .ok (.iconst 0, 1) := dk_3 (dk_at dksX10_cost_1 6 rfl rfl)
theorem dX10_cost_29 : decode cX10_cost 29 = .ok (.ireturn, 1) := dk_172 (dk_at dksX10_cost_1 7 rfl rfl)
theorem dX10_cost_30 : decode cX10_cost 30 = .ok (.aload_n 0, 1) := dk_42 (dk_at dksX10_cost_1 8 rfl rfl)
theorem dX10_cost_31 : decode cX10_cost 31 = .ok (.invokevirtual 394, 3) := dk_182 1 138 (dk_at dksX10_cost_1 9 rfl rfl)
theorem dX10_cost_34 : decode cX10_cost 34 = .ok (.aload_n 0, 1) := dk_42 (dk_at dksX10_cost_1 12 rfl rfl)
theorem dX10_cost_35 : decode cX10_cost 35 = .ok (.aload_n 0, 1) := dk_42 (dk_at dksX10_cost_1 13 rfl rfl)
theorem dX10_cost_36 : decode cX10_cost 36 = .ok (.getfield 71, 3) := dk_180 0 71 (dk_at dksX10_cost_1 14 rfl rfl)
theorem dX10_cost_39 : decode cX10_cost 39 = .ok (.iload_n 1, 1) := dk_27 (dk_at dksX10_cost_1 17 rfl rfl)
theorem dX10_cost_40 : decode cX10_cost 40 = .ok (.iaload, 1) := dk_46 (dk_at dksX10_cost_1 18 rfl rfl)
theorem dX10_cost_41 : decode cX10_cost 41 = .ok (.invokevirtual 397, 3) := dk_182 1 141 (dk_at dksX10_cost_1 19 rfl rfl)
theorem dX10_cost_44 : decode cX10_cost 44 = .ok (.aload_n 0, 1) := dk_42 (dk_at dksX10_cost_1 22 rfl rfl)
theorem dX10_cost_45 : decode cX10_cost 45 = .ok (.getfield 89, 3) := dk_180 0 89 (dk_at dksX10_cost_2 0 rfl rfl)
theorem dX10_cost_48 : decode cX10_cost 48 = .ok (.iload_n 2, 1) := dk_28 (dk_at dksX10_cost_2 3 rfl rfl)
theorem dX10_cost_49 : decode cX10_cost 49 = .ok (.iaload, 1) := dk_46 (dk_at dksX10_cost_2 4 rfl rfl)
theorem dX10_cost_50 : decode cX10_cost 50 = .ok (.ldc_w 378, 3) := dk_19 1 122 (dk_at dksX10_cost_2 5 rfl rfl)
theorem dX10_cost_53 : decode cX10_cost 53 = .ok (.if_icmp .ne 7, 3) := dk_160 0 7 (dk_at dksX10_cost_2 8 rfl rfl)
theorem dX10_cost_56 : decode cX10_cost 56 = .ok (.iconst (-1), 1) := dk_2 (dk_at dksX10_cost_2 11 rfl rfl)
theorem dX10_cost_57 : decode cX10_cost 57 = .ok (.goto 9, 3) := dk_167 0 9 (dk_at dksX10_cost_2 12 rfl rfl)
theorem dX10_cost_60 : decode cX10_cost 60 = .ok (.aload_n 0, 1) := dk_42 (dk_at dksX10_cost_2 15 rfl rfl)
theorem dX10_cost_61 : decode cX10_cost 61 = .ok (.getfield 89, 3) := dk_180 0 89 (dk_at dksX10_cost_2 16 rfl rfl)
theorem dX10_cost_64 : decode cX10_cost 64 = .ok (.iload_n 2, 1) := dk_28 (dk_at dksX10_cost_2 19 rfl rfl)
theorem dX10_cost_65 : decode cX10_cost 65 = .ok (.iaload, 1) := dk_46 (dk_at dksX10_cost_2 20 rfl rfl)
theorem dX10_cost_66 : decode cX10_cost 66 = .ok (.ireturn, 1) := dk_172 (dk_at dksX10_cost_2 21 rfl rfl)
def dkwX10_isHerd_0 : List UInt8 := [42, 27, 3, 42, 180, 0, 225, 4, 100, 184, 0, 210, 4, 182, 0, 214, 172]
abbrev dktX10_isHerd_0 : List UInt8 := dkwX10_isHerd_0 ++ []
theorem dksX10_isHerd_0 : cX10_isHerd.data.toList.drop 0 = dktX10_isHerd_0 := by decide +kernel
theorem dX10_isHerd_0 : decode cX10_isHerd 0 = .ok (.aload_n 0, 1) := dk_42 (dk_at dksX10_isHerd_0 0 rfl rfl)
theorem dX10_isHerd_1 : decode cX10_isHerd 1 = .ok (.iload_n 1, 1) := dk_27 (dk_at dksX10_isHerd_0 1 rfl rfl)
theorem dX10_isHerd_2 : decode cX10_isHerd 2 = .ok (.iconst 0, 1) := dk_3 (dk_at dksX10_isHerd_0 2 rfl rfl)
theorem dX10_isHerd_3 : decode cX10_isHerd 3 = .ok (.aload_n 0, 1) := dk_42 (dk_at dksX10_isHerd_0 3 rfl rfl)
theorem dX10_isHerd_4 : decode cX10_isHerd 4 = .ok (.getfield 225, 3) := dk_180 0 225 (dk_at dksX10_isHerd_0 4 rfl rfl)
theorem dX10_isHerd_7 : decode cX10_isHerd 7 = .ok (.iconst 1, 1) := dk_4 (dk_at dksX10_isHerd_0 7 rfl rfl)
theorem dX10_isHerd_8 : decode cX10_isHerd 8 = .ok (.isub, 1) := dk_100 (dk_at dksX10_isHerd_0 8 rfl rfl)
theorem dX10_isHerd_9 : decode cX10_isHerd 9 = .ok (.invokestatic 210, 3) := dk_184 0 210 (dk_at dksX10_isHerd_0 9 rfl rfl)
theorem dX10_isHerd_12 : decode cX10_isHerd 12 = .ok (.iconst 1, 1) := dk_4 (dk_at dksX10_isHerd_0 12 rfl rfl)
theorem dX10_isHerd_13 : decode cX10_isHerd 13 = .ok (.invokevirtual 214, 3) := dk_182 0 214 (dk_at dksX10_isHerd_0 13 rfl rfl)
theorem dX10_isHerd_16 : decode cX10_isHerd 16 = .ok (.ireturn, 1) := dk_172 (dk_at dksX10_isHerd_0 16 rfl rfl)
def dkwX10_setScene_3 : List UInt8 := [27, 46, 79, 132, 1, 1, 167, 255, 234, 177]
abbrev dktX10_setScene_3 : List UInt8 := dkwX10_setScene_3 ++ []
def dkwX10_setScene_2 : List UInt8 := [132, 1, 1, 167, 255, 209, 3, 60, 27, 17, 0, 128, 162, 0, 21, 42, 180, 0, 83, 27, 42, 180, 0, 29]
abbrev dktX10_setScene_2 : List UInt8 := dkwX10_setScene_2 ++ dktX10_setScene_3
def dkwX10_setScene_1 : List UInt8 := [180, 0, 23, 27, 46, 167, 0, 4, 3, 79, 42, 180, 0, 86, 27, 42, 180, 0, 26, 27, 46, 79]
abbrev dktX10_setScene_1 : List UInt8 := dkwX10_setScene_1 ++ dktX10_setScene_2
def dkwX10_setScene_0 : List UInt8 := [3, 60, 27, 16, 64, 162, 0, 47, 42, 180, 0, 80, 27, 42, 180, 0, 13, 27, 46, 5, 160, 0, 12, 42]
abbrev dktX10_setScene_0 : List UInt8 := dkwX10_setScene_0 ++ dktX10_setScene_1
theorem dksX10_setScene_0 : cX10_setScene.data.toList.drop 0 = dktX10_setScene_0 := by decide +kernel
theorem dksX10_setScene_1 : cX10_setScene.data.toList.drop 24 = dktX10_setScene_1 := dk_seg dksX10_setScene_0 24 rfl rfl
theorem dksX10_setScene_2 : cX10_setScene.data.toList.drop 46 = dktX10_setScene_2 := dk_seg dksX10_setScene_1 22 rfl rfl
theorem dksX10_setScene_3 : cX10_setScene.data.toList.drop 70 = dktX10_setScene_3 := dk_seg dksX10_setScene_2 24 rfl rfl
theorem dX10_setScene_0 : decode cX10_setScene 0 = .ok (.iconst 0, 1) := dk_3 (dk_at dksX10_setScene_0 0 rfl rfl)
theorem dX10_setScene_1 : decode cX10_setScene 1 = .ok (.istore_n 1, 1) := dk_60 (dk_at dksX10_setScene_0 1 rfl rfl)
theorem dX10_setScene_2 : decode cX10_setScene 2 = .ok (.iload_n 1, 1) := dk_27 (dk_at dksX10_setScene_0 2 rfl rfl)
theorem dX10_setScene_3 : decode cX10_setScene 3 = .ok (.bipush 64, 2) := dk_16 64 (dk_at dksX10_setScene_0 3 rfl rfl)
theorem dX10_setScene_5 : decode cX10_setScene 5 = .ok (.if_icmp .ge 47, 3) := dk_162 0 47 (dk_at dksX10_setScene_0 5 rfl rfl)
theorem dX10_setScene_8 : decode cX10_setScene 8 = .ok (.aload_n 0, 1) := dk_42 (dk_at dksX10_setScene_0 8 rfl rfl)
theorem dX10_setScene_9 : decode cX10_setScene 9 = .ok (.getfield 80, 3) := dk_180 0 80 (dk_at dksX10_setScene_0 9 rfl rfl)
theorem dX10_setScene_12 : decode cX10_setScene 12 = .ok (.iload_n 1, 1) := dk_27 (dk_at dksX10_setScene_0 12 rfl rfl)
theorem dX10_setScene_13 : decode cX10_setScene 13 = .ok (.aload_n 0, 1) := dk_42 (dk_at dksX10_setScene_0 13 rfl rfl)
theorem dX10_setScene_14 : decode cX10_setScene 14 = .ok (.getfield 13, 3) := dk_180 0 13 (dk_at dksX10_setScene_0 14 rfl rfl)
theorem dX10_setScene_17 : decode cX10_setScene 17 = .ok (.iload_n 1, 1) := dk_27 (dk_at dksX10_setScene_0 17 rfl rfl)
theorem dX10_setScene_18 : decode cX10_setScene 18 = .ok (.iaload, 1) := dk_46 (dk_at dksX10_setScene_0 18 rfl rfl)
theorem dX10_setScene_19 : decode cX10_setScene 19 = .ok (.iconst 2, 1) := dk_5 (dk_at dksX10_setScene_0 19 rfl rfl)
theorem dX10_setScene_20 : decode cX10_setScene 20 = .ok (.if_icmp .ne 12, 3) := dk_160 0 12 (dk_at dksX10_setScene_0 20 rfl rfl)
theorem dX10_setScene_23 : decode cX10_setScene 23 = .ok (.aload_n 0, 1) := dk_42 (dk_at dksX10_setScene_0 23 rfl rfl)
theorem dX10_setScene_24 : decode cX10_setScene 24 = .ok (.getfield 23, 3) := dk_180 0 23 (dk_at dksX10_setScene_1 0 rfl rfl)
theorem dX10_setScene_27 : decode cX10_setScene 27 = .ok (.iload_n 1, 1) := dk_27 (dk_at dksX10_setScene_1 3 rfl rfl)
theorem dX10_setScene_28 : decode cX10_setScene 28 = .ok (.iaload, 1) := dk_46 (dk_at dksX10_setScene_1 4 rfl rfl)
theorem dX10_setScene_29 : decode cX10_setScene 29 = .ok (.goto 4, 3) := dk_167 0 4 (dk_at dksX10_setScene_1 5 rfl rfl)
theorem dX10_setScene_32 : decode cX10_setScene 32 = .ok (.iconst 0, 1) := dk_3 (dk_at dksX10_setScene_1 8 rfl rfl)
theorem dX10_setScene_33 : decode cX10_setScene 33 = .ok (.iastore, 1) := dk_79 (dk_at dksX10_setScene_1 9 rfl rfl)
theorem dX10_setScene_34 : decode cX10_setScene 34 = .ok (.aload_n 0, 1) := dk_42 (dk_at dksX10_setScene_1 10 rfl rfl)
theorem dX10_setScene_35 : decode cX10_setScene 35 = .ok (.getfield 86, 3) := dk_180 0 86 (dk_at dksX10_setScene_1 11 rfl rfl)
theorem dX10_setScene_38 : decode cX10_setScene 38 = .ok (.iload_n 1, 1) := dk_27 (dk_at dksX10_setScene_1 14 rfl rfl)
theorem dX10_setScene_39 : decode cX10_setScene 39 = .ok (.aload_n 0, 1) := dk_42 (dk_at dksX10_setScene_1 15 rfl rfl)
theorem dX10_setScene_40 : decode cX10_setScene 40 = .ok (.getfield 26, 3) := dk_180 0 26 (dk_at dksX10_setScene_1 16 rfl rfl)
theorem dX10_setScene_43 : decode cX10_setScene 43 = .ok (.iload_n 1, 1) := dk_27 (dk_at dksX10_setScene_1 19 rfl rfl)
theorem dX10_setScene_44 : decode cX10_setScene 44 = .ok (.iaload, 1) := dk_46 (dk_at dksX10_setScene_1 20 rfl rfl)
theorem dX10_setScene_45 : decode cX10_setScene 45 = .ok (.iastore, 1) := dk_79 (dk_at dksX10_setScene_1 21 rfl rfl)
theorem dX10_setScene_46 : decode cX10_setScene 46 = .ok (.iinc 1 1, 3) := dk_132 1 1 (dk_at dksX10_setScene_2 0 rfl rfl)
theorem dX10_setScene_49 : decode cX10_setScene 49 = .ok (.goto (-47), 3) := dk_167 255 209 (dk_at dksX10_setScene_2 3 rfl rfl)
theorem dX10_setScene_52 : decode cX10_setScene 52 = .ok (.iconst 0, 1) := dk_3 (dk_at dksX10_setScene_2 6 rfl rfl)
theorem dX10_setScene_53 : decode cX10_setScene 53 = .ok (.istore_n 1, 1) := dk_60 (dk_at dksX10_setScene_2 7 rfl rfl)
theorem dX10_setScene_54 : decode cX10_setScene 54 = .ok (.iload_n 1, 1) := dk_27 (dk_at dksX10_setScene_2 8 rfl rfl)
theorem dX10_setScene_55 : decode cX10_setScene 55 = .ok (.sipush 128, 3) := dk_17 0 128 (dk_at dksX10_setScene_2 9 rfl rfl)
theorem dX10_setScene_58 : decode cX10_setScene 58 = .ok (.if_icmp .ge 21, 3) := dk_162 0 21 (dk_at dksX10_setScene_2 12 rfl rfl)
theorem dX10_setScene_61 : decode cX10_setScene 61 = .ok (.aload_n 0, 1) := dk_42 (dk_at dksX10_setScene_2 15 rfl rfl)
theorem dX10_setScene_62 : decode cX10_setScene 62 = .ok (.getfield 83, 3) := dk_180 0 83 (dk_at dksX10_setScene_2 16 rfl rfl)
theorem dX10_setScene_65 : decode cX10_setScene 65 = .ok (.iload_n 1, 1) := dk_27 (dk_at dksX10_setScene_2 19 rfl rfl)
theorem dX10_setScene_66 : decode cX10_setScene 66 = .ok (.aload_n 0, 1) := dk_42 (dk_at dksX10_setScene_2 20 rfl rfl)
theorem dX10_setScene_67 : decode cX10_setScene 67 = .ok (.getfield 29, 3) := dk_180 0 29 (dk_at dksX10_setScene_2 21 rfl rfl)
theorem dX10_setScene_70 : decode cX10_setScene 70 = .ok (.iload_n 1, 1) := dk_27 (dk_at dksX10_setScene_3 0 rfl rfl)
theorem dX10_setScene_71 : decode cX10_setScene 71 = .ok (.iaload, 1) := dk_46 (dk_at dksX10_setScene_3 1 rfl rfl)
theorem dX10_setScene_72 : decode cX10_setScene 72 = .ok (.iastore, 1) := dk_79 (dk_at dksX10_setScene_3 2 rfl rfl)
theorem dX10_setScene_73 : decode cX10_setScene 73 = .ok (.iinc 1 1, 3) := dk_132 1 1 (dk_at dksX10_setScene_3 3 rfl rfl)
theorem dX10_setScene_76 : decode cX10_setScene 76 = .ok (.goto (-22), 3) := dk_167 255 234 (dk_at dksX10_setScene_3 6 rfl rfl)
theorem dX10_setScene_79 : decode cX10_setScene 79 = .ok (.return_, 1) := dk_177 (dk_at dksX10_setScene_3 9 rfl rfl)
def dkwX10_findCosts_6 : List UInt8 := [4, 61, 132, 4, 1, 167, 255, 172, 132, 3, 1, 167, 255, 142, 167, 255, 131, 177]
abbrev dktX10_findCosts_6 : List UInt8 := dkwX10_findCosts_6 ++ []
def dkwX10_findCosts_5 : List UInt8 := [167, 0, 26, 42, 180, 0, 89, 21, 5, 42, 180, 0, 89, 29, 46, 42, 29, 21, 5, 182, 1, 126, 96, 79]
abbrev dktX10_findCosts_5 : List UInt8 := dkwX10_findCosts_5 ++ dktX10_findCosts_6
def dkwX10_findCosts_4 : List UInt8 := [42, 180, 0, 89, 29, 46, 42, 29, 21, 5, 182, 1, 126, 96, 42, 180, 0, 89, 21, 5, 46, 161, 0, 6]
abbrev dktX10_findCosts_4 : List UInt8 := dkwX10_findCosts_4 ++ dktX10_findCosts_5
def dkwX10_findCosts_3 : List UInt8 := [21, 4, 184, 1, 123, 54, 5, 21, 5, 2, 159, 0, 64, 42, 180, 0, 13, 21, 5, 46, 4, 159, 0, 53]
abbrev dktX10_findCosts_3 : List UInt8 := dkwX10_findCosts_3 ++ dktX10_findCosts_4
def dkwX10_findCosts_2 : List UInt8 := [180, 0, 89, 29, 46, 19, 1, 122, 160, 0, 6, 167, 0, 93, 3, 54, 4, 21, 4, 7, 162, 0, 84, 29]
abbrev dktX10_findCosts_2 : List UInt8 := dkwX10_findCosts_2 ++ dktX10_findCosts_3
def dkwX10_findCosts_1 : List UInt8 := [180, 0, 89, 27, 3, 79, 4, 61, 28, 153, 0, 127, 3, 61, 3, 62, 29, 16, 64, 162, 0, 114, 42]
abbrev dktX10_findCosts_1 : List UInt8 := dkwX10_findCosts_1 ++ dktX10_findCosts_2
def dkwX10_findCosts_0 : List UInt8 := [3, 61, 28, 16, 64, 162, 0, 18, 42, 180, 0, 89, 28, 19, 1, 122, 79, 132, 2, 1, 167, 255, 238, 42]
abbrev dktX10_findCosts_0 : List UInt8 := dkwX10_findCosts_0 ++ dktX10_findCosts_1
theorem dksX10_findCosts_0 : cX10_findCosts.data.toList.drop 0 = dktX10_findCosts_0 := by decide +kernel
theorem dksX10_findCosts_1 : cX10_findCosts.data.toList.drop 24 = dktX10_findCosts_1 := dk_seg dksX10_findCosts_0 24 rfl rfl
theorem dksX10_findCosts_2 : cX10_findCosts.data.toList.drop 47 = dktX10_findCosts_2 := dk_seg dksX10_findCosts_1 23 rfl rfl
theorem dksX10_findCosts_3 : cX10_findCosts.data.toList.drop 71 = dktX10_findCosts_3 := dk_seg dksX10_findCosts_2 24 rfl rfl
theorem dksX10_findCosts_4 : cX10_findCosts.data.toList.drop 95 = dktX10_findCosts_4 := dk_seg dksX10_findCosts_3 24 rfl rfl
theorem dksX10_findCosts_5 : cX10_findCosts.data.toList.drop 119 = dktX10_findCosts_5 := dk_seg dksX10_findCosts_4 24 rfl rfl
theorem dksX10_findCosts_6 : cX10_findCosts.data.toList.drop 143 = dktX10_findCosts_6 := dk_seg dksX10_findCosts_5 24 rfl rfl
theorem dX10_findCosts_0 : decode cX10_findCosts 0 = .ok (.iconst 0, 1) := dk_3 (dk_at dksX10_findCosts_0 0 rfl rfl)
theorem dX10_findCosts_1 : decode cX10_findCosts 1 = .ok (.istore_n 2, 1) := dk_61 (dk_at dksX10_findCosts_0 1 rfl rfl)
theorem dX10_findCosts_2 : decode cX10_findCosts 2 = .ok (.iload_n 2, 1) := dk_28 (dk_at dksX10_findCosts_0 2 rfl rfl)
theorem dX10_findCosts_3 : decode cX10_findCosts 3 = .ok (.bipush 64, 2) := dk_16 64 (dk_at dksX10_findCosts_0 3 rfl rfl)
theorem dX10_findCosts_5 : decode cX10_findCosts 5 = .ok (.if_icmp .ge 18, 3) := dk_162 0 18 (dk_at dksX10_findCosts_0 5 rfl rfl)
theorem dX10_findCosts_8 : decode cX10_findCosts 8 = .ok (.aload_n 0, 1) := dk_42 (dk_at dksX10_findCosts_0 8 rfl rfl)
theorem dX10_findCosts_9 : decode cX10_findCosts 9 = .ok (.getfield 89, 3) := dk_180 0 89 (dk_at dksX10_findCosts_0 9 rfl rfl)
theorem dX10_findCosts_12 : decode cX10_findCosts 12 = .ok (.iload_n 2, 1) := dk_28 (dk_at dksX10_findCosts_0 12 rfl rfl)
theorem dX10_findCosts_13 : decode cX10_findCosts 13 = .ok (.ldc_w 378, 3) := dk_19 1 122 (dk_at dksX10_findCosts_0 13 rfl rfl)
theorem dX10_findCosts_16 : decode cX10_findCosts 16 = .ok (.iastore, 1) := dk_79 (dk_at dksX10_findCosts_0 16 rfl rfl)
theorem dX10_findCosts_17 : decode cX10_findCosts 17 = .ok (.iinc 2 1, 3) := dk_132 2 1 (dk_at dksX10_findCosts_0 17 rfl rfl)
theorem dX10_findCosts_20 : decode cX10_findCosts 20 = .ok (.goto (-18), 3) := dk_167 255 238 (dk_at dksX10_findCosts_0 20 rfl rfl)
theorem dX10_findCosts_23 : decode cX10_findCosts 23 = .ok (.aload_n 0, 1) := dk_42 (dk_at dksX10_findCosts_0 23 rfl rfl)
theorem dX10_findCosts_24 : decode cX10_findCosts 24 = .ok (.getfield 89, 3) := dk_180 0 89 (dk_at dksX10_findCosts_1 0 rfl rfl)
theorem dX10_findCosts_27 : decode cX10_findCosts 27 = .ok (.iload_n 1, 1) := dk_27 (dk_at dksX10_findCosts_1 3 rfl rfl)
theorem dX10_findCosts_28 : decode cX10_findCosts 28 = .ok (.iconst 0, 1) := dk_3 (dk_at dksX10_findCosts_1 4 rfl rfl)
theorem dX10_findCosts_29 : decode cX10_findCosts 29 = .ok (.iastore, 1) := dk_79 (dk_at dksX10_findCosts_1 5 rfl rfl)
theorem dX10_findCosts_30 : decode cX10_findCosts 30 = .ok (.iconst 1, 1) := dk_4 (dk_at dksX10_findCosts_1 6 rfl rfl)
theorem dX10_findCosts_31 : decode cX10_findCosts 31 = .ok (.istore_n 2, 1) := dk_61 (dk_at dksX10_findCosts_1 7 rfl rfl)
theorem dX10_findCosts_32 : decode cX10_findCosts 32 = .ok (.iload_n 2, 1) := dk_28 (dk_at dksX10_findCosts_1 8 rfl rfl)
theorem dX10_findCosts_33 : decode cX10_findCosts 33 = .ok (.ifCond .eq 127, 3) := dk_153 0 127 (dk_at dksX10_findCosts_1 9 rfl rfl)
theorem dX10_findCosts_36 : decode cX10_findCosts 36 = .ok (.iconst 0, 1) := dk_3 (dk_at dksX10_findCosts_1 12 rfl rfl)
theorem dX10_findCosts_37 : decode cX10_findCosts 37 = .ok (.istore_n 2, 1) := dk_61 (dk_at dksX10_findCosts_1 13 rfl rfl)
theorem dX10_findCosts_38 : decode cX10_findCosts 38 = .ok (.iconst 0, 1) := dk_3 (dk_at dksX10_findCosts_1 14 rfl rfl)
theorem dX10_findCosts_39 : decode cX10_findCosts 39 = .ok (.istore_n 3, 1) := dk_62 (dk_at dksX10_findCosts_1 15 rfl rfl)
theorem dX10_findCosts_40 : decode cX10_findCosts 40 = .ok (.iload_n 3, 1) := dk_29 (dk_at dksX10_findCosts_1 16 rfl rfl)
theorem dX10_findCosts_41 : decode cX10_findCosts 41 = .ok (.bipush 64, 2) := dk_16 64 (dk_at dksX10_findCosts_1 17 rfl rfl)
theorem dX10_findCosts_43 : decode cX10_findCosts 43 = .ok (.if_icmp .ge 114, 3) := dk_162 0 114 (dk_at dksX10_findCosts_1 19 rfl rfl)
theorem dX10_findCosts_46 : decode cX10_findCosts 46 = .ok (.aload_n 0, 1) := dk_42 (dk_at dksX10_findCosts_1 22 rfl rfl)
theorem dX10_findCosts_47 : decode cX10_findCosts 47 = .ok (.getfield 89, 3) := dk_180 0 89 (dk_at dksX10_findCosts_2 0 rfl rfl)
theorem dX10_findCosts_50 : decode cX10_findCosts 50 = .ok (.iload_n 3, 1) := dk_29 (dk_at dksX10_findCosts_2 3 rfl rfl)
theorem dX10_findCosts_51 : decode cX10_findCosts 51 = .ok (.iaload, 1) := dk_46 (dk_at dksX10_findCosts_2 4 rfl rfl)
theorem dX10_findCosts_52 : decode cX10_findCosts 52 = .ok (.ldc_w 378, 3) := dk_19 1 122 (dk_at dksX10_findCosts_2 5 rfl rfl)
theorem dX10_findCosts_55 : decode cX10_findCosts 55 = .ok (.if_icmp .ne 6, 3) := dk_160 0 6 (dk_at dksX10_findCosts_2 8 rfl rfl)
theorem dX10_findCosts_58 : decode cX10_findCosts 58 = .ok (.goto 93, 3) := dk_167 0 93 (dk_at dksX10_findCosts_2 11 rfl rfl)
theorem dX10_findCosts_61 : decode cX10_findCosts 61 = .ok (.iconst 0, 1) := dk_3 (dk_at dksX10_findCosts_2 14 rfl rfl)
theorem dX10_findCosts_62 : decode cX10_findCosts 62 = .ok (.istore 4, 2) := dk_54 4 (dk_at dksX10_findCosts_2 15 rfl rfl)
theorem dX10_findCosts_64 : decode cX10_findCosts 64 = .ok (.iload 4, 2) := dk_21 4 (dk_at dksX10_findCosts_2 17 rfl rfl)
theorem dX10_findCosts_66 : decode cX10_findCosts 66 = .ok (.iconst 4, 1) := dk_7 (dk_at dksX10_findCosts_2 19 rfl rfl)
theorem dX10_findCosts_67 : decode cX10_findCosts 67 = .ok (.if_icmp .ge 84, 3) := dk_162 0 84 (dk_at dksX10_findCosts_2 20 rfl rfl)
theorem dX10_findCosts_70 : decode cX10_findCosts 70 = .ok (.iload_n 3, 1) := dk_29 (dk_at dksX10_findCosts_2 23 rfl rfl)
theorem dX10_findCosts_71 : decode cX10_findCosts 71 = .ok (.iload 4, 2) := dk_21 4 (dk_at dksX10_findCosts_3 0 rfl rfl)
theorem dX10_findCosts_73 : decode cX10_findCosts 73 = .ok (.invokestatic 379, 3) := dk_184 1 123 (dk_at dksX10_findCosts_3 2 rfl rfl)
theorem dX10_findCosts_76 : decode cX10_findCosts 76 = .ok (.istore 5, 2) := dk_54 5 (dk_at dksX10_findCosts_3 5 rfl rfl)
theorem dX10_findCosts_78 : decode cX10_findCosts 78 = .ok (.iload 5, 2) := dk_21 5 (dk_at dksX10_findCosts_3 7 rfl rfl)
theorem dX10_findCosts_80 : decode cX10_findCosts 80 = .ok (.iconst (-1), 1) := dk_2 (dk_at dksX10_findCosts_3 9 rfl rfl)
theorem dX10_findCosts_81 : decode cX10_findCosts 81 = .ok (.if_icmp .eq 64, 3) := dk_159 0 64 (dk_at dksX10_findCosts_3 10 rfl rfl)
theorem dX10_findCosts_84 : decode cX10_findCosts 84 = .ok (.aload_n 0, 1) := dk_42 (dk_at dksX10_findCosts_3 13 rfl rfl)
theorem dX10_findCosts_85 : decode cX10_findCosts 85 = .ok (.getfield 13, 3) := dk_180 0 13 (dk_at dksX10_findCosts_3 14 rfl rfl)
theorem dX10_findCosts_88 : decode cX10_findCosts 88 = .ok (.iload 5, 2) := dk_21 5 (dk_at dksX10_findCosts_3 17 rfl rfl)
theorem dX10_findCosts_90 : decode cX10_findCosts 90 = .ok (.iaload, 1) := dk_46 (dk_at dksX10_findCosts_3 19 rfl rfl)
theorem dX10_findCosts_91 : decode cX10_findCosts 91 = .ok (.iconst 1, 1) := dk_4 (dk_at dksX10_findCosts_3 20 rfl rfl)
theorem dX10_findCosts_92 : decode cX10_findCosts 92 = .ok (.if_icmp .eq 53, 3) := dk_159 0 53 (dk_at dksX10_findCosts_3 21 rfl rfl)
theorem dX10_findCosts_95 : decode cX10_findCosts 95 = .ok (.aload_n 0, 1) := dk_42 (dk_at dksX10_findCosts_4 0 rfl rfl)
theorem dX10_findCosts_96 : decode cX10_findCosts 96 = .ok (.getfield 89, 3) := dk_180 0 89 (dk_at dksX10_findCosts_4 1 rfl rfl)
theorem dX10_findCosts_99 : decode cX10_findCosts 99 = .ok (.iload_n 3, 1) := dk_29 (dk_at dksX10_findCosts_4 4 rfl rfl)
theorem dX10_findCosts_100 : decode cX10_findCosts 100 = .ok (.iaload, 1) := dk_46 (dk_at dksX10_findCosts_4 5 rfl rfl)
theorem dX10_findCosts_101 : decode cX10_findCosts 101 = .ok (.aload_n 0, 1) := dk_42 (dk_at dksX10_findCosts_4 6 rfl rfl)
theorem dX10_findCosts_102 : decode cX10_findCosts 102 = .ok (.iload_n 3, 1) := dk_29 (dk_at dksX10_findCosts_4 7 rfl rfl)
theorem dX10_findCosts_103 : decode cX10_findCosts 103 = .ok (.iload 5, 2) := dk_21 5 (dk_at dksX10_findCosts_4 8 rfl rfl)
theorem dX10_findCosts_105 : decode cX10_findCosts 105 = .ok (.invokevirtual 382, 3) := dk_182 1 126 (dk_at dksX10_findCosts_4 10 rfl rfl)
theorem dX10_findCosts_108 : decode cX10_findCosts 108 = .ok (.iadd, 1) := dk_96 (dk_at dksX10_findCosts_4 13 rfl rfl)
theorem dX10_findCosts_109 : decode cX10_findCosts 109 = .ok (.aload_n 0, 1) := dk_42 (dk_at dksX10_findCosts_4 14 rfl rfl)
theorem dX10_findCosts_110 : decode cX10_findCosts 110 = .ok (.getfield 89, 3) := dk_180 0 89 (dk_at dksX10_findCosts_4 15 rfl rfl)
theorem dX10_findCosts_113 : decode cX10_findCosts 113 = .ok (.iload 5, 2) := dk_21 5 (dk_at dksX10_findCosts_4 18 rfl rfl)
theorem dX10_findCosts_115 : decode cX10_findCosts 115 = .ok (.iaload, 1) := dk_46 (dk_at dksX10_findCosts_4 20 rfl rfl)
theorem dX10_findCosts_116 : decode cX10_findCosts 116 = .ok (.if_icmp .lt 6, 3) := dk_161 0 6 (dk_at dksX10_findCosts_4 21 rfl rfl)
theorem dX10_findCosts_119 : decode cX10_findCosts 119 = .ok (.goto 26, 3) := dk_167 0 26 (dk_at dksX10_findCosts_5 0 rfl rfl)
theorem dX10_findCosts_122 : decode cX10_findCosts 122 = .ok (.aload_n 0, 1) := dk_42 (dk_at dksX10_findCosts_5 3 rfl rfl)
theorem dX10_findCosts_123 : decode cX10_findCosts 123 = .ok (.getfield 89, 3) := dk_180 0 89 (dk_at dksX10_findCosts_5 4 rfl rfl)
theorem dX10_findCosts_126 : decode cX10_findCosts 126 = .ok (.iload 5, 2) := dk_21 5 (dk_at dksX10_findCosts_5 7 rfl rfl)
theorem dX10_findCosts_128 : decode cX10_findCosts 128 = .ok (.aload_n 0, 1) := dk_42 (dk_at dksX10_findCosts_5 9 rfl rfl)
theorem dX10_findCosts_129 : decode cX10_findCosts 129 = .ok (.getfield 89, 3) := dk_180 0 89 (dk_at dksX10_findCosts_5 10 rfl rfl)
theorem dX10_findCosts_132 : decode cX10_findCosts 132 = .ok (.iload_n 3, 1) := dk_29 (dk_at dksX10_findCosts_5 13 rfl rfl)
theorem dX10_findCosts_133 : decode cX10_findCosts 133 = .ok (.iaload, 1) := dk_46 (dk_at dksX10_findCosts_5 14 rfl rfl)
theorem dX10_findCosts_134 : decode cX10_findCosts 134 = .ok (.aload_n 0, 1) := dk_42 (dk_at dksX10_findCosts_5 15 rfl rfl)
theorem dX10_findCosts_135 : decode cX10_findCosts 135 = .ok (.iload_n 3, 1) := dk_29 (dk_at dksX10_findCosts_5 16 rfl rfl)
theorem dX10_findCosts_136 : decode cX10_findCosts 136 = .ok (.iload 5, 2) := dk_21 5 (dk_at dksX10_findCosts_5 17 rfl rfl)
theorem dX10_findCosts_138 : decode cX10_findCosts 138 = .ok (.invokevirtual 382, 3) := dk_182 1 126 (dk_at dksX10_findCosts_5 19 rfl rfl)
theorem dX10_findCosts_141 : decode cX10_findCosts 141 = .ok (.iadd, 1) := dk_96 (dk_at dksX10_findCosts_5 22 rfl rfl)
theorem dX10_findCosts_142 : decode cX10_findCosts 142 = .ok (.iastore, 1) := dk_79 (dk_at dksX10_findCosts_5 23 rfl rfl)
theorem dX10_findCosts_143 : decode cX10_findCosts 143 = .ok (.iconst 1, 1) := dk_4 (dk_at dksX10_findCosts_6 0 rfl rfl)
theorem dX10_findCosts_144 : decode cX10_findCosts 144 = .ok (.istore_n 2, 1) := dk_61 (dk_at dksX10_findCosts_6 1 rfl rfl)
theorem dX10_findCosts_145 : decode cX10_findCosts 145 = .ok (.iinc 4 1, 3) := dk_132 4 1 (dk_at dksX10_findCosts_6 2 rfl rfl)
theorem dX10_findCosts_148 : decode cX10_findCosts 148 = .ok (.goto (-84), 3) := dk_167 255 172 (dk_at dksX10_findCosts_6 5 rfl rfl)
theorem dX10_findCosts_151 : decode cX10_findCosts 151 = .ok (.iinc 3 1, 3) := dk_132 3 1 (dk_at dksX10_findCosts_6 8 rfl rfl)
theorem dX10_findCosts_154 : decode cX10_findCosts 154 = .ok (.goto (-114), 3) := dk_167 255 142 (dk_at dksX10_findCosts_6 11 rfl rfl)
theorem dX10_findCosts_157 : decode cX10_findCosts 157 = .ok (.goto (-125), 3) := dk_167 255 131 (dk_at dksX10_findCosts_6 14 rfl rfl)
theorem dX10_findCosts_160 : decode cX10_findCosts 160 = .ok (.return_, 1) := dk_177 (dk_at dksX10_findCosts_6 17 rfl rfl)
def dkwX10_neighbour_4 : List UInt8 := [16, 56, 162, 0, 10, 26, 16, 8, 96, 167, 0, 4, 2, 172]
abbrev dktX10_neighbour_4 : List UInt8 := dkwX10_neighbour_4 ++ []
def dkwX10_neighbour_3 : List UInt8 := [100, 167, 0, 4, 2, 172, 26, 16, 8, 112, 16, 7, 162, 0, 9, 26, 4, 96, 167, 0, 4, 2, 172, 26]
abbrev dktX10_neighbour_3 : List UInt8 := dkwX10_neighbour_3 ++ dktX10_neighbour_4
def dkwX10_neighbour_2 : List UInt8 := [26, 16, 8, 161, 0, 10, 26, 16, 8, 100, 167, 0, 4, 2, 172, 26, 16, 8, 112, 158, 0, 9, 26, 4]
abbrev dktX10_neighbour_2 : List UInt8 := dkwX10_neighbour_2 ++ dktX10_neighbour_3
def dkwX10_neighbour_1 : List UInt8 := [170, 0, 0, 0, 0, 0, 74, 0, 0, 0, 0, 0, 0, 0, 2, 0, 0, 0, 27, 0, 0, 0, 42, 0, 0, 0, 57]
abbrev dktX10_neighbour_1 : List UInt8 := dkwX10_neighbour_1 ++ dktX10_neighbour_2
def dkwX10_neighbour_0 : List UInt8 := [27]
abbrev dktX10_neighbour_0 : List UInt8 := dkwX10_neighbour_0 ++ dktX10_neighbour_1
theorem dksX10_neighbour_0 : cX10_neighbour.data.toList.drop 0 = dktX10_neighbour_0 := by decide +kernel
theorem dksX10_neighbour_1 : cX10_neighbour.data.toList.drop 1 = dktX10_neighbour_1 := dk_seg dksX10_neighbour_0 1 rfl rfl
theorem dksX10_neighbour_2 : cX10_neighbour.data.toList.drop 28 = dktX10_neighbour_2 := dk_seg dksX10_neighbour_1 27 rfl rfl
theorem dksX10_neighbour_3 : cX10_neighbour.data.toList.drop 52 = dktX10_neighbour_3 := dk_seg dksX10_neighbour_2 24 rfl rfl
theorem dksX10_neighbour_4 : cX10_neighbour.data.toList.drop 76 = dktX10_neighbour_4 := dk_seg dksX10_neighbour_3 24 rfl rfl
theorem dX10_neighbour_0 : decode cX10_neighbour 0 = .ok (.iload_n 1, 1) := dk_27 (dk_at dksX10_neighbour_0 0 rfl rfl)
theorem dX10_neighbour_1 : decode cX10_neighbour 1 = .ok (.tableswitch 74 0 2 #[27, 42, 57], 27) := by decide +kernel
theorem dX10_neighbour_28 : decode cX10_neighbour 28 = .ok (.iload_n 0, 1) := dk_26 (dk_at dksX10_neighbour_2 0 rfl rfl)
theorem dX10_neighbour_29 : decode cX10_neighbour 29 = .ok (.bipush 8, 2) := dk_16 8 (dk_at dksX10_neighbour_2 1 rfl rfl)
theorem dX10_neighbour_31 : decode cX10_neighbour 31 = .ok (.if_icmp .lt 10, 3) := dk_161 0 10 (dk_at dksX10_neighbour_2 3 rfl rfl)
theorem dX10_neighbour_34 : decode cX10_neighbour 34 = .ok (.iload_n 0, 1) := dk_26 (dk_at dksX10_neighbour_2 6 rfl rfl)
theorem dX10_neighbour_35 : decode cX10_neighbour 35 = .ok (.bipush 8, 2) := dk_16 8 (dk_at dksX10_neighbour_2 7 rfl rfl)
theorem dX10_neighbour_37 : decode cX10_neighbour 37 = .ok (.isub, 1) := dk_100 (dk_at dksX10_neighbour_2 9 rfl rfl)
theorem dX10_neighbour_38 : decode cX10_neighbour 38 = .ok (.goto 4, 3) := dk_167 0 4 (dk_at dksX10_neighbour_2 10 rfl rfl)
theorem dX10_neighbour_41 : decode cX10_neighbour 41 = .ok (.iconst (-1), 1) := dk_2 (dk_at dksX10_neighbour_2 13 rfl rfl)
theorem dX10_neighbour_42 : decode cX10_neighbour 42 = .ok (.ireturn, 1) := dk_172 (dk_at dksX10_neighbour_2 14 rfl rfl)
theorem dX10_neighbour_43 : decode cX10_neighbour 43 = .ok (.iload_n 0, 1) := dk_26 (dk_at dksX10_neighbour_2 15 rfl rfl)
theorem dX10_neighbour_44 : decode cX10_neighbour 44 = .ok (.bipush 8, 2) := dk_16 8 (dk_at dksX10_neighbour_2 16 rfl rfl)
theorem dX10_neighbour_46 : decode cX10_neighbour 46 = .ok (.irem, 1) := dk_112 (dk_at dksX10_neighbour_2 18 rfl rfl)
theorem dX10_neighbour_47 : decode cX10_neighbour 47 = .ok (.ifCond .le 9, 3) := dk_158 0 9 (dk_at dksX10_neighbour_2 19 rfl rfl)
theorem dX10_neighbour_50 : decode cX10_neighbour 50 = .ok (.iload_n 0, 1) := dk_26 (dk_at dksX10_neighbour_2 22 rfl rfl)
theorem dX10_neighbour_51 : decode cX10_neighbour 51 = .ok (.iconst 1, 1) := dk_4 (dk_at dksX10_neighbour_2 23 rfl rfl)
theorem dX10_neighbour_52 : decode cX10_neighbour 52 = .ok (.isub, 1) := dk_100 (dk_at dksX10_neighbour_3 0 rfl rfl)
theorem dX10_neighbour_53 : decode cX10_neighbour 53 = .ok (.goto 4, 3) := dk_167 0 4 (dk_at dksX10_neighbour_3 1 rfl rfl)
theorem dX10_neighbour_56 : decode cX10_neighbour 56 = .ok (.iconst (-1), 1) := dk_2 (dk_at dksX10_neighbour_3 4 rfl rfl)
theorem dX10_neighbour_57 : decode cX10_neighbour 57 = .ok (.ireturn, 1) := dk_172 (dk_at dksX10_neighbour_3 5 rfl rfl)
theorem dX10_neighbour_58 : decode cX10_neighbour 58 = .ok (.iload_n 0, 1) := dk_26 (dk_at dksX10_neighbour_3 6 rfl rfl)
theorem dX10_neighbour_59 : decode cX10_neighbour 59 = .ok (.bipush 8, 2) := dk_16 8 (dk_at dksX10_neighbour_3 7 rfl rfl)
theorem dX10_neighbour_61 : decode cX10_neighbour 61 = .ok (.irem, 1) := dk_112 (dk_at dksX10_neighbour_3 9 rfl rfl)
theorem dX10_neighbour_62 : decode cX10_neighbour 62 = .ok (.bipush 7, 2) := dk_16 7 (dk_at dksX10_neighbour_3 10 rfl rfl)
theorem dX10_neighbour_64 : decode cX10_neighbour 64 = .ok (.if_icmp .ge 9, 3) := dk_162 0 9 (dk_at dksX10_neighbour_3 12 rfl rfl)
theorem dX10_neighbour_67 : decode cX10_neighbour 67 = .ok (.iload_n 0, 1) := dk_26 (dk_at dksX10_neighbour_3 15 rfl rfl)
theorem dX10_neighbour_68 : decode cX10_neighbour 68 = .ok (.iconst 1, 1) := dk_4 (dk_at dksX10_neighbour_3 16 rfl rfl)
theorem dX10_neighbour_69 : decode cX10_neighbour 69 = .ok (.iadd, 1) := dk_96 (dk_at dksX10_neighbour_3 17 rfl rfl)
theorem dX10_neighbour_70 : decode cX10_neighbour 70 = .ok (.goto 4, 3) := dk_167 0 4 (dk_at dksX10_neighbour_3 18 rfl rfl)
theorem dX10_neighbour_73 : decode cX10_neighbour 73 = .ok (.iconst (-1), 1) := dk_2 (dk_at dksX10_neighbour_3 21 rfl rfl)
theorem dX10_neighbour_74 : decode cX10_neighbour 74 = .ok (.ireturn, 1) := dk_172 (dk_at dksX10_neighbour_3 22 rfl rfl)
theorem dX10_neighbour_75 : decode cX10_neighbour 75 = .ok (.iload_n 0, 1) := dk_26 (dk_at dksX10_neighbour_3 23 rfl rfl)
theorem dX10_neighbour_76 : decode cX10_neighbour 76 = .ok (.bipush 56, 2) := dk_16 56 (dk_at dksX10_neighbour_4 0 rfl rfl)
theorem dX10_neighbour_78 : decode cX10_neighbour 78 = .ok (.if_icmp .ge 10, 3) := dk_162 0 10 (dk_at dksX10_neighbour_4 2 rfl rfl)
theorem dX10_neighbour_81 : decode cX10_neighbour 81 = .ok (.iload_n 0, 1) := dk_26 (dk_at dksX10_neighbour_4 5 rfl rfl)
theorem dX10_neighbour_82 : decode cX10_neighbour 82 = .ok (.bipush 8, 2) := dk_16 8 (dk_at dksX10_neighbour_4 6 rfl rfl)
theorem dX10_neighbour_84 : decode cX10_neighbour 84 = .ok (.iadd, 1) := dk_96 (dk_at dksX10_neighbour_4 8 rfl rfl)
theorem dX10_neighbour_85 : decode cX10_neighbour 85 = .ok (.goto 4, 3) := dk_167 0 4 (dk_at dksX10_neighbour_4 9 rfl rfl)
theorem dX10_neighbour_88 : decode cX10_neighbour 88 = .ok (.iconst (-1), 1) := dk_2 (dk_at dksX10_neighbour_4 12 rfl rfl)
theorem dX10_neighbour_89 : decode cX10_neighbour 89 = .ok (.ireturn, 1) := dk_172 (dk_at dksX10_neighbour_4 13 rfl rfl)
def dkwX10_stepCost_0 : List UInt8 := [42, 180, 1, 7, 42, 180, 0, 83, 27, 28, 184, 0, 232, 46, 96, 42, 180, 0, 86, 28, 46, 96, 172]
abbrev dktX10_stepCost_0 : List UInt8 := dkwX10_stepCost_0 ++ []
theorem dksX10_stepCost_0 : cX10_stepCost.data.toList.drop 0 = dktX10_stepCost_0 := by decide +kernel
theorem dX10_stepCost_0 : decode cX10_stepCost 0 = .ok (.aload_n 0, 1) := dk_42 (dk_at dksX10_stepCost_0 0 rfl rfl)
theorem dX10_stepCost_1 : decode cX10_stepCost 1 = .ok (.getfield 263, 3) := dk_180 1 7 (dk_at dksX10_stepCost_0 1 rfl rfl)
theorem dX10_stepCost_4 : decode cX10_stepCost 4 = .ok (.aload_n 0, 1) := dk_42 (dk_at dksX10_stepCost_0 4 rfl rfl)
theorem dX10_stepCost_5 : decode cX10_stepCost 5 = .ok (.getfield 83, 3) := dk_180 0 83 (dk_at dksX10_stepCost_0 5 rfl rfl)
theorem dX10_stepCost_8 : decode cX10_stepCost 8 = .ok (.iload_n 1, 1) := dk_27 (dk_at dksX10_stepCost_0 8 rfl rfl)
theorem dX10_stepCost_9 : decode cX10_stepCost 9 = .ok (.iload_n 2, 1) := dk_28 (dk_at dksX10_stepCost_0 9 rfl rfl)
theorem dX10_stepCost_10 : decode cX10_stepCost 10 = .ok (.invokestatic 232, 3) := dk_184 0 232 (dk_at dksX10_stepCost_0 10 rfl rfl)
theorem dX10_stepCost_13 : decode cX10_stepCost 13 = .ok (.iaload, 1) := dk_46 (dk_at dksX10_stepCost_0 13 rfl rfl)
theorem dX10_stepCost_14 : decode cX10_stepCost 14 = .ok (.iadd, 1) := dk_96 (dk_at dksX10_stepCost_0 14 rfl rfl)
theorem dX10_stepCost_15 : decode cX10_stepCost 15 = .ok (.aload_n 0, 1) := dk_42 (dk_at dksX10_stepCost_0 15 rfl rfl)
theorem dX10_stepCost_16 : decode cX10_stepCost 16 = .ok (.getfield 86, 3) := dk_180 0 86 (dk_at dksX10_stepCost_0 16 rfl rfl)
theorem dX10_stepCost_19 : decode cX10_stepCost 19 = .ok (.iload_n 2, 1) := dk_28 (dk_at dksX10_stepCost_0 19 rfl rfl)
theorem dX10_stepCost_20 : decode cX10_stepCost 20 = .ok (.iaload, 1) := dk_46 (dk_at dksX10_stepCost_0 20 rfl rfl)
theorem dX10_stepCost_21 : decode cX10_stepCost 21 = .ok (.iadd, 1) := dk_96 (dk_at dksX10_stepCost_0 21 rfl rfl)
theorem dX10_stepCost_22 : decode cX10_stepCost 22 = .ok (.ireturn, 1) := dk_172 (dk_at dksX10_stepCost_0 22 rfl rfl)
def dkwX10_way_2 : List UInt8 := [3, 42, 180, 1, 129, 4, 100, 184, 0, 210, 153, 0, 12, 42, 180, 0, 95, 29, 46, 167, 0, 4, 2, 172]
abbrev dktX10_way_2 : List UInt8 := dkwX10_way_2 ++ []
def dkwX10_way_1 : List UInt8 := [182, 0, 214, 154, 0, 5, 3, 172, 42, 182, 1, 138, 42, 42, 180, 0, 71, 27, 46, 28, 182, 1, 144, 29]
abbrev dktX10_way_1 : List UInt8 := dkwX10_way_1 ++ dktX10_way_2
def dkwX10_way_0 : List UInt8 := [42, 3, 181, 0, 1, 42, 27, 182, 1, 135, 153, 0, 18, 42, 28, 3, 16, 63, 184, 0, 210, 5]
abbrev dktX10_way_0 : List UInt8 := dkwX10_way_0 ++ dktX10_way_1
theorem dksX10_way_0 : cX10_way.data.toList.drop 0 = dktX10_way_0 := by decide +kernel
theorem dksX10_way_1 : cX10_way.data.toList.drop 22 = dktX10_way_1 := dk_seg dksX10_way_0 22 rfl rfl
theorem dksX10_way_2 : cX10_way.data.toList.drop 46 = dktX10_way_2 := dk_seg dksX10_way_1 24 rfl rfl
theorem dX10_way_0 : decode cX10_way 0 = .ok (.aload_n 0, 1) := dk_42 (dk_at dksX10_way_0 0 rfl rfl)
theorem dX10_way_1 : decode cX10_way 1 = .ok (.iconst 0, 1) := dk_3 (dk_at dksX10_way_0 1 rfl rfl)
theorem dX10_way_2 : decode cX10_way 2 = .ok (.putfield 1, 3) := dk_181 0 1 (dk_at dksX10_way_0 2 rfl rfl)
theorem dX10_way_5 : decode cX10_way 5 = .ok (.aload_n 0, 1) := dk_42 (dk_at dksX10_way_0 5 rfl rfl)
theorem dX10_way_6 : decode cX10_way 6 = .ok (.iload_n 1, 1) := dk_27 (dk_at dksX10_way_0 6 rfl rfl)
theorem dX10_way_7 : decode cX10_way 7 = .ok (.invokevirtual 391, 3) := dk_182 1 135 (dk_at dksX10_way_0 7 rfl rfl)
theorem dX10_way_10 : decode cX10_way 10 = .ok (.ifCond .eq 18, 3) := dk_153 0 18 (dk_at dksX10_way_0 10 rfl rfl)
theorem dX10_way_13 : decode cX10_way 13 = .ok (.aload_n 0, 1) := dk_42 (dk_at dksX10_way_0 13 rfl rfl)
theorem dX10_way_14 : decode cX10_way 14 = .ok (.iload_n 2, 1) := dk_28 (dk_at dksX10_way_0 14 rfl rfl)
theorem dX10_way_15 : decode cX10_way 15 = .ok (.iconst 0, 1) := dk_3 (dk_at dksX10_way_0 15 rfl rfl)
theorem dX10_way_16 : decode cX10_way 16 = .ok (.bipush 63, 2) := dk_16 63 (dk_at dksX10_way_0 16 rfl rfl)
theorem dX10_way_18 : decode cX10_way 18 = .ok (.invokestatic 210, 3) := dk_184 0 210 (dk_at dksX10_way_0 18 rfl rfl)
theorem dX10_way_21 : decode cX10_way 21 = .ok (.iconst 2, 1) := dk_5 (dk_at dksX10_way_0 21 rfl rfl)
theorem dX10_way_22 : decode cX10_way 22 = .ok (.invokevirtual 214, 3) := dk_182 0 214 (dk_at dksX10_way_1 0 rfl rfl)
theorem dX10_way_25 : decode cX10_way 25 = .ok (.ifCond .ne 5, 3) := dk_154 0 5 (dk_at dksX10_way_1 3 rfl rfl)
theorem dX10_way_28 : decode cX10_way 28 = .ok (.iconst 0, 1) := dk_3 (dk_at dksX10_way_1 6 rfl rfl)
theorem dX10_way_29 : decode cX10_way 29 = .ok (.ireturn, 1) := dk_172 (dk_at dksX10_way_1 7 rfl rfl)
theorem dX10_way_30 : decode cX10_way 30 = .ok (.aload_n 0, 1) := dk_42 (dk_at dksX10_way_1 8 rfl rfl)
theorem dX10_way_31 : decode cX10_way 31 = .ok (.invokevirtual 394, 3) := dk_182 1 138 (dk_at dksX10_way_1 9 rfl rfl)
theorem dX10_way_34 : decode cX10_way 34 = .ok (.aload_n 0, 1) := dk_42 (dk_at dksX10_way_1 12 rfl rfl)
theorem dX10_way_35 : decode cX10_way 35 = .ok (.aload_n 0, 1) := dk_42 (dk_at dksX10_way_1 13 rfl rfl)
theorem dX10_way_36 : decode cX10_way 36 = .ok (.getfield 71, 3) := dk_180 0 71 (dk_at dksX10_way_1 14 rfl rfl)
theorem dX10_way_39 : decode cX10_way 39 = .ok (.iload_n 1, 1) := dk_27 (dk_at dksX10_way_1 17 rfl rfl)
theorem dX10_way_40 : decode cX10_way 40 = .ok (.iaload, 1) := dk_46 (dk_at dksX10_way_1 18 rfl rfl)
theorem dX10_way_41 : decode cX10_way 41 = .ok (.iload_n 2, 1) := dk_28 (dk_at dksX10_way_1 19 rfl rfl)
theorem dX10_way_42 : decode cX10_way 42 = .ok (.invokevirtual 400, 3) := dk_182 1 144 (dk_at dksX10_way_1 20 rfl rfl)
theorem dX10_way_45 : decode cX10_way 45 = .ok (.iload_n 3, 1) := dk_29 (dk_at dksX10_way_1 23 rfl rfl)
theorem dX10_way_46 : decode cX10_way 46 = .ok (.iconst 0, 1) := dk_3 (dk_at dksX10_way_2 0 rfl rfl)
theorem dX10_way_47 : decode cX10_way 47 = .ok (.aload_n 0, 1) := dk_42 (dk_at dksX10_way_2 1 rfl rfl)
theorem dX10_way_48 : decode cX10_way 48 = .ok (.getfield 385, 3) := dk_180 1 129 (dk_at dksX10_way_2 2 rfl rfl)
theorem dX10_way_51 : decode cX10_way 51 = .ok (.iconst 1, 1) := dk_4 (dk_at dksX10_way_2 5 rfl rfl)
theorem dX10_way_52 : decode cX10_way 52 = .ok (.isub, 1) := dk_100 (dk_at dksX10_way_2 6 rfl rfl)
theorem dX10_way_53 : decode cX10_way 53 = .ok (.invokestatic 210, 3) := dk_184 0 210 (dk_at dksX10_way_2 7 rfl rfl)
theorem dX10_way_56 : decode cX10_way 56 = .ok (.ifCond .eq 12, 3) := dk_153 0 12 (dk_at dksX10_way_2 10 rfl rfl)
theorem dX10_way_59 : decode cX10_way 59 = .ok (.aload_n 0, 1) := dk_42 (dk_at dksX10_way_2 13 rfl rfl)
theorem dX10_way_60 : decode cX10_way 60 = .ok (.getfield 95, 3) := dk_180 0 95 (dk_at dksX10_way_2 14 rfl rfl)
theorem dX10_way_63 : decode cX10_way 63 = .ok (.iload_n 3, 1) := dk_29 (dk_at dksX10_way_2 17 rfl rfl)
theorem dX10_way_64 : decode cX10_way 64 = .ok (.iaload, 1) := dk_46 (dk_at dksX10_way_2 18 rfl rfl)
theorem dX10_way_65 : decode cX10_way 65 = .ok (.goto 4, 3) := dk_167 0 4 (dk_at dksX10_way_2 19 rfl rfl)
theorem dX10_way_68 : decode cX10_way 68 = .ok (.iconst (-1), 1) := dk_2 (dk_at dksX10_way_2 22 rfl rfl)
theorem dX10_way_69 : decode cX10_way 69 = .ok (.ireturn, 1) := dk_172 (dk_at dksX10_way_2 23 rfl rfl)
def dkwX10_findPath_11 : List UInt8 := [180, 1, 129, 21, 4, 79, 42, 89, 180, 1, 129, 4, 96, 181, 1, 129, 167, 255, 195, 177]
abbrev dktX10_findPath_11 : List UInt8 := dkwX10_findPath_11 ++ []
def dkwX10_findPath_10 : List UInt8 := [154, 0, 9, 132, 5, 1, 167, 255, 237, 21, 4, 21, 5, 184, 1, 123, 54, 4, 42, 180, 0, 95, 42]
abbrev dktX10_findPath_10 : List UInt8 := dkwX10_findPath_10 ++ dktX10_findPath_11
def dkwX10_findPath_9 : List UInt8 := [21, 4, 28, 159, 0, 61, 3, 54, 5, 42, 21, 4, 21, 4, 21, 5, 184, 1, 123, 182, 1, 132]
abbrev dktX10_findPath_9 : List UInt8 := dkwX10_findPath_9 ++ dktX10_findPath_10
def dkwX10_findPath_8 : List UInt8 := [46, 19, 1, 122, 160, 0, 4, 177, 27, 54, 4, 42, 180, 0, 95, 3, 21, 4, 79, 42, 4, 181, 1, 129]
abbrev dktX10_findPath_8 : List UInt8 := dkwX10_findPath_8 ++ dktX10_findPath_9
def dkwX10_findPath_7 : List UInt8 := [96, 79, 4, 62, 132, 5, 1, 167, 255, 165, 132, 4, 1, 167, 255, 135, 167, 255, 123, 42, 180, 0, 92, 27]
abbrev dktX10_findPath_7 : List UInt8 := dkwX10_findPath_7 ++ dktX10_findPath_8
def dkwX10_findPath_6 : List UInt8 := [167, 0, 28, 42, 180, 0, 92, 21, 4, 42, 180, 0, 92, 21, 6, 46, 42, 21, 4, 21, 6, 182, 1, 126]
abbrev dktX10_findPath_6 : List UInt8 := dkwX10_findPath_6 ++ dktX10_findPath_7
def dkwX10_findPath_5 : List UInt8 := [21, 6, 46, 42, 21, 4, 21, 6, 182, 1, 126, 96, 42, 180, 0, 92, 21, 4, 46, 161, 0, 6]
abbrev dktX10_findPath_5 : List UInt8 := dkwX10_findPath_5 ++ dktX10_findPath_6
def dkwX10_findPath_4 : List UInt8 := [21, 6, 2, 159, 0, 70, 42, 180, 0, 92, 21, 6, 46, 19, 1, 122, 159, 0, 57, 42, 180, 0, 92]
abbrev dktX10_findPath_4 : List UInt8 := dkwX10_findPath_4 ++ dktX10_findPath_5
def dkwX10_findPath_3 : List UInt8 := [160, 0, 6, 167, 0, 100, 3, 54, 5, 21, 5, 7, 162, 0, 91, 21, 4, 21, 5, 184, 1, 123, 54, 6]
abbrev dktX10_findPath_3 : List UInt8 := dkwX10_findPath_3 ++ dktX10_findPath_4
def dkwX10_findPath_2 : List UInt8 := [29, 153, 0, 135, 3, 62, 3, 54, 4, 21, 4, 16, 64, 162, 0, 120, 42, 180, 0, 13, 21, 4, 46, 4]
abbrev dktX10_findPath_2 : List UInt8 := dkwX10_findPath_2 ++ dktX10_findPath_3
def dkwX10_findPath_1 : List UInt8 := [3, 181, 1, 129, 42, 180, 0, 13, 28, 46, 4, 160, 0, 4, 177, 42, 180, 0, 92, 28, 3, 79, 4, 62]
abbrev dktX10_findPath_1 : List UInt8 := dkwX10_findPath_1 ++ dktX10_findPath_2
def dkwX10_findPath_0 : List UInt8 := [3, 62, 29, 16, 64, 162, 0, 18, 42, 180, 0, 92, 29, 19, 1, 122, 79, 132, 3, 1, 167, 255, 238, 42]
abbrev dktX10_findPath_0 : List UInt8 := dkwX10_findPath_0 ++ dktX10_findPath_1
theorem dksX10_findPath_0 : cX10_findPath.data.toList.drop 0 = dktX10_findPath_0 := by decide +kernel
theorem dksX10_findPath_1 : cX10_findPath.data.toList.drop 24 = dktX10_findPath_1 := dk_seg dksX10_findPath_0 24 rfl rfl
theorem dksX10_findPath_2 : cX10_findPath.data.toList.drop 48 = dktX10_findPath_2 := dk_seg dksX10_findPath_1 24 rfl rfl
theorem dksX10_findPath_3 : cX10_findPath.data.toList.drop 72 = dktX10_findPath_3 := dk_seg dksX10_findPath_2 24 rfl rfl
theorem dksX10_findPath_4 : cX10_findPath.data.toList.drop 96 = dktX10_findPath_4 := dk_seg dksX10_findPath_3 24 rfl rfl
theorem dksX10_findPath_5 : cX10_findPath.data.toList.drop 119 = dktX10_findPath_5 := dk_seg dksX10_findPath_4 23 rfl rfl
theorem dksX10_findPath_6 : cX10_findPath.data.toList.drop 141 = dktX10_findPath_6 := dk_seg dksX10_findPath_5 22 rfl rfl
theorem dksX10_findPath_7 : cX10_findPath.data.toList.drop 165 = dktX10_findPath_7 := dk_seg dksX10_findPath_6 24 rfl rfl
theorem dksX10_findPath_8 : cX10_findPath.data.toList.drop 189 = dktX10_findPath_8 := dk_seg dksX10_findPath_7 24 rfl rfl
theorem dksX10_findPath_9 : cX10_findPath.data.toList.drop 213 = dktX10_findPath_9 := dk_seg dksX10_findPath_8 24 rfl rfl
theorem dksX10_findPath_10 : cX10_findPath.data.toList.drop 235 = dktX10_findPath_10 := dk_seg dksX10_findPath_9 22 rfl rfl
theorem dksX10_findPath_11 : cX10_findPath.data.toList.drop 258 = dktX10_findPath_11 := dk_seg dksX10_findPath_10 23 rfl rfl
theorem dX10_findPath_0 : decode cX10_findPath 0 = .ok (.iconst 0, 1) := dk_3 (dk_at dksX10_findPath_0 0 rfl rfl)
theorem dX10_findPath_1 : decode cX10_findPath 1 = .ok (.istore_n 3, 1) := dk_62 (dk_at dksX10_findPath_0 1 rfl rfl)
theorem dX10_findPath_2 : decode cX10_findPath 2 = .ok (.iload_n 3, 1) := dk_29 (dk_at dksX10_findPath_0 2 rfl rfl)
theorem dX10_findPath_3 : decode cX10_findPath 3 = .ok (.bipush 64, 2) := dk_16 64 (dk_at dksX10_findPath_0 3 rfl rfl)
theorem dX10_findPath_5 : decode cX10_findPath 5 = .ok (.if_icmp .ge 18, 3) := dk_162 0 18 (dk_at dksX10_findPath_0 5 rfl rfl)
theorem dX10_findPath_8 : decode cX10_findPath 8 = .ok (.aload_n 0, 1) := dk_42 (dk_at dksX10_findPath_0 8 rfl rfl)
theorem dX10_findPath_9 : decode cX10_findPath 9 = .ok (.getfield 92, 3) := dk_180 0 92 (dk_at dksX10_findPath_0 9 rfl rfl)
theorem dX10_findPath_12 : decode cX10_findPath 12 = .ok (.iload_n 3, 1) := dk_29 (dk_at dksX10_findPath_0 12 rfl rfl)
theorem dX10_findPath_13 : decode cX10_findPath 13 = .ok (.ldc_w 378, 3) := dk_19 1 122 (dk_at dksX10_findPath_0 13 rfl rfl)
theorem dX10_findPath_16 : decode cX10_findPath 16 = .ok (.iastore, 1) := dk_79 (dk_at dksX10_findPath_0 16 rfl rfl)
theorem dX10_findPath_17 : decode cX10_findPath 17 = .ok (.iinc 3 1, 3) := dk_132 3 1 (dk_at dksX10_findPath_0 17 rfl rfl)
theorem dX10_findPath_20 : decode cX10_findPath 20 = .ok (.goto (-18), 3) := dk_167 255 238 (dk_at dksX10_findPath_0 20 rfl rfl)
theorem dX10_findPath_23 : decode cX10_findPath 23 = .ok (.aload_n 0, 1) := dk_42 (dk_at dksX10_findPath_0 23 rfl rfl)
theorem dX10_findPath_24 : decode cX10_findPath 24 = .ok (.iconst 0, 1) := dk_3 (dk_at dksX10_findPath_1 0 rfl rfl)
theorem dX10_findPath_25 : decode cX10_findPath 25 = .ok (.putfield 385, 3) := dk_181 1 129 (dk_at dksX10_findPath_1 1 rfl rfl)
theorem dX10_findPath_28 : decode cX10_findPath 28 = .ok (.aload_n 0, 1) := dk_42 (dk_at dksX10_findPath_1 4 rfl rfl)
theorem dX10_findPath_29 : decode cX10_findPath 29 = .ok (.getfield 13, 3) := dk_180 0 13 (dk_at dksX10_findPath_1 5 rfl rfl)
theorem dX10_findPath_32 : decode cX10_findPath 32 = .ok (.iload_n 2, 1) := dk_28 (dk_at dksX10_findPath_1 8 rfl rfl)
theorem dX10_findPath_33 : decode cX10_findPath 33 = .ok (.iaload, 1) := dk_46 (dk_at dksX10_findPath_1 9 rfl rfl)
theorem dX10_findPath_34 : decode cX10_findPath 34 = .ok (.iconst 1, 1) := dk_4 (dk_at dksX10_findPath_1 10 rfl rfl)
theorem dX10_findPath_35 : decode cX10_findPath 35 = .ok (.if_icmp .ne 4, 3) := dk_160 0 4 (dk_at dksX10_findPath_1 11 rfl rfl)
theorem dX10_findPath_38 : decode cX10_findPath 38 = .ok (.return_, 1) := dk_177 (dk_at dksX10_findPath_1 14 rfl rfl)
theorem dX10_findPath_39 : decode cX10_findPath 39 = .ok (.aload_n 0, 1) := dk_42 (dk_at dksX10_findPath_1 15 rfl rfl)
theorem dX10_findPath_40 : decode cX10_findPath 40 = .ok (.getfield 92, 3) := dk_180 0 92 (dk_at dksX10_findPath_1 16 rfl rfl)
theorem dX10_findPath_43 : decode cX10_findPath 43 = .ok (.iload_n 2, 1) := dk_28 (dk_at dksX10_findPath_1 19 rfl rfl)
theorem dX10_findPath_44 : decode cX10_findPath 44 = .ok (.iconst 0, 1) := dk_3 (dk_at dksX10_findPath_1 20 rfl rfl)
theorem dX10_findPath_45 : decode cX10_findPath 45 = .ok (.iastore, 1) := dk_79 (dk_at dksX10_findPath_1 21 rfl rfl)
theorem dX10_findPath_46 : decode cX10_findPath 46 = .ok (.iconst 1, 1) := dk_4 (dk_at dksX10_findPath_1 22 rfl rfl)
theorem dX10_findPath_47 : decode cX10_findPath 47 = .ok (.istore_n 3, 1) := dk_62 (dk_at dksX10_findPath_1 23 rfl rfl)
theorem dX10_findPath_48 : decode cX10_findPath 48 = .ok (.iload_n 3, 1) := dk_29 (dk_at dksX10_findPath_2 0 rfl rfl)
theorem dX10_findPath_49 : decode cX10_findPath 49 = .ok (.ifCond .eq 135, 3) := dk_153 0 135 (dk_at dksX10_findPath_2 1 rfl rfl)
theorem dX10_findPath_52 : decode cX10_findPath 52 = .ok (.iconst 0, 1) := dk_3 (dk_at dksX10_findPath_2 4 rfl rfl)
theorem dX10_findPath_53 : decode cX10_findPath 53 = .ok (.istore_n 3, 1) := dk_62 (dk_at dksX10_findPath_2 5 rfl rfl)
theorem dX10_findPath_54 : decode cX10_findPath 54 = .ok (.iconst 0, 1) := dk_3 (dk_at dksX10_findPath_2 6 rfl rfl)
theorem dX10_findPath_55 : decode cX10_findPath 55 = .ok (.istore 4, 2) := dk_54 4 (dk_at dksX10_findPath_2 7 rfl rfl)
theorem dX10_findPath_57 : decode cX10_findPath 57 = .ok (.iload 4, 2) := dk_21 4 (dk_at dksX10_findPath_2 9 rfl rfl)
theorem dX10_findPath_59 : decode cX10_findPath 59 = .ok (.bipush 64, 2) := dk_16 64 (dk_at dksX10_findPath_2 11 rfl rfl)
theorem dX10_findPath_61 : decode cX10_findPath 61 = .ok (.if_icmp .ge 120, 3) := dk_162 0 120 (dk_at dksX10_findPath_2 13 rfl rfl)
theorem dX10_findPath_64 : decode cX10_findPath 64 = .ok (.aload_n 0, 1) := dk_42 (dk_at dksX10_findPath_2 16 rfl rfl)
theorem dX10_findPath_65 : decode cX10_findPath 65 = .ok (.getfield 13, 3) := dk_180 0 13 (dk_at dksX10_findPath_2 17 rfl rfl)
theorem dX10_findPath_68 : decode cX10_findPath 68 = .ok (.iload 4, 2) := dk_21 4 (dk_at dksX10_findPath_2 20 rfl rfl)
theorem dX10_findPath_70 : decode cX10_findPath 70 = .ok (.iaload, 1) := dk_46 (dk_at dksX10_findPath_2 22 rfl rfl)
theorem dX10_findPath_71 : decode cX10_findPath 71 = .ok (.iconst 1, 1) := dk_4 (dk_at dksX10_findPath_2 23 rfl rfl)
theorem dX10_findPath_72 : decode cX10_findPath 72 = .ok (.if_icmp .ne 6, 3) := dk_160 0 6 (dk_at dksX10_findPath_3 0 rfl rfl)
theorem dX10_findPath_75 : decode cX10_findPath 75 = .ok (.goto 100, 3) := dk_167 0 100 (dk_at dksX10_findPath_3 3 rfl rfl)
theorem dX10_findPath_78 : decode cX10_findPath 78 = .ok (.iconst 0, 1) := dk_3 (dk_at dksX10_findPath_3 6 rfl rfl)
theorem dX10_findPath_79 : decode cX10_findPath 79 = .ok (.istore 5, 2) := dk_54 5 (dk_at dksX10_findPath_3 7 rfl rfl)
theorem dX10_findPath_81 : decode cX10_findPath 81 = .ok (.iload 5, 2) := dk_21 5 (dk_at dksX10_findPath_3 9 rfl rfl)
theorem dX10_findPath_83 : decode cX10_findPath 83 = .ok (.iconst 4, 1) := dk_7 (dk_at dksX10_findPath_3 11 rfl rfl)
theorem dX10_findPath_84 : decode cX10_findPath 84 = .ok (.if_icmp .ge 91, 3) := dk_162 0 91 (dk_at dksX10_findPath_3 12 rfl rfl)
theorem dX10_findPath_87 : decode cX10_findPath 87 = .ok (.iload 4, 2) := dk_21 4 (dk_at dksX10_findPath_3 15 rfl rfl)
theorem dX10_findPath_89 : decode cX10_findPath 89 = .ok (.iload 5, 2) := dk_21 5 (dk_at dksX10_findPath_3 17 rfl rfl)
theorem dX10_findPath_91 : decode cX10_findPath 91 = .ok (.invokestatic 379, 3) := dk_184 1 123 (dk_at dksX10_findPath_3 19 rfl rfl)
theorem dX10_findPath_94 : decode cX10_findPath 94 = .ok (.istore 6, 2) := dk_54 6 (dk_at dksX10_findPath_3 22 rfl rfl)
theorem dX10_findPath_96 : decode cX10_findPath 96 = .ok (.iload 6, 2) := dk_21 6 (dk_at dksX10_findPath_4 0 rfl rfl)
theorem dX10_findPath_98 : decode cX10_findPath 98 = .ok (.iconst (-1), 1) := dk_2 (dk_at dksX10_findPath_4 2 rfl rfl)
theorem dX10_findPath_99 : decode cX10_findPath 99 = .ok (.if_icmp .eq 70, 3) := dk_159 0 70 (dk_at dksX10_findPath_4 3 rfl rfl)
theorem dX10_findPath_102 : decode cX10_findPath 102 = .ok (.aload_n 0, 1) := dk_42 (dk_at dksX10_findPath_4 6 rfl rfl)
theorem dX10_findPath_103 : decode cX10_findPath 103 = .ok (.getfield 92, 3) := dk_180 0 92 (dk_at dksX10_findPath_4 7 rfl rfl)
theorem dX10_findPath_106 : decode cX10_findPath 106 = .ok (.iload 6, 2) := dk_21 6 (dk_at dksX10_findPath_4 10 rfl rfl)
theorem dX10_findPath_108 : decode cX10_findPath 108 = .ok (.iaload, 1) := dk_46 (dk_at dksX10_findPath_4 12 rfl rfl)
theorem dX10_findPath_109 : decode cX10_findPath 109 = .ok (.ldc_w 378, 3) := dk_19 1 122 (dk_at dksX10_findPath_4 13 rfl rfl)
theorem dX10_findPath_112 : decode cX10_findPath 112 = .ok (.if_icmp .eq 57, 3) := dk_159 0 57 (dk_at dksX10_findPath_4 16 rfl rfl)
theorem dX10_findPath_115 : decode cX10_findPath 115 = .ok (.aload_n 0, 1) := dk_42 (dk_at dksX10_findPath_4 19 rfl rfl)
theorem dX10_findPath_116 : decode cX10_findPath 116 = .ok (.getfield 92, 3) := dk_180 0 92 (dk_at dksX10_findPath_4 20 rfl rfl)
theorem dX10_findPath_119 : decode cX10_findPath 119 = .ok (.iload 6, 2) := dk_21 6 (dk_at dksX10_findPath_5 0 rfl rfl)
theorem dX10_findPath_121 : decode cX10_findPath 121 = .ok (.iaload, 1) := dk_46 (dk_at dksX10_findPath_5 2 rfl rfl)
theorem dX10_findPath_122 : decode cX10_findPath 122 = .ok (.aload_n 0, 1) := dk_42 (dk_at dksX10_findPath_5 3 rfl rfl)
theorem dX10_findPath_123 : decode cX10_findPath 123 = .ok (.iload 4, 2) := dk_21 4 (dk_at dksX10_findPath_5 4 rfl rfl)
theorem dX10_findPath_125 : decode cX10_findPath 125 = .ok (.iload 6, 2) := dk_21 6 (dk_at dksX10_findPath_5 6 rfl rfl)
theorem dX10_findPath_127 : decode cX10_findPath 127 = .ok (.invokevirtual 382, 3) := dk_182 1 126 (dk_at dksX10_findPath_5 8 rfl rfl)
theorem dX10_findPath_130 : decode cX10_findPath 130 = .ok (.iadd, 1) := dk_96 (dk_at dksX10_findPath_5 11 rfl rfl)
theorem dX10_findPath_131 : decode cX10_findPath 131 = .ok (.aload_n 0, 1) := dk_42 (dk_at dksX10_findPath_5 12 rfl rfl)
theorem dX10_findPath_132 : decode cX10_findPath 132 = .ok (.getfield 92, 3) := dk_180 0 92 (dk_at dksX10_findPath_5 13 rfl rfl)
theorem dX10_findPath_135 : decode cX10_findPath 135 = .ok (.iload 4, 2) := dk_21 4 (dk_at dksX10_findPath_5 16 rfl rfl)
theorem dX10_findPath_137 : decode cX10_findPath 137 = .ok (.iaload, 1) := dk_46 (dk_at dksX10_findPath_5 18 rfl rfl)
theorem dX10_findPath_138 : decode cX10_findPath 138 = .ok (.if_icmp .lt 6, 3) := dk_161 0 6 (dk_at dksX10_findPath_5 19 rfl rfl)
theorem dX10_findPath_141 : decode cX10_findPath 141 = .ok (.goto 28, 3) := dk_167 0 28 (dk_at dksX10_findPath_6 0 rfl rfl)
theorem dX10_findPath_144 : decode cX10_findPath 144 = .ok (.aload_n 0, 1) := dk_42 (dk_at dksX10_findPath_6 3 rfl rfl)
theorem dX10_findPath_145 : decode cX10_findPath 145 = .ok (.getfield 92, 3) := dk_180 0 92 (dk_at dksX10_findPath_6 4 rfl rfl)
theorem dX10_findPath_148 : decode cX10_findPath 148 = .ok (.iload 4, 2) := dk_21 4 (dk_at dksX10_findPath_6 7 rfl rfl)
theorem dX10_findPath_150 : decode cX10_findPath 150 = .ok (.aload_n 0, 1) := dk_42 (dk_at dksX10_findPath_6 9 rfl rfl)
theorem dX10_findPath_151 : decode cX10_findPath 151 = .ok (.getfield 92, 3) := dk_180 0 92 (dk_at dksX10_findPath_6 10 rfl rfl)
theorem dX10_findPath_154 : decode cX10_findPath 154 = .ok (.iload 6, 2) := dk_21 6 (dk_at dksX10_findPath_6 13 rfl rfl)
theorem dX10_findPath_156 : decode cX10_findPath 156 = .ok (.iaload, 1) := dk_46 (dk_at dksX10_findPath_6 15 rfl rfl)
theorem dX10_findPath_157 : decode cX10_findPath 157 = .ok (.aload_n 0, 1) := dk_42 (dk_at dksX10_findPath_6 16 rfl rfl)
theorem dX10_findPath_158 : decode cX10_findPath 158 = .ok (.iload 4, 2) := dk_21 4 (dk_at dksX10_findPath_6 17 rfl rfl)
theorem dX10_findPath_160 : decode cX10_findPath 160 = .ok (.iload 6, 2) := dk_21 6 (dk_at dksX10_findPath_6 19 rfl rfl)
theorem dX10_findPath_162 : decode cX10_findPath 162 = .ok (.invokevirtual 382, 3) := dk_182 1 126 (dk_at dksX10_findPath_6 21 rfl rfl)
theorem dX10_findPath_165 : decode cX10_findPath 165 = .ok (.iadd, 1) := dk_96 (dk_at dksX10_findPath_7 0 rfl rfl)
theorem dX10_findPath_166 : decode cX10_findPath 166 = .ok (.iastore, 1) := dk_79 (dk_at dksX10_findPath_7 1 rfl rfl)
theorem dX10_findPath_167 : decode cX10_findPath 167 = .ok (.iconst 1, 1) := dk_4 (dk_at dksX10_findPath_7 2 rfl rfl)
theorem dX10_findPath_168 : decode cX10_findPath 168 = .ok (.istore_n 3, 1) := dk_62 (dk_at dksX10_findPath_7 3 rfl rfl)
theorem dX10_findPath_169 : decode cX10_findPath 169 = .ok (.iinc 5 1, 3) := dk_132 5 1 (dk_at dksX10_findPath_7 4 rfl rfl)
theorem dX10_findPath_172 : decode cX10_findPath 172 = .ok (.goto (-91), 3) := dk_167 255 165 (dk_at dksX10_findPath_7 7 rfl rfl)
theorem dX10_findPath_175 : decode cX10_findPath 175 = .ok (.iinc 4 1, 3) := dk_132 4 1 (dk_at dksX10_findPath_7 10 rfl rfl)
theorem dX10_findPath_178 : decode cX10_findPath 178 = .ok (.goto (-121), 3) := dk_167 255 135 (dk_at dksX10_findPath_7 13 rfl rfl)
theorem dX10_findPath_181 : decode cX10_findPath 181 = .ok (.goto (-133), 3) := dk_167 255 123 (dk_at dksX10_findPath_7 16 rfl rfl)
theorem dX10_findPath_184 : decode cX10_findPath 184 = .ok (.aload_n 0, 1) := dk_42 (dk_at dksX10_findPath_7 19 rfl rfl)
theorem dX10_findPath_185 : decode cX10_findPath 185 = .ok (.getfield 92, 3) := dk_180 0 92 (dk_at dksX10_findPath_7 20 rfl rfl)
theorem dX10_findPath_188 : decode cX10_findPath 188 = .ok (.iload_n 1, 1) := dk_27 (dk_at dksX10_findPath_7 23 rfl rfl)
theorem dX10_findPath_189 : decode cX10_findPath 189 = .ok (.iaload, 1) := dk_46 (dk_at dksX10_findPath_8 0 rfl rfl)
theorem dX10_findPath_190 : decode cX10_findPath 190 = .ok (.ldc_w 378, 3) := dk_19 1 122 (dk_at dksX10_findPath_8 1 rfl rfl)
theorem dX10_findPath_193 : decode cX10_findPath 193 = .ok (.if_icmp .ne 4, 3) := dk_160 0 4 (dk_at dksX10_findPath_8 4 rfl rfl)
theorem dX10_findPath_196 : decode cX10_findPath 196 = .ok (.return_, 1) := dk_177 (dk_at dksX10_findPath_8 7 rfl rfl)
theorem dX10_findPath_197 : decode cX10_findPath 197 = .ok (.iload_n 1, 1) := dk_27 (dk_at dksX10_findPath_8 8 rfl rfl)
theorem dX10_findPath_198 : decode cX10_findPath 198 = .ok (.istore 4, 2) := dk_54 4 (dk_at dksX10_findPath_8 9 rfl rfl)
theorem dX10_findPath_200 : decode cX10_findPath 200 = .ok (.aload_n 0, 1) := dk_42 (dk_at dksX10_findPath_8 11 rfl rfl)
theorem dX10_findPath_201 : decode cX10_findPath 201 = .ok (.getfield 95, 3) := dk_180 0 95 (dk_at dksX10_findPath_8 12 rfl rfl)
theorem dX10_findPath_204 : decode cX10_findPath 204 = .ok (.iconst 0, 1) := dk_3 (dk_at dksX10_findPath_8 15 rfl rfl)
theorem dX10_findPath_205 : decode cX10_findPath 205 = .ok (.iload 4, 2) := dk_21 4 (dk_at dksX10_findPath_8 16 rfl rfl)
theorem dX10_findPath_207 : decode cX10_findPath 207 = .ok (.iastore, 1) := dk_79 (dk_at dksX10_findPath_8 18 rfl rfl)
theorem dX10_findPath_208 : decode cX10_findPath 208 = .ok (.aload_n 0, 1) := dk_42 (dk_at dksX10_findPath_8 19 rfl rfl)
theorem dX10_findPath_209 : decode cX10_findPath 209 = .ok (.iconst 1, 1) := dk_4 (dk_at dksX10_findPath_8 20 rfl rfl)
theorem dX10_findPath_210 : decode cX10_findPath 210 = .ok (.putfield 385, 3) := dk_181 1 129 (dk_at dksX10_findPath_8 21 rfl rfl)
theorem dX10_findPath_213 : decode cX10_findPath 213 = .ok (.iload 4, 2) := dk_21 4 (dk_at dksX10_findPath_9 0 rfl rfl)
theorem dX10_findPath_215 : decode cX10_findPath 215 = .ok (.iload_n 2, 1) := dk_28 (dk_at dksX10_findPath_9 2 rfl rfl)
theorem dX10_findPath_216 : decode cX10_findPath 216 = .ok (.if_icmp .eq 61, 3) := dk_159 0 61 (dk_at dksX10_findPath_9 3 rfl rfl)
theorem dX10_findPath_219 : decode cX10_findPath 219 = .ok (.iconst 0, 1) := dk_3 (dk_at dksX10_findPath_9 6 rfl rfl)
theorem dX10_findPath_220 : decode cX10_findPath 220 = .ok (.istore 5, 2) := dk_54 5 (dk_at dksX10_findPath_9 7 rfl rfl)
theorem dX10_findPath_222 : decode cX10_findPath 222 = .ok (.aload_n 0, 1) := dk_42 (dk_at dksX10_findPath_9 9 rfl rfl)
theorem dX10_findPath_223 : decode cX10_findPath 223 = .ok (.iload 4, 2) := dk_21 4 (dk_at dksX10_findPath_9 10 rfl rfl)
theorem dX10_findPath_225 : decode cX10_findPath 225 = .ok (.iload 4, 2) := dk_21 4 (dk_at dksX10_findPath_9 12 rfl rfl)
theorem dX10_findPath_227 : decode cX10_findPath 227 = .ok (.iload 5, 2) := dk_21 5 (dk_at dksX10_findPath_9 14 rfl rfl)
theorem dX10_findPath_229 : decode cX10_findPath 229 = .ok (.invokestatic 379, 3) := dk_184 1 123 (dk_at dksX10_findPath_9 16 rfl rfl)
theorem dX10_findPath_232 : decode cX10_findPath 232 = .ok (.invokevirtual 388, 3) := dk_182 1 132 (dk_at dksX10_findPath_9 19 rfl rfl)
theorem dX10_findPath_235 : decode cX10_findPath 235 = .ok (.ifCond .ne 9, 3) := dk_154 0 9 (dk_at dksX10_findPath_10 0 rfl rfl)
theorem dX10_findPath_238 : decode cX10_findPath 238 = .ok (.iinc 5 1, 3) := dk_132 5 1 (dk_at dksX10_findPath_10 3 rfl rfl)
theorem dX10_findPath_241 : decode cX10_findPath 241 = .ok (.goto (-19), 3) := dk_167 255 237 (dk_at dksX10_findPath_10 6 rfl rfl)
theorem dX10_findPath_244 : decode cX10_findPath 244 = .ok (.iload 4, 2) := dk_21 4 (dk_at dksX10_findPath_10 9 rfl rfl)
theorem dX10_findPath_246 : decode cX10_findPath 246 = .ok (.iload 5, 2) := dk_21 5 (dk_at dksX10_findPath_10 11 rfl rfl)
theorem dX10_findPath_248 : decode cX10_findPath 248 = .ok (.invokestatic 379, 3) := dk_184 1 123 (dk_at dksX10_findPath_10 13 rfl rfl)
theorem dX10_findPath_251 : decode cX10_findPath 251 = .ok (.istore 4, 2) := dk_54 4 (dk_at dksX10_findPath_10 16 rfl rfl)
theorem dX10_findPath_253 : decode cX10_findPath 253 = .ok (.aload_n 0, 1) := dk_42 (dk_at dksX10_findPath_10 18 rfl rfl)
theorem dX10_findPath_254 : decode cX10_findPath 254 = .ok (.getfield 95, 3) := dk_180 0 95 (dk_at dksX10_findPath_10 19 rfl rfl)
theorem dX10_findPath_257 : decode cX10_findPath 257 = .ok (.aload_n 0, 1) := dk_42 (dk_at dksX10_findPath_10 22 rfl rfl)
theorem dX10_findPath_258 : decode cX10_findPath 258 = .ok (.getfield 385, 3) := dk_180 1 129 (dk_at dksX10_findPath_11 0 rfl rfl)
theorem dX10_findPath_261 : decode cX10_findPath 261 = .ok (.iload 4, 2) := dk_21 4 (dk_at dksX10_findPath_11 3 rfl rfl)
theorem dX10_findPath_263 : decode cX10_findPath 263 = .ok (.iastore, 1) := dk_79 (dk_at dksX10_findPath_11 5 rfl rfl)
theorem dX10_findPath_264 : decode cX10_findPath 264 = .ok (.aload_n 0, 1) := dk_42 (dk_at dksX10_findPath_11 6 rfl rfl)
theorem dX10_findPath_265 : decode cX10_findPath 265 = .ok (.dup, 1) := dk_89 (dk_at dksX10_findPath_11 7 rfl rfl)
theorem dX10_findPath_266 : decode cX10_findPath 266 = .ok (.getfield 385, 3) := dk_180 1 129 (dk_at dksX10_findPath_11 8 rfl rfl)
theorem dX10_findPath_269 : decode cX10_findPath 269 = .ok (.iconst 1, 1) := dk_4 (dk_at dksX10_findPath_11 11 rfl rfl)
theorem dX10_findPath_270 : decode cX10_findPath 270 = .ok (.iadd, 1) := dk_96 (dk_at dksX10_findPath_11 12 rfl rfl)
theorem dX10_findPath_271 : decode cX10_findPath 271 = .ok (.putfield 385, 3) := dk_181 1 129 (dk_at dksX10_findPath_11 13 rfl rfl)
theorem dX10_findPath_274 : decode cX10_findPath 274 = .ok (.goto (-61), 3) := dk_167 255 195 (dk_at dksX10_findPath_11 16 rfl rfl)
theorem dX10_findPath_277 : decode cX10_findPath 277 = .ok (.return_, 1) := dk_177 (dk_at dksX10_findPath_11 19 rfl rfl)
def dkwX10_isOn_1 : List UInt8 := [180, 0, 92, 28, 46, 42, 27, 28, 182, 1, 126, 96, 160, 0, 7, 4, 167, 0, 4, 3, 172]
abbrev dktX10_isOn_1 : List UInt8 := dkwX10_isOn_1 ++ []
def dkwX10_isOn_0 : List UInt8 := [28, 2, 159, 0, 41, 42, 180, 0, 92, 28, 46, 19, 1, 122, 159, 0, 29, 42, 180, 0, 92, 27, 46, 42]
abbrev dktX10_isOn_0 : List UInt8 := dkwX10_isOn_0 ++ dktX10_isOn_1
theorem dksX10_isOn_0 : cX10_isOn.data.toList.drop 0 = dktX10_isOn_0 := by decide +kernel
theorem dksX10_isOn_1 : cX10_isOn.data.toList.drop 24 = dktX10_isOn_1 := dk_seg dksX10_isOn_0 24 rfl rfl
theorem dX10_isOn_0 : decode cX10_isOn 0 = .ok (.iload_n 2, 1) := dk_28 (dk_at dksX10_isOn_0 0 rfl rfl)
theorem dX10_isOn_1 : decode cX10_isOn 1 = .ok (.iconst (-1), 1) := dk_2 (dk_at dksX10_isOn_0 1 rfl rfl)
theorem dX10_isOn_2 : decode cX10_isOn 2 = .ok (.if_icmp .eq 41, 3) := dk_159 0 41 (dk_at dksX10_isOn_0 2 rfl rfl)
theorem dX10_isOn_5 : decode cX10_isOn 5 = .ok (.aload_n 0, 1) := dk_42 (dk_at dksX10_isOn_0 5 rfl rfl)
theorem dX10_isOn_6 : decode cX10_isOn 6 = .ok (.getfield 92, 3) := dk_180 0 92 (dk_at dksX10_isOn_0 6 rfl rfl)
theorem dX10_isOn_9 : decode cX10_isOn 9 = .ok (.iload_n 2, 1) := dk_28 (dk_at dksX10_isOn_0 9 rfl rfl)
theorem dX10_isOn_10 : decode cX10_isOn 10 = .ok (.iaload, 1) := dk_46 (dk_at dksX10_isOn_0 10 rfl rfl)
theorem dX10_isOn_11 : decode cX10_isOn 11 = .ok (.ldc_w 378, 3) := dk_19 1 122 (dk_at dksX10_isOn_0 11 rfl rfl)
theorem dX10_isOn_14 : decode cX10_isOn 14 = .ok (.if_icmp .eq 29, 3) := dk_159 0 29 (dk_at dksX10_isOn_0 14 rfl rfl)
theorem dX10_isOn_17 : decode cX10_isOn 17 = .ok (.aload_n 0, 1) := dk_42 (dk_at dksX10_isOn_0 17 rfl rfl)
theorem dX10_isOn_18 : decode cX10_isOn 18 = .ok (.getfield 92, 3) := dk_180 0 92 (dk_at dksX10_isOn_0 18 rfl rfl)
theorem dX10_isOn_21 : decode cX10_isOn 21 = .ok (.iload_n 1, 1) := dk_27 (dk_at dksX10_isOn_0 21 rfl rfl)
theorem dX10_isOn_22 : decode cX10_isOn 22 = .ok (.iaload, 1) := dk_46 (dk_at dksX10_isOn_0 22 rfl rfl)
theorem dX10_isOn_23 : decode cX10_isOn 23 = .ok (.aload_n 0, 1) := dk_42 (dk_at dksX10_isOn_0 23 rfl rfl)
theorem dX10_isOn_24 : decode cX10_isOn 24 = .ok (.getfield 92, 3) := dk_180 0 92 (dk_at dksX10_isOn_1 0 rfl rfl)
theorem dX10_isOn_27 : decode cX10_isOn 27 = .ok (.iload_n 2, 1) := dk_28 (dk_at dksX10_isOn_1 3 rfl rfl)
theorem dX10_isOn_28 : decode cX10_isOn 28 = .ok (.iaload, 1) := dk_46 (dk_at dksX10_isOn_1 4 rfl rfl)
theorem dX10_isOn_29 : decode cX10_isOn 29 = .ok (.aload_n 0, 1) := dk_42 (dk_at dksX10_isOn_1 5 rfl rfl)
theorem dX10_isOn_30 : decode cX10_isOn 30 = .ok (.iload_n 1, 1) := dk_27 (dk_at dksX10_isOn_1 6 rfl rfl)
theorem dX10_isOn_31 : decode cX10_isOn 31 = .ok (.iload_n 2, 1) := dk_28 (dk_at dksX10_isOn_1 7 rfl rfl)
theorem dX10_isOn_32 : decode cX10_isOn 32 = .ok (.invokevirtual 382, 3) := dk_182 1 126 (dk_at dksX10_isOn_1 8 rfl rfl)
theorem dX10_isOn_35 : decode cX10_isOn 35 = .ok (.iadd, 1) := dk_96 (dk_at dksX10_isOn_1 11 rfl rfl)
theorem dX10_isOn_36 : decode cX10_isOn 36 = .ok (.if_icmp .ne 7, 3) := dk_160 0 7 (dk_at dksX10_isOn_1 12 rfl rfl)
theorem dX10_isOn_39 : decode cX10_isOn 39 = .ok (.iconst 1, 1) := dk_4 (dk_at dksX10_isOn_1 15 rfl rfl)
theorem dX10_isOn_40 : decode cX10_isOn 40 = .ok (.goto 4, 3) := dk_167 0 4 (dk_at dksX10_isOn_1 16 rfl rfl)
theorem dX10_isOn_43 : decode cX10_isOn 43 = .ok (.iconst 0, 1) := dk_3 (dk_at dksX10_isOn_1 19 rfl rfl)
theorem dX10_isOn_44 : decode cX10_isOn 44 = .ok (.ireturn, 1) := dk_172 (dk_at dksX10_isOn_1 20 rfl rfl)
def dkwX10_foretold_2 : List UInt8 := [182, 1, 178, 27, 2, 160, 0, 10, 42, 180, 1, 147, 167, 0, 9, 42, 180, 0, 107, 27, 46, 172]
abbrev dktX10_foretold_2 : List UInt8 := dkwX10_foretold_2 ++ []
def dkwX10_foretold_1 : List UInt8 := [167, 0, 4, 3, 4, 182, 0, 214, 154, 0, 5, 3, 172, 42, 3, 181, 1, 156, 42, 182, 1, 138, 42, 28]
abbrev dktX10_foretold_1 : List UInt8 := dkwX10_foretold_1 ++ dktX10_foretold_2
def dkwX10_foretold_0 : List UInt8 := [42, 3, 181, 0, 1, 42, 27, 2, 16, 9, 184, 0, 210, 153, 0, 14, 28, 184, 1, 175, 153, 0, 7, 4]
abbrev dktX10_foretold_0 : List UInt8 := dkwX10_foretold_0 ++ dktX10_foretold_1
theorem dksX10_foretold_0 : cX10_foretold.data.toList.drop 0 = dktX10_foretold_0 := by decide +kernel
theorem dksX10_foretold_1 : cX10_foretold.data.toList.drop 24 = dktX10_foretold_1 := dk_seg dksX10_foretold_0 24 rfl rfl
theorem dksX10_foretold_2 : cX10_foretold.data.toList.drop 48 = dktX10_foretold_2 := dk_seg dksX10_foretold_1 24 rfl rfl
theorem dX10_foretold_0 : decode cX10_foretold 0 = .ok (.aload_n 0, 1) := dk_42 (dk_at dksX10_foretold_0 0 rfl rfl)
theorem dX10_foretold_1 : decode cX10_foretold 1 = .ok (.iconst 0, 1) := dk_3 (dk_at dksX10_foretold_0 1 rfl rfl)
theorem dX10_foretold_2 : decode cX10_foretold 2 = .ok (.putfield 1, 3) := dk_181 0 1 (dk_at dksX10_foretold_0 2 rfl rfl)
theorem dX10_foretold_5 : decode cX10_foretold 5 = .ok (.aload_n 0, 1) := dk_42 (dk_at dksX10_foretold_0 5 rfl rfl)
theorem dX10_foretold_6 : decode cX10_foretold 6 = .ok (.iload_n 1, 1) := dk_27 (dk_at dksX10_foretold_0 6 rfl rfl)
theorem dX10_foretold_7 : decode cX10_foretold 7 = .ok (.iconst (-1), 1) := dk_2 (dk_at dksX10_foretold_0 7 rfl rfl)
theorem dX10_foretold_8 : decode cX10_foretold 8 = .ok (.bipush 9, 2) := dk_16 9 (dk_at dksX10_foretold_0 8 rfl rfl)
theorem dX10_foretold_10 : decode cX10_foretold 10 = .ok (.invokestatic 210, 3) := dk_184 0 210 (dk_at dksX10_foretold_0 10 rfl rfl)
theorem dX10_foretold_13 : decode cX10_foretold 13 = .ok (.ifCond .eq 14, 3) := dk_153 0 14 (dk_at dksX10_foretold_0 13 rfl rfl)
theorem dX10_foretold_16 : decode cX10_foretold 16 = .ok (.iload_n 2, 1) := dk_28 (dk_at dksX10_foretold_0 16 rfl rfl)
theorem dX10_foretold_17 : decode cX10_foretold 17 = .ok (.invokestatic 431, 3) := dk_184 1 175 (dk_at dksX10_foretold_0 17 rfl rfl)
theorem dX10_foretold_20 : decode cX10_foretold 20 = .ok (.ifCond .eq 7, 3) := dk_153 0 7 (dk_at dksX10_foretold_0 20 rfl rfl)
theorem dX10_foretold_23 : decode cX10_foretold 23 = .ok (.iconst 1, 1) := dk_4 (dk_at dksX10_foretold_0 23 rfl rfl)
theorem dX10_foretold_24 : decode cX10_foretold 24 = .ok (.goto 4, 3) := dk_167 0 4 (dk_at dksX10_foretold_1 0 rfl rfl)
theorem dX10_foretold_27 : decode cX10_foretold 27 = .ok (.iconst 0, 1) := dk_3 (dk_at dksX10_foretold_1 3 rfl rfl)
theorem dX10_foretold_28 : decode cX10_foretold 28 = .ok (.iconst 1, 1) := dk_4 (dk_at dksX10_foretold_1 4 rfl rfl)
theorem dX10_foretold_29 : decode cX10_foretold 29 = .ok (.invokevirtual 214, 3) := dk_182 0 214 (dk_at dksX10_foretold_1 5 rfl rfl)
theorem dX10_foretold_32 : decode cX10_foretold 32 = .ok (.ifCond .ne 5, 3) := dk_154 0 5 (dk_at dksX10_foretold_1 8 rfl rfl)
theorem dX10_foretold_35 : decode cX10_foretold 35 = .ok (.iconst 0, 1) := dk_3 (dk_at dksX10_foretold_1 11 rfl rfl)
theorem dX10_foretold_36 : decode cX10_foretold 36 = .ok (.ireturn, 1) := dk_172 (dk_at dksX10_foretold_1 12 rfl rfl)
theorem dX10_foretold_37 : decode cX10_foretold 37 = .ok (.aload_n 0, 1) := dk_42 (dk_at dksX10_foretold_1 13 rfl rfl)
theorem dX10_foretold_38 : decode cX10_foretold 38 = .ok (.iconst 0, 1) := dk_3 (dk_at dksX10_foretold_1 14 rfl rfl)
theorem dX10_foretold_39 : decode cX10_foretold 39 = .ok (.putfield 412, 3) := dk_181 1 156 (dk_at dksX10_foretold_1 15 rfl rfl)
theorem dX10_foretold_42 : decode cX10_foretold 42 = .ok (.aload_n 0, 1) := dk_42 (dk_at dksX10_foretold_1 18 rfl rfl)
theorem dX10_foretold_43 : decode cX10_foretold 43 = .ok (.invokevirtual 394, 3) := dk_182 1 138 (dk_at dksX10_foretold_1 19 rfl rfl)
theorem dX10_foretold_46 : decode cX10_foretold 46 = .ok (.aload_n 0, 1) := dk_42 (dk_at dksX10_foretold_1 22 rfl rfl)
theorem dX10_foretold_47 : decode cX10_foretold 47 = .ok (.iload_n 2, 1) := dk_28 (dk_at dksX10_foretold_1 23 rfl rfl)
theorem dX10_foretold_48 : decode cX10_foretold 48 = .ok (.invokevirtual 434, 3) := dk_182 1 178 (dk_at dksX10_foretold_2 0 rfl rfl)
theorem dX10_foretold_51 : decode cX10_foretold 51 = .ok (.iload_n 1, 1) := dk_27 (dk_at dksX10_foretold_2 3 rfl rfl)
theorem dX10_foretold_52 : decode cX10_foretold 52 = .ok (.iconst (-1), 1) := dk_2 (dk_at dksX10_foretold_2 4 rfl rfl)
theorem dX10_foretold_53 : decode cX10_foretold 53 = .ok (.if_icmp .ne 10, 3) := dk_160 0 10 (dk_at dksX10_foretold_2 5 rfl rfl)
theorem dX10_foretold_56 : decode cX10_foretold 56 = .ok (.aload_n 0, 1) := dk_42 (dk_at dksX10_foretold_2 8 rfl rfl)
theorem dX10_foretold_57 : decode cX10_foretold 57 = .ok (.getfield 403, 3) := dk_180 1 147 (dk_at dksX10_foretold_2 9 rfl rfl)
theorem dX10_foretold_60 : decode cX10_foretold 60 = .ok (.goto 9, 3) := dk_167 0 9 (dk_at dksX10_foretold_2 12 rfl rfl)
theorem dX10_foretold_63 : decode cX10_foretold 63 = .ok (.aload_n 0, 1) := dk_42 (dk_at dksX10_foretold_2 15 rfl rfl)
theorem dX10_foretold_64 : decode cX10_foretold 64 = .ok (.getfield 107, 3) := dk_180 0 107 (dk_at dksX10_foretold_2 16 rfl rfl)
theorem dX10_foretold_67 : decode cX10_foretold 67 = .ok (.iload_n 1, 1) := dk_27 (dk_at dksX10_foretold_2 19 rfl rfl)
theorem dX10_foretold_68 : decode cX10_foretold 68 = .ok (.iaload, 1) := dk_46 (dk_at dksX10_foretold_2 20 rfl rfl)
theorem dX10_foretold_69 : decode cX10_foretold 69 = .ok (.ireturn, 1) := dk_172 (dk_at dksX10_foretold_2 21 rfl rfl)
def dkwX10_isNights_0 : List UInt8 := [26, 4, 161, 0, 12, 26, 8, 163, 0, 7, 4, 167, 0, 4, 3, 172]
abbrev dktX10_isNights_0 : List UInt8 := dkwX10_isNights_0 ++ []
theorem dksX10_isNights_0 : cX10_isNights.data.toList.drop 0 = dktX10_isNights_0 := by decide +kernel
theorem dX10_isNights_0 : decode cX10_isNights 0 = .ok (.iload_n 0, 1) := dk_26 (dk_at dksX10_isNights_0 0 rfl rfl)
theorem dX10_isNights_1 : decode cX10_isNights 1 = .ok (.iconst 1, 1) := dk_4 (dk_at dksX10_isNights_0 1 rfl rfl)
theorem dX10_isNights_2 : decode cX10_isNights 2 = .ok (.if_icmp .lt 12, 3) := dk_161 0 12 (dk_at dksX10_isNights_0 2 rfl rfl)
theorem dX10_isNights_5 : decode cX10_isNights 5 = .ok (.iload_n 0, 1) := dk_26 (dk_at dksX10_isNights_0 5 rfl rfl)
theorem dX10_isNights_6 : decode cX10_isNights 6 = .ok (.iconst 5, 1) := dk_8 (dk_at dksX10_isNights_0 6 rfl rfl)
theorem dX10_isNights_7 : decode cX10_isNights 7 = .ok (.if_icmp .gt 7, 3) := dk_163 0 7 (dk_at dksX10_isNights_0 7 rfl rfl)
theorem dX10_isNights_10 : decode cX10_isNights 10 = .ok (.iconst 1, 1) := dk_4 (dk_at dksX10_isNights_0 10 rfl rfl)
theorem dX10_isNights_11 : decode cX10_isNights 11 = .ok (.goto 4, 3) := dk_167 0 4 (dk_at dksX10_isNights_0 11 rfl rfl)
theorem dX10_isNights_14 : decode cX10_isNights 14 = .ok (.iconst 0, 1) := dk_3 (dk_at dksX10_isNights_0 14 rfl rfl)
theorem dX10_isNights_15 : decode cX10_isNights 15 = .ok (.ireturn, 1) := dk_172 (dk_at dksX10_isNights_0 15 rfl rfl)
def dkwX10_foretells_1 : List UInt8 := [167, 0, 4, 3, 182, 1, 171, 132, 2, 1, 167, 255, 229, 177]
abbrev dktX10_foretells_1 : List UInt8 := dkwX10_foretells_1 ++ []
def dkwX10_foretells_0 : List UInt8 := [42, 182, 1, 165, 3, 61, 28, 27, 162, 0, 28, 42, 42, 180, 1, 168, 28, 96, 28, 154, 0, 7, 4]
abbrev dktX10_foretells_0 : List UInt8 := dkwX10_foretells_0 ++ dktX10_foretells_1
theorem dksX10_foretells_0 : cX10_foretells.data.toList.drop 0 = dktX10_foretells_0 := by decide +kernel
theorem dksX10_foretells_1 : cX10_foretells.data.toList.drop 23 = dktX10_foretells_1 := dk_seg dksX10_foretells_0 23 rfl rfl
theorem dX10_foretells_0 : decode cX10_foretells 0 = .ok (.aload_n 0, 1) := dk_42 (dk_at dksX10_foretells_0 0 rfl rfl)
theorem dX10_foretells_1 : decode cX10_foretells 1 = .ok (.invokevirtual 421, 3) := dk_182 1 165 (dk_at dksX10_foretells_0 1 rfl rfl)
theorem dX10_foretells_4 : decode cX10_foretells 4 = .ok (.iconst 0, 1) := dk_3 (dk_at dksX10_foretells_0 4 rfl rfl)
theorem dX10_foretells_5 : decode cX10_foretells 5 = .ok (.istore_n 2, 1) := dk_61 (dk_at dksX10_foretells_0 5 rfl rfl)
theorem dX10_foretells_6 : decode cX10_foretells 6 = .ok (.iload_n 2, 1) := dk_28 (dk_at dksX10_foretells_0 6 rfl rfl)
theorem dX10_foretells_7 : decode cX10_foretells 7 = .ok (.iload_n 1, 1) := dk_27 (dk_at dksX10_foretells_0 7 rfl rfl)
theorem dX10_foretells_8 : decode cX10_foretells 8 = .ok (.if_icmp .ge 28, 3) := dk_162 0 28 (dk_at dksX10_foretells_0 8 rfl rfl)
theorem dX10_foretells_11 : decode cX10_foretells 11 = .ok (.aload_n 0, 1) := dk_42 (dk_at dksX10_foretells_0 11 rfl rfl)
theorem dX10_foretells_12 : decode cX10_foretells 12 = .ok (.aload_n 0, 1) := dk_42 (dk_at dksX10_foretells_0 12 rfl rfl)
theorem dX10_foretells_13 : decode cX10_foretells 13 = .ok (.getfield 424, 3) := dk_180 1 168 (dk_at dksX10_foretells_0 13 rfl rfl)
theorem dX10_foretells_16 : decode cX10_foretells 16 = .ok (.iload_n 2, 1) := dk_28 (dk_at dksX10_foretells_0 16 rfl rfl)
theorem dX10_foretells_17 : decode cX10_foretells 17 = .ok (.iadd, 1) := dk_96 (dk_at dksX10_foretells_0 17 rfl rfl)
theorem dX10_foretells_18 : decode cX10_foretells 18 = .ok (.iload_n 2, 1) := dk_28 (dk_at dksX10_foretells_0 18 rfl rfl)
theorem dX10_foretells_19 : decode cX10_foretells 19 = .ok (.ifCond .ne 7, 3) := dk_154 0 7 (dk_at dksX10_foretells_0 19 rfl rfl)
theorem dX10_foretells_22 : decode cX10_foretells 22 = .ok (.iconst 1, 1) := dk_4 (dk_at dksX10_foretells_0 22 rfl rfl)
theorem dX10_foretells_23 : decode cX10_foretells 23 = .ok (.goto 4, 3) := dk_167 0 4 (dk_at dksX10_foretells_1 0 rfl rfl)
theorem dX10_foretells_26 : decode cX10_foretells 26 = .ok (.iconst 0, 1) := dk_3 (dk_at dksX10_foretells_1 3 rfl rfl)
theorem dX10_foretells_27 : decode cX10_foretells 27 = .ok (.invokevirtual 427, 3) := dk_182 1 171 (dk_at dksX10_foretells_1 4 rfl rfl)
theorem dX10_foretells_30 : decode cX10_foretells 30 = .ok (.iinc 2 1, 3) := dk_132 2 1 (dk_at dksX10_foretells_1 7 rfl rfl)
theorem dX10_foretells_33 : decode cX10_foretells 33 = .ok (.goto (-27), 3) := dk_167 255 229 (dk_at dksX10_foretells_1 10 rfl rfl)
theorem dX10_foretells_36 : decode cX10_foretells 36 = .ok (.return_, 1) := dk_177 (dk_at dksX10_foretells_1 13 rfl rfl)
def dkwX10_clearLost_1 : List UInt8 := [181, 1, 147, 177]
abbrev dktX10_clearLost_1 : List UInt8 := dkwX10_clearLost_1 ++ []
def dkwX10_clearLost_0 : List UInt8 := [3, 60, 27, 16, 10, 162, 0, 16, 42, 180, 0, 107, 27, 3, 79, 132, 1, 1, 167, 255, 240, 42, 3]
abbrev dktX10_clearLost_0 : List UInt8 := dkwX10_clearLost_0 ++ dktX10_clearLost_1
theorem dksX10_clearLost_0 : cX10_clearLost.data.toList.drop 0 = dktX10_clearLost_0 := by decide +kernel
theorem dksX10_clearLost_1 : cX10_clearLost.data.toList.drop 23 = dktX10_clearLost_1 := dk_seg dksX10_clearLost_0 23 rfl rfl
theorem dX10_clearLost_0 : decode cX10_clearLost 0 = .ok (.iconst 0, 1) := dk_3 (dk_at dksX10_clearLost_0 0 rfl rfl)
theorem dX10_clearLost_1 : decode cX10_clearLost 1 = .ok (.istore_n 1, 1) := dk_60 (dk_at dksX10_clearLost_0 1 rfl rfl)
theorem dX10_clearLost_2 : decode cX10_clearLost 2 = .ok (.iload_n 1, 1) := dk_27 (dk_at dksX10_clearLost_0 2 rfl rfl)
theorem dX10_clearLost_3 : decode cX10_clearLost 3 = .ok (.bipush 10, 2) := dk_16 10 (dk_at dksX10_clearLost_0 3 rfl rfl)
theorem dX10_clearLost_5 : decode cX10_clearLost 5 = .ok (.if_icmp .ge 16, 3) := dk_162 0 16 (dk_at dksX10_clearLost_0 5 rfl rfl)
theorem dX10_clearLost_8 : decode cX10_clearLost 8 = .ok (.aload_n 0, 1) := dk_42 (dk_at dksX10_clearLost_0 8 rfl rfl)
theorem dX10_clearLost_9 : decode cX10_clearLost 9 = .ok (.getfield 107, 3) := dk_180 0 107 (dk_at dksX10_clearLost_0 9 rfl rfl)
theorem dX10_clearLost_12 : decode cX10_clearLost 12 = .ok (.iload_n 1, 1) := dk_27 (dk_at dksX10_clearLost_0 12 rfl rfl)
theorem dX10_clearLost_13 : decode cX10_clearLost 13 = .ok (.iconst 0, 1) := dk_3 (dk_at dksX10_clearLost_0 13 rfl rfl)
theorem dX10_clearLost_14 : decode cX10_clearLost 14 = .ok (.iastore, 1) := dk_79 (dk_at dksX10_clearLost_0 14 rfl rfl)
theorem dX10_clearLost_15 : decode cX10_clearLost 15 = .ok (.iinc 1 1, 3) := dk_132 1 1 (dk_at dksX10_clearLost_0 15 rfl rfl)
theorem dX10_clearLost_18 : decode cX10_clearLost 18 = .ok (.goto (-16), 3) := dk_167 255 240 (dk_at dksX10_clearLost_0 18 rfl rfl)
theorem dX10_clearLost_21 : decode cX10_clearLost 21 = .ok (.aload_n 0, 1) := dk_42 (dk_at dksX10_clearLost_0 21 rfl rfl)
theorem dX10_clearLost_22 : decode cX10_clearLost 22 = .ok (.iconst 0, 1) := dk_3 (dk_at dksX10_clearLost_0 22 rfl rfl)
theorem dX10_clearLost_23 : decode cX10_clearLost 23 = .ok (.putfield 403, 3) := dk_181 1 147 (dk_at dksX10_clearLost_1 0 rfl rfl)
theorem dX10_clearLost_26 : decode cX10_clearLost 26 = .ok (.return_, 1) := dk_177 (dk_at dksX10_clearLost_1 3 rfl rfl)
def dkwX10_passes_10 : List UInt8 := [180, 0, 86, 29, 46, 42, 180, 1, 13, 104, 16, 100, 108, 79, 132, 3, 1, 167, 255, 227, 177]
abbrev dktX10_passes_10 : List UInt8 := dkwX10_passes_10 ++ []
def dkwX10_passes_9 : List UInt8 := [46, 182, 1, 162, 132, 3, 1, 167, 255, 97, 3, 62, 29, 16, 64, 162, 0, 29, 42, 180, 0, 86, 29, 42]
abbrev dktX10_passes_9 : List UInt8 := dkwX10_passes_9 ++ dktX10_passes_10
def dkwX10_passes_8 : List UInt8 := [180, 0, 95, 21, 5, 46, 8, 182, 1, 162, 132, 5, 1, 167, 255, 214, 42, 21, 4, 42, 180, 0, 74, 29]
abbrev dktX10_passes_8 : List UInt8 := dkwX10_passes_8 ++ dktX10_passes_9
def dkwX10_passes_7 : List UInt8 := [100, 162, 0, 37, 42, 180, 0, 13, 42, 180, 0, 95, 21, 5, 46, 46, 5, 160, 0, 15, 42, 42]
abbrev dktX10_passes_7 : List UInt8 := dkwX10_passes_7 ++ dktX10_passes_8
def dkwX10_passes_6 : List UInt8 := [21, 5, 46, 184, 0, 232, 3, 79, 132, 5, 1, 167, 255, 219, 4, 54, 5, 21, 5, 42, 180, 1, 129, 4]
abbrev dktX10_passes_6 : List UInt8 := dkwX10_passes_6 ++ dktX10_passes_7
def dkwX10_passes_5 : List UInt8 := [180, 1, 129, 162, 0, 34, 42, 180, 0, 83, 42, 180, 0, 95, 21, 5, 4, 100, 46, 42, 180, 0, 95]
abbrev dktX10_passes_5 : List UInt8 := dkwX10_passes_5 ++ dktX10_passes_6
def dkwX10_passes_4 : List UInt8 := [160, 0, 6, 167, 0, 118, 42, 42, 180, 0, 71, 29, 46, 21, 4, 182, 1, 144, 4, 54, 5, 21, 5, 42]
abbrev dktX10_passes_4 : List UInt8 := dkwX10_passes_4 ++ dktX10_passes_5
def dkwX10_passes_3 : List UInt8 := [29, 46, 182, 1, 141, 42, 29, 27, 16, 30, 108, 16, 12, 112, 182, 1, 159, 54, 4, 21, 4, 2]
abbrev dktX10_passes_3 : List UInt8 := dkwX10_passes_3 ++ dktX10_passes_4
def dkwX10_passes_2 : List UInt8 := [182, 1, 153, 132, 3, 1, 167, 255, 235, 3, 62, 29, 42, 180, 0, 225, 162, 0, 157, 42, 42, 180, 0, 71]
abbrev dktX10_passes_2 : List UInt8 := dkwX10_passes_2 ++ dktX10_passes_3
def dkwX10_passes_1 : List UInt8 := [132, 3, 1, 167, 255, 235, 3, 62, 29, 42, 180, 1, 156, 162, 0, 19, 42, 42, 180, 0, 104, 29, 46]
abbrev dktX10_passes_1 : List UInt8 := dkwX10_passes_1 ++ dktX10_passes_2
def dkwX10_passes_0 : List UInt8 := [28, 153, 0, 55, 3, 62, 29, 42, 180, 1, 150, 162, 0, 19, 42, 42, 180, 0, 101, 29, 46, 182, 1, 153]
abbrev dktX10_passes_0 : List UInt8 := dkwX10_passes_0 ++ dktX10_passes_1
theorem dksX10_passes_0 : cX10_passes.data.toList.drop 0 = dktX10_passes_0 := by decide +kernel
theorem dksX10_passes_1 : cX10_passes.data.toList.drop 24 = dktX10_passes_1 := dk_seg dksX10_passes_0 24 rfl rfl
theorem dksX10_passes_2 : cX10_passes.data.toList.drop 47 = dktX10_passes_2 := dk_seg dksX10_passes_1 23 rfl rfl
theorem dksX10_passes_3 : cX10_passes.data.toList.drop 71 = dktX10_passes_3 := dk_seg dksX10_passes_2 24 rfl rfl
theorem dksX10_passes_4 : cX10_passes.data.toList.drop 93 = dktX10_passes_4 := dk_seg dksX10_passes_3 22 rfl rfl
theorem dksX10_passes_5 : cX10_passes.data.toList.drop 117 = dktX10_passes_5 := dk_seg dksX10_passes_4 24 rfl rfl
theorem dksX10_passes_6 : cX10_passes.data.toList.drop 140 = dktX10_passes_6 := dk_seg dksX10_passes_5 23 rfl rfl
theorem dksX10_passes_7 : cX10_passes.data.toList.drop 164 = dktX10_passes_7 := dk_seg dksX10_passes_6 24 rfl rfl
theorem dksX10_passes_8 : cX10_passes.data.toList.drop 186 = dktX10_passes_8 := dk_seg dksX10_passes_7 22 rfl rfl
theorem dksX10_passes_9 : cX10_passes.data.toList.drop 210 = dktX10_passes_9 := dk_seg dksX10_passes_8 24 rfl rfl
theorem dksX10_passes_10 : cX10_passes.data.toList.drop 234 = dktX10_passes_10 := dk_seg dksX10_passes_9 24 rfl rfl
theorem dX10_passes_0 : decode cX10_passes 0 = .ok (.iload_n 2, 1) := dk_28 (dk_at dksX10_passes_0 0 rfl rfl)
theorem dX10_passes_1 : decode cX10_passes 1 = .ok (.ifCond .eq 55, 3) := dk_153 0 55 (dk_at dksX10_passes_0 1 rfl rfl)
theorem dX10_passes_4 : decode cX10_passes 4 = .ok (.iconst 0, 1) := dk_3 (dk_at dksX10_passes_0 4 rfl rfl)
theorem dX10_passes_5 : decode cX10_passes 5 = .ok (.istore_n 3, 1) := dk_62 (dk_at dksX10_passes_0 5 rfl rfl)
theorem dX10_passes_6 : decode cX10_passes 6 = .ok (.iload_n 3, 1) := dk_29 (dk_at dksX10_passes_0 6 rfl rfl)
theorem dX10_passes_7 : decode cX10_passes 7 = .ok (.aload_n 0, 1) := dk_42 (dk_at dksX10_passes_0 7 rfl rfl)
theorem dX10_passes_8 : decode cX10_passes 8 = .ok (.getfield 406, 3) := dk_180 1 150 (dk_at dksX10_passes_0 8 rfl rfl)
theorem dX10_passes_11 : decode cX10_passes 11 = .ok (.if_icmp .ge 19, 3) := dk_162 0 19 (dk_at dksX10_passes_0 11 rfl rfl)
theorem dX10_passes_14 : decode cX10_passes 14 = .ok (.aload_n 0, 1) := dk_42 (dk_at dksX10_passes_0 14 rfl rfl)
theorem dX10_passes_15 : decode cX10_passes 15 = .ok (.aload_n 0, 1) := dk_42 (dk_at dksX10_passes_0 15 rfl rfl)
theorem dX10_passes_16 : decode cX10_passes 16 = .ok (.getfield 101, 3) := dk_180 0 101 (dk_at dksX10_passes_0 16 rfl rfl)
theorem dX10_passes_19 : decode cX10_passes 19 = .ok (.iload_n 3, 1) := dk_29 (dk_at dksX10_passes_0 19 rfl rfl)
theorem dX10_passes_20 : decode cX10_passes 20 = .ok (.iaload, 1) := dk_46 (dk_at dksX10_passes_0 20 rfl rfl)
theorem dX10_passes_21 : decode cX10_passes 21 = .ok (.invokevirtual 409, 3) := dk_182 1 153 (dk_at dksX10_passes_0 21 rfl rfl)
theorem dX10_passes_24 : decode cX10_passes 24 = .ok (.iinc 3 1, 3) := dk_132 3 1 (dk_at dksX10_passes_1 0 rfl rfl)
theorem dX10_passes_27 : decode cX10_passes 27 = .ok (.goto (-21), 3) := dk_167 255 235 (dk_at dksX10_passes_1 3 rfl rfl)
theorem dX10_passes_30 : decode cX10_passes 30 = .ok (.iconst 0, 1) := dk_3 (dk_at dksX10_passes_1 6 rfl rfl)
theorem dX10_passes_31 : decode cX10_passes 31 = .ok (.istore_n 3, 1) := dk_62 (dk_at dksX10_passes_1 7 rfl rfl)
theorem dX10_passes_32 : decode cX10_passes 32 = .ok (.iload_n 3, 1) := dk_29 (dk_at dksX10_passes_1 8 rfl rfl)
theorem dX10_passes_33 : decode cX10_passes 33 = .ok (.aload_n 0, 1) := dk_42 (dk_at dksX10_passes_1 9 rfl rfl)
theorem dX10_passes_34 : decode cX10_passes 34 = .ok (.getfield 412, 3) := dk_180 1 156 (dk_at dksX10_passes_1 10 rfl rfl)
theorem dX10_passes_37 : decode cX10_passes 37 = .ok (.if_icmp .ge 19, 3) := dk_162 0 19 (dk_at dksX10_passes_1 13 rfl rfl)
theorem dX10_passes_40 : decode cX10_passes 40 = .ok (.aload_n 0, 1) := dk_42 (dk_at dksX10_passes_1 16 rfl rfl)
theorem dX10_passes_41 : decode cX10_passes 41 = .ok (.aload_n 0, 1) := dk_42 (dk_at dksX10_passes_1 17 rfl rfl)
theorem dX10_passes_42 : decode cX10_passes 42 = .ok (.getfield 104, 3) := dk_180 0 104 (dk_at dksX10_passes_1 18 rfl rfl)
theorem dX10_passes_45 : decode cX10_passes 45 = .ok (.iload_n 3, 1) := dk_29 (dk_at dksX10_passes_1 21 rfl rfl)
theorem dX10_passes_46 : decode cX10_passes 46 = .ok (.iaload, 1) := dk_46 (dk_at dksX10_passes_1 22 rfl rfl)
theorem dX10_passes_47 : decode cX10_passes 47 = .ok (.invokevirtual 409, 3) := dk_182 1 153 (dk_at dksX10_passes_2 0 rfl rfl)
theorem dX10_passes_50 : decode cX10_passes 50 = .ok (.iinc 3 1, 3) := dk_132 3 1 (dk_at dksX10_passes_2 3 rfl rfl)
theorem dX10_passes_53 : decode cX10_passes 53 = .ok (.goto (-21), 3) := dk_167 255 235 (dk_at dksX10_passes_2 6 rfl rfl)
theorem dX10_passes_56 : decode cX10_passes 56 = .ok (.iconst 0, 1) := dk_3 (dk_at dksX10_passes_2 9 rfl rfl)
theorem dX10_passes_57 : decode cX10_passes 57 = .ok (.istore_n 3, 1) := dk_62 (dk_at dksX10_passes_2 10 rfl rfl)
theorem dX10_passes_58 : decode cX10_passes 58 = .ok (.iload_n 3, 1) := dk_29 (dk_at dksX10_passes_2 11 rfl rfl)
theorem dX10_passes_59 : decode cX10_passes 59 = .ok (.aload_n 0, 1) := dk_42 (dk_at dksX10_passes_2 12 rfl rfl)
theorem dX10_passes_60 : decode cX10_passes 60 = .ok (.getfield 225, 3) := dk_180 0 225 (dk_at dksX10_passes_2 13 rfl rfl)
theorem dX10_passes_63 : decode cX10_passes 63 = .ok (.if_icmp .ge 157, 3) := dk_162 0 157 (dk_at dksX10_passes_2 16 rfl rfl)
theorem dX10_passes_66 : decode cX10_passes 66 = .ok (.aload_n 0, 1) := dk_42 (dk_at dksX10_passes_2 19 rfl rfl)
theorem dX10_passes_67 : decode cX10_passes 67 = .ok (.aload_n 0, 1) := dk_42 (dk_at dksX10_passes_2 20 rfl rfl)
theorem dX10_passes_68 : decode cX10_passes 68 = .ok (.getfield 71, 3) := dk_180 0 71 (dk_at dksX10_passes_2 21 rfl rfl)
theorem dX10_passes_71 : decode cX10_passes 71 = .ok (.iload_n 3, 1) := dk_29 (dk_at dksX10_passes_3 0 rfl rfl)
theorem dX10_passes_72 : decode cX10_passes 72 = .ok (.iaload, 1) := dk_46 (dk_at dksX10_passes_3 1 rfl rfl)
theorem dX10_passes_73 : decode cX10_passes 73 = .ok (.invokevirtual 397, 3) := dk_182 1 141 (dk_at dksX10_passes_3 2 rfl rfl)
theorem dX10_passes_76 : decode cX10_passes 76 = .ok (.aload_n 0, 1) := dk_42 (dk_at dksX10_passes_3 5 rfl rfl)
theorem dX10_passes_77 : decode cX10_passes 77 = .ok (.iload_n 3, 1) := dk_29 (dk_at dksX10_passes_3 6 rfl rfl)
theorem dX10_passes_78 : decode cX10_passes 78 = .ok (.iload_n 1, 1) := dk_27 (dk_at dksX10_passes_3 7 rfl rfl)
theorem dX10_passes_79 : decode cX10_passes 79 = .ok (.bipush 30, 2) := dk_16 30 (dk_at dksX10_passes_3 8 rfl rfl)
theorem dX10_passes_81 : decode cX10_passes 81 = .ok (.idiv, 1) := dk_108 (dk_at dksX10_passes_3 10 rfl rfl)
theorem dX10_passes_82 : decode cX10_passes 82 = .ok (.bipush 12, 2) := dk_16 12 (dk_at dksX10_passes_3 11 rfl rfl)
theorem dX10_passes_84 : decode cX10_passes 84 = .ok (.irem, 1) := dk_112 (dk_at dksX10_passes_3 13 rfl rfl)
theorem dX10_passes_85 : decode cX10_passes 85 = .ok (.invokevirtual 415, 3) := dk_182 1 159 (dk_at dksX10_passes_3 14 rfl rfl)
theorem dX10_passes_88 : decode cX10_passes 88 = .ok (.istore 4, 2) := dk_54 4 (dk_at dksX10_passes_3 17 rfl rfl)
theorem dX10_passes_90 : decode cX10_passes 90 = .ok (.iload 4, 2) := dk_21 4 (dk_at dksX10_passes_3 19 rfl rfl)
theorem dX10_passes_92 : decode cX10_passes 92 = .ok (.iconst (-1), 1) := dk_2 (dk_at dksX10_passes_3 21 rfl rfl)
theorem dX10_passes_93 : decode cX10_passes 93 = .ok (.if_icmp .ne 6, 3) := dk_160 0 6 (dk_at dksX10_passes_4 0 rfl rfl)
theorem dX10_passes_96 : decode cX10_passes 96 = .ok (.goto 118, 3) := dk_167 0 118 (dk_at dksX10_passes_4 3 rfl rfl)
theorem dX10_passes_99 : decode cX10_passes 99 = .ok (.aload_n 0, 1) := dk_42 (dk_at dksX10_passes_4 6 rfl rfl)
theorem dX10_passes_100 : decode cX10_passes 100 = .ok (.aload_n 0, 1) := dk_42 (dk_at dksX10_passes_4 7 rfl rfl)
theorem dX10_passes_101 : decode cX10_passes 101 = .ok (.getfield 71, 3) := dk_180 0 71 (dk_at dksX10_passes_4 8 rfl rfl)
theorem dX10_passes_104 : decode cX10_passes 104 = .ok (.iload_n 3, 1) := dk_29 (dk_at dksX10_passes_4 11 rfl rfl)
theorem dX10_passes_105 : decode cX10_passes 105 = .ok (.iaload, 1) := dk_46 (dk_at dksX10_passes_4 12 rfl rfl)
theorem dX10_passes_106 : decode cX10_passes 106 = .ok (.iload 4, 2) := dk_21 4 (dk_at dksX10_passes_4 13 rfl rfl)
theorem dX10_passes_108 : decode cX10_passes 108 = .ok (.invokevirtual 400, 3) := dk_182 1 144 (dk_at dksX10_passes_4 15 rfl rfl)
theorem dX10_passes_111 : decode cX10_passes 111 = .ok (.iconst 1, 1) := dk_4 (dk_at dksX10_passes_4 18 rfl rfl)
theorem dX10_passes_112 : decode cX10_passes 112 = .ok (.istore 5, 2) := dk_54 5 (dk_at dksX10_passes_4 19 rfl rfl)
theorem dX10_passes_114 : decode cX10_passes 114 = .ok (.iload 5, 2) := dk_21 5 (dk_at dksX10_passes_4 21 rfl rfl)
theorem dX10_passes_116 : decode cX10_passes 116 = .ok (.aload_n 0, 1) := dk_42 (dk_at dksX10_passes_4 23 rfl rfl)
theorem dX10_passes_117 : decode cX10_passes 117 = .ok (.getfield 385, 3) := dk_180 1 129 (dk_at dksX10_passes_5 0 rfl rfl)
theorem dX10_passes_120 : decode cX10_passes 120 = .ok (.if_icmp .ge 34, 3) := dk_162 0 34 (dk_at dksX10_passes_5 3 rfl rfl)
theorem dX10_passes_123 : decode cX10_passes 123 = .ok (.aload_n 0, 1) := dk_42 (dk_at dksX10_passes_5 6 rfl rfl)
theorem dX10_passes_124 : decode cX10_passes 124 = .ok (.getfield 83, 3) := dk_180 0 83 (dk_at dksX10_passes_5 7 rfl rfl)
theorem dX10_passes_127 : decode cX10_passes 127 = .ok (.aload_n 0, 1) := dk_42 (dk_at dksX10_passes_5 10 rfl rfl)
theorem dX10_passes_128 : decode cX10_passes 128 = .ok (.getfield 95, 3) := dk_180 0 95 (dk_at dksX10_passes_5 11 rfl rfl)
theorem dX10_passes_131 : decode cX10_passes 131 = .ok (.iload 5, 2) := dk_21 5 (dk_at dksX10_passes_5 14 rfl rfl)
theorem dX10_passes_133 : decode cX10_passes 133 = .ok (.iconst 1, 1) := dk_4 (dk_at dksX10_passes_5 16 rfl rfl)
theorem dX10_passes_134 : decode cX10_passes 134 = .ok (.isub, 1) := dk_100 (dk_at dksX10_passes_5 17 rfl rfl)
theorem dX10_passes_135 : decode cX10_passes 135 = .ok (.iaload, 1) := dk_46 (dk_at dksX10_passes_5 18 rfl rfl)
theorem dX10_passes_136 : decode cX10_passes 136 = .ok (.aload_n 0, 1) := dk_42 (dk_at dksX10_passes_5 19 rfl rfl)
theorem dX10_passes_137 : decode cX10_passes 137 = .ok (.getfield 95, 3) := dk_180 0 95 (dk_at dksX10_passes_5 20 rfl rfl)
theorem dX10_passes_140 : decode cX10_passes 140 = .ok (.iload 5, 2) := dk_21 5 (dk_at dksX10_passes_6 0 rfl rfl)
theorem dX10_passes_142 : decode cX10_passes 142 = .ok (.iaload, 1) := dk_46 (dk_at dksX10_passes_6 2 rfl rfl)
theorem dX10_passes_143 : decode cX10_passes 143 = .ok (.invokestatic 232, 3) := dk_184 0 232 (dk_at dksX10_passes_6 3 rfl rfl)
theorem dX10_passes_146 : decode cX10_passes 146 = .ok (.iconst 0, 1) := dk_3 (dk_at dksX10_passes_6 6 rfl rfl)
theorem dX10_passes_147 : decode cX10_passes 147 = .ok (.iastore, 1) := dk_79 (dk_at dksX10_passes_6 7 rfl rfl)
theorem dX10_passes_148 : decode cX10_passes 148 = .ok (.iinc 5 1, 3) := dk_132 5 1 (dk_at dksX10_passes_6 8 rfl rfl)
theorem dX10_passes_151 : decode cX10_passes 151 = .ok (.goto (-37), 3) := dk_167 255 219 (dk_at dksX10_passes_6 11 rfl rfl)
theorem dX10_passes_154 : decode cX10_passes 154 = .ok (.iconst 1, 1) := dk_4 (dk_at dksX10_passes_6 14 rfl rfl)
theorem dX10_passes_155 : decode cX10_passes 155 = .ok (.istore 5, 2) := dk_54 5 (dk_at dksX10_passes_6 15 rfl rfl)
theorem dX10_passes_157 : decode cX10_passes 157 = .ok (.iload 5, 2) := dk_21 5 (dk_at dksX10_passes_6 17 rfl rfl)
theorem dX10_passes_159 : decode cX10_passes 159 = .ok (.aload_n 0, 1) := dk_42 (dk_at dksX10_passes_6 19 rfl rfl)
theorem dX10_passes_160 : decode cX10_passes 160 = .ok (.getfield 385, 3) := dk_180 1 129 (dk_at dksX10_passes_6 20 rfl rfl)
theorem dX10_passes_163 : decode cX10_passes 163 = .ok (.iconst 1, 1) := dk_4 (dk_at dksX10_passes_6 23 rfl rfl)
theorem dX10_passes_164 : decode cX10_passes 164 = .ok (.isub, 1) := dk_100 (dk_at dksX10_passes_7 0 rfl rfl)
theorem dX10_passes_165 : decode cX10_passes 165 = .ok (.if_icmp .ge 37, 3) := dk_162 0 37 (dk_at dksX10_passes_7 1 rfl rfl)
theorem dX10_passes_168 : decode cX10_passes 168 = .ok (.aload_n 0, 1) := dk_42 (dk_at dksX10_passes_7 4 rfl rfl)
theorem dX10_passes_169 : decode cX10_passes 169 = .ok (.getfield 13, 3) := dk_180 0 13 (dk_at dksX10_passes_7 5 rfl rfl)
theorem dX10_passes_172 : decode cX10_passes 172 = .ok (.aload_n 0, 1) := dk_42 (dk_at dksX10_passes_7 8 rfl rfl)
theorem dX10_passes_173 : decode cX10_passes 173 = .ok (.getfield 95, 3) := dk_180 0 95 (dk_at dksX10_passes_7 9 rfl rfl)
theorem dX10_passes_176 : decode cX10_passes 176 = .ok (.iload 5, 2) := dk_21 5 (dk_at dksX10_passes_7 12 rfl rfl)
theorem dX10_passes_178 : decode cX10_passes 178 = .ok (.iaload, 1) := dk_46 (dk_at dksX10_passes_7 14 rfl rfl)
theorem dX10_passes_179 : decode cX10_passes 179 = .ok (.iaload, 1) := dk_46 (dk_at dksX10_passes_7 15 rfl rfl)
theorem dX10_passes_180 : decode cX10_passes 180 = .ok (.iconst 2, 1) := dk_5 (dk_at dksX10_passes_7 16 rfl rfl)
theorem dX10_passes_181 : decode cX10_passes 181 = .ok (.if_icmp .ne 15, 3) := dk_160 0 15 (dk_at dksX10_passes_7 17 rfl rfl)
theorem dX10_passes_184 : decode cX10_passes 184 = .ok (.aload_n 0, 1) := dk_42 (dk_at dksX10_passes_7 20 rfl rfl)
theorem dX10_passes_185 : decode cX10_passes 185 = .ok (.aload_n 0, 1) := dk_42 (dk_at dksX10_passes_7 21 rfl rfl)
theorem dX10_passes_186 : decode cX10_passes 186 = .ok (.getfield 95, 3) := dk_180 0 95 (dk_at dksX10_passes_8 0 rfl rfl)
theorem dX10_passes_189 : decode cX10_passes 189 = .ok (.iload 5, 2) := dk_21 5 (dk_at dksX10_passes_8 3 rfl rfl)
theorem dX10_passes_191 : decode cX10_passes 191 = .ok (.iaload, 1) := dk_46 (dk_at dksX10_passes_8 5 rfl rfl)
theorem dX10_passes_192 : decode cX10_passes 192 = .ok (.iconst 5, 1) := dk_8 (dk_at dksX10_passes_8 6 rfl rfl)
theorem dX10_passes_193 : decode cX10_passes 193 = .ok (.invokevirtual 418, 3) := dk_182 1 162 (dk_at dksX10_passes_8 7 rfl rfl)
theorem dX10_passes_196 : decode cX10_passes 196 = .ok (.iinc 5 1, 3) := dk_132 5 1 (dk_at dksX10_passes_8 10 rfl rfl)
theorem dX10_passes_199 : decode cX10_passes 199 = .ok (.goto (-42), 3) := dk_167 255 214 (dk_at dksX10_passes_8 13 rfl rfl)
theorem dX10_passes_202 : decode cX10_passes 202 = .ok (.aload_n 0, 1) := dk_42 (dk_at dksX10_passes_8 16 rfl rfl)
theorem dX10_passes_203 : decode cX10_passes 203 = .ok (.iload 4, 2) := dk_21 4 (dk_at dksX10_passes_8 17 rfl rfl)
theorem dX10_passes_205 : decode cX10_passes 205 = .ok (.aload_n 0, 1) := dk_42 (dk_at dksX10_passes_8 19 rfl rfl)
theorem dX10_passes_206 : decode cX10_passes 206 = .ok (.getfield 74, 3) := dk_180 0 74 (dk_at dksX10_passes_8 20 rfl rfl)
theorem dX10_passes_209 : decode cX10_passes 209 = .ok (.iload_n 3, 1) := dk_29 (dk_at dksX10_passes_8 23 rfl rfl)
theorem dX10_passes_210 : decode cX10_passes 210 = .ok (.iaload, 1) := dk_46 (dk_at dksX10_passes_9 0 rfl rfl)
theorem dX10_passes_211 : decode cX10_passes 211 = .ok (.invokevirtual 418, 3) := dk_182 1 162 (dk_at dksX10_passes_9 1 rfl rfl)
theorem dX10_passes_214 : decode cX10_passes 214 = .ok (.iinc 3 1, 3) := dk_132 3 1 (dk_at dksX10_passes_9 4 rfl rfl)
theorem dX10_passes_217 : decode cX10_passes 217 = .ok (.goto (-159), 3) := dk_167 255 97 (dk_at dksX10_passes_9 7 rfl rfl)
theorem dX10_passes_220 : decode cX10_passes 220 = .ok (.iconst 0, 1) := dk_3 (dk_at dksX10_passes_9 10 rfl rfl)
theorem dX10_passes_221 : decode cX10_passes 221 = .ok (.istore_n 3, 1) := dk_62 (dk_at dksX10_passes_9 11 rfl rfl)
theorem dX10_passes_222 : decode cX10_passes 222 = .ok (.iload_n 3, 1) := dk_29 (dk_at dksX10_passes_9 12 rfl rfl)
theorem dX10_passes_223 : decode cX10_passes 223 = .ok (.bipush 64, 2) := dk_16 64 (dk_at dksX10_passes_9 13 rfl rfl)
theorem dX10_passes_225 : decode cX10_passes 225 = .ok (.if_icmp .ge 29, 3) := dk_162 0 29 (dk_at dksX10_passes_9 15 rfl rfl)
theorem dX10_passes_228 : decode cX10_passes 228 = .ok (.aload_n 0, 1) := dk_42 (dk_at dksX10_passes_9 18 rfl rfl)
theorem dX10_passes_229 : decode cX10_passes 229 = .ok (.getfield 86, 3) := dk_180 0 86 (dk_at dksX10_passes_9 19 rfl rfl)
theorem dX10_passes_232 : decode cX10_passes 232 = .ok (.iload_n 3, 1) := dk_29 (dk_at dksX10_passes_9 22 rfl rfl)
theorem dX10_passes_233 : decode cX10_passes 233 = .ok (.aload_n 0, 1) := dk_42 (dk_at dksX10_passes_9 23 rfl rfl)
theorem dX10_passes_234 : decode cX10_passes 234 = .ok (.getfield 86, 3) := dk_180 0 86 (dk_at dksX10_passes_10 0 rfl rfl)
theorem dX10_passes_237 : decode cX10_passes 237 = .ok (.iload_n 3, 1) := dk_29 (dk_at dksX10_passes_10 3 rfl rfl)
theorem dX10_passes_238 : decode cX10_passes 238 = .ok (.iaload, 1) := dk_46 (dk_at dksX10_passes_10 4 rfl rfl)
theorem dX10_passes_239 : decode cX10_passes 239 = .ok (.aload_n 0, 1) := dk_42 (dk_at dksX10_passes_10 5 rfl rfl)
theorem dX10_passes_240 : decode cX10_passes 240 = .ok (.getfield 269, 3) := dk_180 1 13 (dk_at dksX10_passes_10 6 rfl rfl)
theorem dX10_passes_243 : decode cX10_passes 243 = .ok (.imul, 1) := dk_104 (dk_at dksX10_passes_10 9 rfl rfl)
theorem dX10_passes_244 : decode cX10_passes 244 = .ok (.bipush 100, 2) := dk_16 100 (dk_at dksX10_passes_10 10 rfl rfl)
theorem dX10_passes_246 : decode cX10_passes 246 = .ok (.idiv, 1) := dk_108 (dk_at dksX10_passes_10 12 rfl rfl)
theorem dX10_passes_247 : decode cX10_passes 247 = .ok (.iastore, 1) := dk_79 (dk_at dksX10_passes_10 13 rfl rfl)
theorem dX10_passes_248 : decode cX10_passes 248 = .ok (.iinc 3 1, 3) := dk_132 3 1 (dk_at dksX10_passes_10 14 rfl rfl)
theorem dX10_passes_251 : decode cX10_passes 251 = .ok (.goto (-29), 3) := dk_167 255 227 (dk_at dksX10_passes_10 17 rfl rfl)
theorem dX10_passes_254 : decode cX10_passes 254 = .ok (.return_, 1) := dk_177 (dk_at dksX10_passes_10 20 rfl rfl)
def dkwX10_scares_4 : List UInt8 := [29, 46, 42, 180, 1, 10, 5, 108, 96, 79, 132, 2, 1, 167, 255, 193, 177]
abbrev dktX10_scares_4 : List UInt8 := dkwX10_scares_4 ++ []
def dkwX10_scares_3 : List UInt8 := [46, 42, 180, 1, 10, 5, 108, 96, 17, 3, 232, 164, 0, 9, 17, 3, 232, 167, 0, 16, 42, 180, 0, 86]
abbrev dktX10_scares_3 : List UInt8 := dkwX10_scares_3 ++ dktX10_scares_4
def dkwX10_scares_2 : List UInt8 := [162, 0, 64, 27, 28, 184, 1, 123, 62, 29, 2, 159, 0, 47, 42, 180, 0, 86, 29, 42, 180, 0, 86, 29]
abbrev dktX10_scares_2 : List UInt8 := dkwX10_scares_2 ++ dktX10_scares_3
def dkwX10_scares_1 : List UInt8 := [17, 3, 232, 167, 0, 14, 42, 180, 0, 86, 27, 46, 42, 180, 1, 10, 96, 79, 3, 61, 28, 7]
abbrev dktX10_scares_1 : List UInt8 := dkwX10_scares_1 ++ dktX10_scares_2
def dkwX10_scares_0 : List UInt8 := [42, 180, 0, 86, 27, 42, 180, 0, 86, 27, 46, 42, 180, 1, 10, 96, 17, 3, 232, 164, 0, 9]
abbrev dktX10_scares_0 : List UInt8 := dkwX10_scares_0 ++ dktX10_scares_1
theorem dksX10_scares_0 : cX10_scares.data.toList.drop 0 = dktX10_scares_0 := by decide +kernel
theorem dksX10_scares_1 : cX10_scares.data.toList.drop 22 = dktX10_scares_1 := dk_seg dksX10_scares_0 22 rfl rfl
theorem dksX10_scares_2 : cX10_scares.data.toList.drop 44 = dktX10_scares_2 := dk_seg dksX10_scares_1 22 rfl rfl
theorem dksX10_scares_3 : cX10_scares.data.toList.drop 68 = dktX10_scares_3 := dk_seg dksX10_scares_2 24 rfl rfl
theorem dksX10_scares_4 : cX10_scares.data.toList.drop 92 = dktX10_scares_4 := dk_seg dksX10_scares_3 24 rfl rfl
theorem dX10_scares_0 : decode cX10_scares 0 = .ok (.aload_n 0, 1) := dk_42 (dk_at dksX10_scares_0 0 rfl rfl)
theorem dX10_scares_1 : decode cX10_scares 1 = .ok (.getfield 86, 3) := dk_180 0 86 (dk_at dksX10_scares_0 1 rfl rfl)
theorem dX10_scares_4 : decode cX10_scares 4 = .ok (.iload_n 1, 1) := dk_27 (dk_at dksX10_scares_0 4 rfl rfl)
theorem dX10_scares_5 : decode cX10_scares 5 = .ok (.aload_n 0, 1) := dk_42 (dk_at dksX10_scares_0 5 rfl rfl)
theorem dX10_scares_6 : decode cX10_scares 6 = .ok (.getfield 86, 3) := dk_180 0 86 (dk_at dksX10_scares_0 6 rfl rfl)
theorem dX10_scares_9 : decode cX10_scares 9 = .ok (.iload_n 1, 1) := dk_27 (dk_at dksX10_scares_0 9 rfl rfl)
theorem dX10_scares_10 : decode cX10_scares 10 = .ok (.iaload, 1) := dk_46 (dk_at dksX10_scares_0 10 rfl rfl)
theorem dX10_scares_11 : decode cX10_scares 11 = .ok (.aload_n 0, 1) := dk_42 (dk_at dksX10_scares_0 11 rfl rfl)
theorem dX10_scares_12 : decode cX10_scares 12 = .ok (.getfield 266, 3) := dk_180 1 10 (dk_at dksX10_scares_0 12 rfl rfl)
theorem dX10_scares_15 : decode cX10_scares 15 = .ok (.iadd, 1) := dk_96 (dk_at dksX10_scares_0 15 rfl rfl)
theorem dX10_scares_16 : decode cX10_scares 16 = .ok (.sipush 1000, 3) := dk_17 3 232 (dk_at dksX10_scares_0 16 rfl rfl)
theorem dX10_scares_19 : decode cX10_scares 19 = .ok (.if_icmp .le 9, 3) := dk_164 0 9 (dk_at dksX10_scares_0 19 rfl rfl)
theorem dX10_scares_22 : decode cX10_scares 22 = .ok (.sipush 1000, 3) := dk_17 3 232 (dk_at dksX10_scares_1 0 rfl rfl)
theorem dX10_scares_25 : decode cX10_scares 25 = .ok (.goto 14, 3) := dk_167 0 14 (dk_at dksX10_scares_1 3 rfl rfl)
theorem dX10_scares_28 : decode cX10_scares 28 = .ok (.aload_n 0, 1) := dk_42 (dk_at dksX10_scares_1 6 rfl rfl)
theorem dX10_scares_29 : decode cX10_scares 29 = .ok (.getfield 86, 3) := dk_180 0 86 (dk_at dksX10_scares_1 7 rfl rfl)
theorem dX10_scares_32 : decode cX10_scares 32 = .ok (.iload_n 1, 1) := dk_27 (dk_at dksX10_scares_1 10 rfl rfl)
theorem dX10_scares_33 : decode cX10_scares 33 = .ok (.iaload, 1) := dk_46 (dk_at dksX10_scares_1 11 rfl rfl)
theorem dX10_scares_34 : decode cX10_scares 34 = .ok (.aload_n 0, 1) := dk_42 (dk_at dksX10_scares_1 12 rfl rfl)
theorem dX10_scares_35 : decode cX10_scares 35 = .ok (.getfield 266, 3) := dk_180 1 10 (dk_at dksX10_scares_1 13 rfl rfl)
theorem dX10_scares_38 : decode cX10_scares 38 = .ok (.iadd, 1) := dk_96 (dk_at dksX10_scares_1 16 rfl rfl)
theorem dX10_scares_39 : decode cX10_scares 39 = .ok (.iastore, 1) := dk_79 (dk_at dksX10_scares_1 17 rfl rfl)
theorem dX10_scares_40 : decode cX10_scares 40 = .ok (.iconst 0, 1) := dk_3 (dk_at dksX10_scares_1 18 rfl rfl)
theorem dX10_scares_41 : decode cX10_scares 41 = .ok (.istore_n 2, 1) := dk_61 (dk_at dksX10_scares_1 19 rfl rfl)
theorem dX10_scares_42 : decode cX10_scares 42 = .ok (.iload_n 2, 1) := dk_28 (dk_at dksX10_scares_1 20 rfl rfl)
theorem dX10_scares_43 : decode cX10_scares 43 = .ok (.iconst 4, 1) := dk_7 (dk_at dksX10_scares_1 21 rfl rfl)
theorem dX10_scares_44 : decode cX10_scares 44 = .ok (.if_icmp .ge 64, 3) := dk_162 0 64 (dk_at dksX10_scares_2 0 rfl rfl)
theorem dX10_scares_47 : decode cX10_scares 47 = .ok (.iload_n 1, 1) := dk_27 (dk_at dksX10_scares_2 3 rfl rfl)
theorem dX10_scares_48 : decode cX10_scares 48 = .ok (.iload_n 2, 1) := dk_28 (dk_at dksX10_scares_2 4 rfl rfl)
theorem dX10_scares_49 : decode cX10_scares 49 = .ok (.invokestatic 379, 3) := dk_184 1 123 (dk_at dksX10_scares_2 5 rfl rfl)
theorem dX10_scares_52 : decode cX10_scares 52 = .ok (.istore_n 3, 1) := dk_62 (dk_at dksX10_scares_2 8 rfl rfl)
theorem dX10_scares_53 : decode cX10_scares 53 = .ok (.iload_n 3, 1) := dk_29 (dk_at dksX10_scares_2 9 rfl rfl)
theorem dX10_scares_54 : decode cX10_scares 54 = .ok (.iconst (-1), 1) := dk_2 (dk_at dksX10_scares_2 10 rfl rfl)
theorem dX10_scares_55 : decode cX10_scares 55 = .ok (.if_icmp .eq 47, 3) := dk_159 0 47 (dk_at dksX10_scares_2 11 rfl rfl)
theorem dX10_scares_58 : decode cX10_scares 58 = .ok (.aload_n 0, 1) := dk_42 (dk_at dksX10_scares_2 14 rfl rfl)
theorem dX10_scares_59 : decode cX10_scares 59 = .ok (.getfield 86, 3) := dk_180 0 86 (dk_at dksX10_scares_2 15 rfl rfl)
theorem dX10_scares_62 : decode cX10_scares 62 = .ok (.iload_n 3, 1) := dk_29 (dk_at dksX10_scares_2 18 rfl rfl)
theorem dX10_scares_63 : decode cX10_scares 63 = .ok (.aload_n 0, 1) := dk_42 (dk_at dksX10_scares_2 19 rfl rfl)
theorem dX10_scares_64 : decode cX10_scares 64 = .ok (.getfield 86, 3) := dk_180 0 86 (dk_at dksX10_scares_2 20 rfl rfl)
theorem dX10_scares_67 : decode cX10_scares 67 = .ok (.iload_n 3, 1) := dk_29 (dk_at dksX10_scares_2 23 rfl rfl)
theorem dX10_scares_68 : decode cX10_scares 68 = .ok (.iaload, 1) := dk_46 (dk_at dksX10_scares_3 0 rfl rfl)
theorem dX10_scares_69 : decode cX10_scares 69 = .ok (.aload_n 0, 1) := dk_42 (dk_at dksX10_scares_3 1 rfl rfl)
theorem dX10_scares_70 : decode cX10_scares 70 = .ok (.getfield 266, 3) := dk_180 1 10 (dk_at dksX10_scares_3 2 rfl rfl)
theorem dX10_scares_73 : decode cX10_scares 73 = .ok (.iconst 2, 1) := dk_5 (dk_at dksX10_scares_3 5 rfl rfl)
theorem dX10_scares_74 : decode cX10_scares 74 = .ok (.idiv, 1) := dk_108 (dk_at dksX10_scares_3 6 rfl rfl)
theorem dX10_scares_75 : decode cX10_scares 75 = .ok (.iadd, 1) := dk_96 (dk_at dksX10_scares_3 7 rfl rfl)
theorem dX10_scares_76 : decode cX10_scares 76 = .ok (.sipush 1000, 3) := dk_17 3 232 (dk_at dksX10_scares_3 8 rfl rfl)
theorem dX10_scares_79 : decode cX10_scares 79 = .ok (.if_icmp .le 9, 3) := dk_164 0 9 (dk_at dksX10_scares_3 11 rfl rfl)
theorem dX10_scares_82 : decode cX10_scares 82 = .ok (.sipush 1000, 3) := dk_17 3 232 (dk_at dksX10_scares_3 14 rfl rfl)
theorem dX10_scares_85 : decode cX10_scares 85 = .ok (.goto 16, 3) := dk_167 0 16 (dk_at dksX10_scares_3 17 rfl rfl)
theorem dX10_scares_88 : decode cX10_scares 88 = .ok (.aload_n 0, 1) := dk_42 (dk_at dksX10_scares_3 20 rfl rfl)
theorem dX10_scares_89 : decode cX10_scares 89 = .ok (.getfield 86, 3) := dk_180 0 86 (dk_at dksX10_scares_3 21 rfl rfl)
theorem dX10_scares_92 : decode cX10_scares 92 = .ok (.iload_n 3, 1) := dk_29 (dk_at dksX10_scares_4 0 rfl rfl)
theorem dX10_scares_93 : decode cX10_scares 93 = .ok (.iaload, 1) := dk_46 (dk_at dksX10_scares_4 1 rfl rfl)
theorem dX10_scares_94 : decode cX10_scares 94 = .ok (.aload_n 0, 1) := dk_42 (dk_at dksX10_scares_4 2 rfl rfl)
theorem dX10_scares_95 : decode cX10_scares 95 = .ok (.getfield 266, 3) := dk_180 1 10 (dk_at dksX10_scares_4 3 rfl rfl)
theorem dX10_scares_98 : decode cX10_scares 98 = .ok (.iconst 2, 1) := dk_5 (dk_at dksX10_scares_4 6 rfl rfl)
theorem dX10_scares_99 : decode cX10_scares 99 = .ok (.idiv, 1) := dk_108 (dk_at dksX10_scares_4 7 rfl rfl)
theorem dX10_scares_100 : decode cX10_scares 100 = .ok (.iadd, 1) := dk_96 (dk_at dksX10_scares_4 8 rfl rfl)
theorem dX10_scares_101 : decode cX10_scares 101 = .ok (.iastore, 1) := dk_79 (dk_at dksX10_scares_4 9 rfl rfl)
theorem dX10_scares_102 : decode cX10_scares 102 = .ok (.iinc 2 1, 3) := dk_132 2 1 (dk_at dksX10_scares_4 10 rfl rfl)
theorem dX10_scares_105 : decode cX10_scares 105 = .ok (.goto (-63), 3) := dk_167 255 193 (dk_at dksX10_scares_4 13 rfl rfl)
theorem dX10_scares_108 : decode cX10_scares 108 = .ok (.return_, 1) := dk_177 (dk_at dksX10_scares_4 16 rfl rfl)
def dkwX10_targetOf_5 : List UInt8 := [21, 5, 62, 21, 6, 54, 4, 132, 5, 1, 167, 255, 137, 29, 172]
abbrev dktX10_targetOf_5 : List UInt8 := dkwX10_targetOf_5 ++ []
def dkwX10_targetOf_4 : List UInt8 := [27, 46, 104, 42, 180, 0, 89, 21, 5, 46, 100, 54, 6, 21, 6, 21, 4, 163, 0, 6, 167, 0, 10]
abbrev dktX10_targetOf_4 : List UInt8 := dkwX10_targetOf_4 ++ dktX10_targetOf_5
def dkwX10_targetOf_3 : List UInt8 := [46, 42, 180, 0, 74, 27, 46, 162, 0, 13, 42, 180, 0, 80, 21, 5, 46, 167, 0, 9, 42, 180, 0, 74]
abbrev dktX10_targetOf_3 : List UInt8 := dkwX10_targetOf_3 ++ dktX10_targetOf_4
def dkwX10_targetOf_2 : List UInt8 := [160, 0, 6, 167, 0, 75, 42, 42, 180, 0, 20, 21, 5, 46, 28, 182, 1, 119, 42, 180, 0, 80, 21, 5]
abbrev dktX10_targetOf_2 : List UInt8 := dkwX10_targetOf_2 ++ dktX10_targetOf_3
def dkwX10_targetOf_1 : List UInt8 := [160, 0, 101, 42, 180, 0, 80, 21, 5, 46, 153, 0, 91, 42, 180, 0, 89, 21, 5, 46, 19, 1, 122]
abbrev dktX10_targetOf_1 : List UInt8 := dkwX10_targetOf_1 ++ dktX10_targetOf_2
def dkwX10_targetOf_0 : List UInt8 := [2, 62, 3, 54, 4, 3, 54, 5, 21, 5, 16, 64, 162, 0, 118, 42, 180, 0, 13, 21, 5, 46, 5]
abbrev dktX10_targetOf_0 : List UInt8 := dkwX10_targetOf_0 ++ dktX10_targetOf_1
theorem dksX10_targetOf_0 : cX10_targetOf.data.toList.drop 0 = dktX10_targetOf_0 := by decide +kernel
theorem dksX10_targetOf_1 : cX10_targetOf.data.toList.drop 23 = dktX10_targetOf_1 := dk_seg dksX10_targetOf_0 23 rfl rfl
theorem dksX10_targetOf_2 : cX10_targetOf.data.toList.drop 46 = dktX10_targetOf_2 := dk_seg dksX10_targetOf_1 23 rfl rfl
theorem dksX10_targetOf_3 : cX10_targetOf.data.toList.drop 70 = dktX10_targetOf_3 := dk_seg dksX10_targetOf_2 24 rfl rfl
theorem dksX10_targetOf_4 : cX10_targetOf.data.toList.drop 94 = dktX10_targetOf_4 := dk_seg dksX10_targetOf_3 24 rfl rfl
theorem dksX10_targetOf_5 : cX10_targetOf.data.toList.drop 117 = dktX10_targetOf_5 := dk_seg dksX10_targetOf_4 23 rfl rfl
theorem dX10_targetOf_0 : decode cX10_targetOf 0 = .ok (.iconst (-1), 1) := dk_2 (dk_at dksX10_targetOf_0 0 rfl rfl)
theorem dX10_targetOf_1 : decode cX10_targetOf 1 = .ok (.istore_n 3, 1) := dk_62 (dk_at dksX10_targetOf_0 1 rfl rfl)
theorem dX10_targetOf_2 : decode cX10_targetOf 2 = .ok (.iconst 0, 1) := dk_3 (dk_at dksX10_targetOf_0 2 rfl rfl)
theorem dX10_targetOf_3 : decode cX10_targetOf 3 = .ok (.istore 4, 2) := dk_54 4 (dk_at dksX10_targetOf_0 3 rfl rfl)
theorem dX10_targetOf_5 : decode cX10_targetOf 5 = .ok (.iconst 0, 1) := dk_3 (dk_at dksX10_targetOf_0 5 rfl rfl)
theorem dX10_targetOf_6 : decode cX10_targetOf 6 = .ok (.istore 5, 2) := dk_54 5 (dk_at dksX10_targetOf_0 6 rfl rfl)
theorem dX10_targetOf_8 : decode cX10_targetOf 8 = .ok (.iload 5, 2) := dk_21 5 (dk_at dksX10_targetOf_0 8 rfl rfl)
theorem dX10_targetOf_10 : decode cX10_targetOf 10 = .ok (.bipush 64, 2) := dk_16 64 (dk_at dksX10_targetOf_0 10 rfl rfl)
theorem dX10_targetOf_12 : decode cX10_targetOf 12 = .ok (.if_icmp .ge 118, 3) := dk_162 0 118 (dk_at dksX10_targetOf_0 12 rfl rfl)
theorem dX10_targetOf_15 : decode cX10_targetOf 15 = .ok (.aload_n 0, 1) := dk_42 (dk_at dksX10_targetOf_0 15 rfl rfl)
theorem dX10_targetOf_16 : decode cX10_targetOf 16 = .ok (.getfield 13, 3) := dk_180 0 13 (dk_at dksX10_targetOf_0 16 rfl rfl)
theorem dX10_targetOf_19 : decode cX10_targetOf 19 = .ok (.iload 5, 2) := dk_21 5 (dk_at dksX10_targetOf_0 19 rfl rfl)
theorem dX10_targetOf_21 : decode cX10_targetOf 21 = .ok (.iaload, 1) := dk_46 (dk_at dksX10_targetOf_0 21 rfl rfl)
theorem dX10_targetOf_22 : decode cX10_targetOf 22 = .ok (.iconst 2, 1) := dk_5 (dk_at dksX10_targetOf_0 22 rfl rfl)
theorem dX10_targetOf_23 : decode cX10_targetOf 23 = .ok (.if_icmp .ne 101, 3) := dk_160 0 101 (dk_at dksX10_targetOf_1 0 rfl rfl)
theorem dX10_targetOf_26 : decode cX10_targetOf 26 = .ok (.aload_n 0, 1) := dk_42 (dk_at dksX10_targetOf_1 3 rfl rfl)
theorem dX10_targetOf_27 : decode cX10_targetOf 27 = .ok (.getfield 80, 3) := dk_180 0 80 (dk_at dksX10_targetOf_1 4 rfl rfl)
theorem dX10_targetOf_30 : decode cX10_targetOf 30 = .ok (.iload 5, 2) := dk_21 5 (dk_at dksX10_targetOf_1 7 rfl rfl)
theorem dX10_targetOf_32 : decode cX10_targetOf 32 = .ok (.iaload, 1) := dk_46 (dk_at dksX10_targetOf_1 9 rfl rfl)
theorem dX10_targetOf_33 : decode cX10_targetOf 33 = .ok (.ifCond .eq 91, 3) := dk_153 0 91 (dk_at dksX10_targetOf_1 10 rfl rfl)
theorem dX10_targetOf_36 : decode cX10_targetOf 36 = .ok (.aload_n 0, 1) := dk_42 (dk_at dksX10_targetOf_1 13 rfl rfl)
theorem dX10_targetOf_37 : decode cX10_targetOf 37 = .ok (.getfield 89, 3) := dk_180 0 89 (dk_at dksX10_targetOf_1 14 rfl rfl)
theorem dX10_targetOf_40 : decode cX10_targetOf 40 = .ok (.iload 5, 2) := dk_21 5 (dk_at dksX10_targetOf_1 17 rfl rfl)
theorem dX10_targetOf_42 : decode cX10_targetOf 42 = .ok (.iaload, 1) := dk_46 (dk_at dksX10_targetOf_1 19 rfl rfl)
theorem dX10_targetOf_43 : decode cX10_targetOf 43 = .ok (.ldc_w 378, 3) := dk_19 1 122 (dk_at dksX10_targetOf_1 20 rfl rfl)
theorem dX10_targetOf_46 : decode cX10_targetOf 46 = .ok (.if_icmp .ne 6, 3) := dk_160 0 6 (dk_at dksX10_targetOf_2 0 rfl rfl)
theorem dX10_targetOf_49 : decode cX10_targetOf 49 = .ok (.goto 75, 3) := dk_167 0 75 (dk_at dksX10_targetOf_2 3 rfl rfl)
theorem dX10_targetOf_52 : decode cX10_targetOf 52 = .ok (.aload_n 0, 1) := dk_42 (dk_at dksX10_targetOf_2 6 rfl rfl)
theorem dX10_targetOf_53 : decode cX10_targetOf 53 = .ok (.aload_n 0, 1) := dk_42 (dk_at dksX10_targetOf_2 7 rfl rfl)
theorem dX10_targetOf_54 : decode cX10_targetOf 54 = .ok (.getfield 20, 3) := dk_180 0 20 (dk_at dksX10_targetOf_2 8 rfl rfl)
theorem dX10_targetOf_57 : decode cX10_targetOf 57 = .ok (.iload 5, 2) := dk_21 5 (dk_at dksX10_targetOf_2 11 rfl rfl)
theorem dX10_targetOf_59 : decode cX10_targetOf 59 = .ok (.iaload, 1) := dk_46 (dk_at dksX10_targetOf_2 13 rfl rfl)
theorem dX10_targetOf_60 : decode cX10_targetOf 60 = .ok (.iload_n 2, 1) := dk_28 (dk_at dksX10_targetOf_2 14 rfl rfl)
theorem dX10_targetOf_61 : decode cX10_targetOf 61 = .ok (.invokevirtual 375, 3) := dk_182 1 119 (dk_at dksX10_targetOf_2 15 rfl rfl)
theorem dX10_targetOf_64 : decode cX10_targetOf 64 = .ok (.aload_n 0, 1) := dk_42 (dk_at dksX10_targetOf_2 18 rfl rfl)
theorem dX10_targetOf_65 : decode cX10_targetOf 65 = .ok (.getfield 80, 3) := dk_180 0 80 (dk_at dksX10_targetOf_2 19 rfl rfl)
theorem dX10_targetOf_68 : decode cX10_targetOf 68 = .ok (.iload 5, 2) := dk_21 5 (dk_at dksX10_targetOf_2 22 rfl rfl)
theorem dX10_targetOf_70 : decode cX10_targetOf 70 = .ok (.iaload, 1) := dk_46 (dk_at dksX10_targetOf_3 0 rfl rfl)
theorem dX10_targetOf_71 : decode cX10_targetOf 71 = .ok (.aload_n 0, 1) := dk_42 (dk_at dksX10_targetOf_3 1 rfl rfl)
theorem dX10_targetOf_72 : decode cX10_targetOf 72 = .ok (.getfield 74, 3) := dk_180 0 74 (dk_at dksX10_targetOf_3 2 rfl rfl)
theorem dX10_targetOf_75 : decode cX10_targetOf 75 = .ok (.iload_n 1, 1) := dk_27 (dk_at dksX10_targetOf_3 5 rfl rfl)
theorem dX10_targetOf_76 : decode cX10_targetOf 76 = .ok (.iaload, 1) := dk_46 (dk_at dksX10_targetOf_3 6 rfl rfl)
theorem dX10_targetOf_77 : decode cX10_targetOf 77 = .ok (.if_icmp .ge 13, 3) := dk_162 0 13 (dk_at dksX10_targetOf_3 7 rfl rfl)
theorem dX10_targetOf_80 : decode cX10_targetOf 80 = .ok (.aload_n 0, 1) := dk_42 (dk_at dksX10_targetOf_3 10 rfl rfl)
theorem dX10_targetOf_81 : decode cX10_targetOf 81 = .ok (.getfield 80, 3) := dk_180 0 80 (dk_at dksX10_targetOf_3 11 rfl rfl)
theorem dX10_targetOf_84 : decode cX10_targetOf 84 = .ok (.iload 5, 2) := dk_21 5 (dk_at dksX10_targetOf_3 14 rfl rfl)
theorem dX10_targetOf_86 : decode cX10_targetOf 86 = .ok (.iaload, 1) := dk_46 (dk_at dksX10_targetOf_3 16 rfl rfl)
theorem dX10_targetOf_87 : decode cX10_targetOf 87 = .ok (.goto 9, 3) := dk_167 0 9 (dk_at dksX10_targetOf_3 17 rfl rfl)
theorem dX10_targetOf_90 : decode cX10_targetOf 90 = .ok (.aload_n 0, 1) := dk_42 (dk_at dksX10_targetOf_3 20 rfl rfl)
theorem dX10_targetOf_91 : decode cX10_targetOf 91 = .ok (.getfield 74, 3) := dk_180 0 74 (dk_at dksX10_targetOf_3 21 rfl rfl)
theorem dX10_targetOf_94 : decode cX10_targetOf 94 = .ok (.iload_n 1, 1) := dk_27 (dk_at dksX10_targetOf_4 0 rfl rfl)
theorem dX10_targetOf_95 : decode cX10_targetOf 95 = .ok (.iaload, 1) := dk_46 (dk_at dksX10_targetOf_4 1 rfl rfl)
theorem dX10_targetOf_96 : decode cX10_targetOf 96 = .ok (.imul, 1) := dk_104 (dk_at dksX10_targetOf_4 2 rfl rfl)
theorem dX10_targetOf_97 : decode cX10_targetOf 97 = .ok (.aload_n 0, 1) := dk_42 (dk_at dksX10_targetOf_4 3 rfl rfl)
theorem dX10_targetOf_98 : decode cX10_targetOf 98 = .ok (.getfield 89, 3) := dk_180 0 89 (dk_at dksX10_targetOf_4 4 rfl rfl)
theorem dX10_targetOf_101 : decode cX10_targetOf 101 = .ok (.iload 5, 2) := dk_21 5 (dk_at dksX10_targetOf_4 7 rfl rfl)
theorem dX10_targetOf_103 : decode cX10_targetOf 103 = .ok (.iaload, 1) := dk_46 (dk_at dksX10_targetOf_4 9 rfl rfl)
theorem dX10_targetOf_104 : decode cX10_targetOf 104 = .ok (.isub, 1) := dk_100 (dk_at dksX10_targetOf_4 10 rfl rfl)
theorem dX10_targetOf_105 : decode cX10_targetOf 105 = .ok (.istore 6, 2) := dk_54 6 (dk_at dksX10_targetOf_4 11 rfl rfl)
theorem dX10_targetOf_107 : decode cX10_targetOf 107 = .ok (.iload 6, 2) := dk_21 6 (dk_at dksX10_targetOf_4 13 rfl rfl)
theorem dX10_targetOf_109 : decode cX10_targetOf 109 = .ok (.iload 4, 2) := dk_21 4 (dk_at dksX10_targetOf_4 15 rfl rfl)
theorem dX10_targetOf_111 : decode cX10_targetOf 111 = .ok (.if_icmp .gt 6, 3) := dk_163 0 6 (dk_at dksX10_targetOf_4 17 rfl rfl)
theorem dX10_targetOf_114 : decode cX10_targetOf 114 = .ok (.goto 10, 3) := dk_167 0 10 (dk_at dksX10_targetOf_4 20 rfl rfl)
theorem dX10_targetOf_117 : decode cX10_targetOf 117 = .ok (.iload 5, 2) := dk_21 5 (dk_at dksX10_targetOf_5 0 rfl rfl)
theorem dX10_targetOf_119 : decode cX10_targetOf 119 = .ok (.istore_n 3, 1) := dk_62 (dk_at dksX10_targetOf_5 2 rfl rfl)
theorem dX10_targetOf_120 : decode cX10_targetOf 120 = .ok (.iload 6, 2) := dk_21 6 (dk_at dksX10_targetOf_5 3 rfl rfl)
theorem dX10_targetOf_122 : decode cX10_targetOf 122 = .ok (.istore 4, 2) := dk_54 4 (dk_at dksX10_targetOf_5 5 rfl rfl)
theorem dX10_targetOf_124 : decode cX10_targetOf 124 = .ok (.iinc 5 1, 3) := dk_132 5 1 (dk_at dksX10_targetOf_5 7 rfl rfl)
theorem dX10_targetOf_127 : decode cX10_targetOf 127 = .ok (.goto (-119), 3) := dk_167 255 137 (dk_at dksX10_targetOf_5 10 rfl rfl)
theorem dX10_targetOf_130 : decode cX10_targetOf 130 = .ok (.iload_n 3, 1) := dk_29 (dk_at dksX10_targetOf_5 13 rfl rfl)
theorem dX10_targetOf_131 : decode cX10_targetOf 131 = .ok (.ireturn, 1) := dk_172 (dk_at dksX10_targetOf_5 14 rfl rfl)
def dkwX10_eats_2 : List UInt8 := [42, 89, 180, 1, 147, 29, 96, 181, 1, 147, 177]
abbrev dktX10_eats_2 : List UInt8 := dkwX10_eats_2 ++ []
def dkwX10_eats_1 : List UInt8 := [180, 0, 80, 27, 92, 46, 29, 100, 79, 42, 180, 0, 107, 42, 180, 0, 17, 27, 46, 92, 46, 29, 96, 79]
abbrev dktX10_eats_1 : List UInt8 := dkwX10_eats_1 ++ dktX10_eats_2
def dkwX10_eats_0 : List UInt8 := [28, 42, 180, 0, 80, 27, 46, 162, 0, 7, 28, 167, 0, 9, 42, 180, 0, 80, 27, 46, 62, 42]
abbrev dktX10_eats_0 : List UInt8 := dkwX10_eats_0 ++ dktX10_eats_1
theorem dksX10_eats_0 : cX10_eats.data.toList.drop 0 = dktX10_eats_0 := by decide +kernel
theorem dksX10_eats_1 : cX10_eats.data.toList.drop 22 = dktX10_eats_1 := dk_seg dksX10_eats_0 22 rfl rfl
theorem dksX10_eats_2 : cX10_eats.data.toList.drop 46 = dktX10_eats_2 := dk_seg dksX10_eats_1 24 rfl rfl
theorem dX10_eats_0 : decode cX10_eats 0 = .ok (.iload_n 2, 1) := dk_28 (dk_at dksX10_eats_0 0 rfl rfl)
theorem dX10_eats_1 : decode cX10_eats 1 = .ok (.aload_n 0, 1) := dk_42 (dk_at dksX10_eats_0 1 rfl rfl)
theorem dX10_eats_2 : decode cX10_eats 2 = .ok (.getfield 80, 3) := dk_180 0 80 (dk_at dksX10_eats_0 2 rfl rfl)
theorem dX10_eats_5 : decode cX10_eats 5 = .ok (.iload_n 1, 1) := dk_27 (dk_at dksX10_eats_0 5 rfl rfl)
theorem dX10_eats_6 : decode cX10_eats 6 = .ok (.iaload, 1) := dk_46 (dk_at dksX10_eats_0 6 rfl rfl)
theorem dX10_eats_7 : decode cX10_eats 7 = .ok (.if_icmp .ge 7, 3) := dk_162 0 7 (dk_at dksX10_eats_0 7 rfl rfl)
theorem dX10_eats_10 : decode cX10_eats 10 = .ok (.iload_n 2, 1) := dk_28 (dk_at dksX10_eats_0 10 rfl rfl)
theorem dX10_eats_11 : decode cX10_eats 11 = .ok (.goto 9, 3) := dk_167 0 9 (dk_at dksX10_eats_0 11 rfl rfl)
theorem dX10_eats_14 : decode cX10_eats 14 = .ok (.aload_n 0, 1) := dk_42 (dk_at dksX10_eats_0 14 rfl rfl)
theorem dX10_eats_15 : decode cX10_eats 15 = .ok (.getfield 80, 3) := dk_180 0 80 (dk_at dksX10_eats_0 15 rfl rfl)
theorem dX10_eats_18 : decode cX10_eats 18 = .ok (.iload_n 1, 1) := dk_27 (dk_at dksX10_eats_0 18 rfl rfl)
theorem dX10_eats_19 : decode cX10_eats 19 = .ok (.iaload, 1) := dk_46 (dk_at dksX10_eats_0 19 rfl rfl)
theorem dX10_eats_20 : decode cX10_eats 20 = .ok (.istore_n 3, 1) := dk_62 (dk_at dksX10_eats_0 20 rfl rfl)
theorem dX10_eats_21 : decode cX10_eats 21 = .ok (.aload_n 0, 1) := dk_42 (dk_at dksX10_eats_0 21 rfl rfl)
theorem dX10_eats_22 : decode cX10_eats 22 = .ok (.getfield 80, 3) := dk_180 0 80 (dk_at dksX10_eats_1 0 rfl rfl)
theorem dX10_eats_25 : decode cX10_eats 25 = .ok (.iload_n 1, 1) := dk_27 (dk_at dksX10_eats_1 3 rfl rfl)
theorem dX10_eats_26 : decode cX10_eats 26 = .ok (.dup2, 1) := dk_92 (dk_at dksX10_eats_1 4 rfl rfl)
theorem dX10_eats_27 : decode cX10_eats 27 = .ok (.iaload, 1) := dk_46 (dk_at dksX10_eats_1 5 rfl rfl)
theorem dX10_eats_28 : decode cX10_eats 28 = .ok (.iload_n 3, 1) := dk_29 (dk_at dksX10_eats_1 6 rfl rfl)
theorem dX10_eats_29 : decode cX10_eats 29 = .ok (.isub, 1) := dk_100 (dk_at dksX10_eats_1 7 rfl rfl)
theorem dX10_eats_30 : decode cX10_eats 30 = .ok (.iastore, 1) := dk_79 (dk_at dksX10_eats_1 8 rfl rfl)
theorem dX10_eats_31 : decode cX10_eats 31 = .ok (.aload_n 0, 1) := dk_42 (dk_at dksX10_eats_1 9 rfl rfl)
theorem dX10_eats_32 : decode cX10_eats 32 = .ok (.getfield 107, 3) := dk_180 0 107 (dk_at dksX10_eats_1 10 rfl rfl)
theorem dX10_eats_35 : decode cX10_eats 35 = .ok (.aload_n 0, 1) := dk_42 (dk_at dksX10_eats_1 13 rfl rfl)
theorem dX10_eats_36 : decode cX10_eats 36 = .ok (.getfield 17, 3) := dk_180 0 17 (dk_at dksX10_eats_1 14 rfl rfl)
theorem dX10_eats_39 : decode cX10_eats 39 = .ok (.iload_n 1, 1) := dk_27 (dk_at dksX10_eats_1 17 rfl rfl)
theorem dX10_eats_40 : decode cX10_eats 40 = .ok (.iaload, 1) := dk_46 (dk_at dksX10_eats_1 18 rfl rfl)
theorem dX10_eats_41 : decode cX10_eats 41 = .ok (.dup2, 1) := dk_92 (dk_at dksX10_eats_1 19 rfl rfl)
theorem dX10_eats_42 : decode cX10_eats 42 = .ok (.iaload, 1) := dk_46 (dk_at dksX10_eats_1 20 rfl rfl)
theorem dX10_eats_43 : decode cX10_eats 43 = .ok (.iload_n 3, 1) := dk_29 (dk_at dksX10_eats_1 21 rfl rfl)
theorem dX10_eats_44 : decode cX10_eats 44 = .ok (.iadd, 1) := dk_96 (dk_at dksX10_eats_1 22 rfl rfl)
theorem dX10_eats_45 : decode cX10_eats 45 = .ok (.iastore, 1) := dk_79 (dk_at dksX10_eats_1 23 rfl rfl)
theorem dX10_eats_46 : decode cX10_eats 46 = .ok (.aload_n 0, 1) := dk_42 (dk_at dksX10_eats_2 0 rfl rfl)
theorem dX10_eats_47 : decode cX10_eats 47 = .ok (.dup, 1) := dk_89 (dk_at dksX10_eats_2 1 rfl rfl)
theorem dX10_eats_48 : decode cX10_eats 48 = .ok (.getfield 403, 3) := dk_180 1 147 (dk_at dksX10_eats_2 2 rfl rfl)
theorem dX10_eats_51 : decode cX10_eats 51 = .ok (.iload_n 3, 1) := dk_29 (dk_at dksX10_eats_2 5 rfl rfl)
theorem dX10_eats_52 : decode cX10_eats 52 = .ok (.iadd, 1) := dk_96 (dk_at dksX10_eats_2 6 rfl rfl)
theorem dX10_eats_53 : decode cX10_eats 53 = .ok (.putfield 403, 3) := dk_181 1 147 (dk_at dksX10_eats_2 7 rfl rfl)
theorem dX10_eats_56 : decode cX10_eats 56 = .ok (.return_, 1) := dk_177 (dk_at dksX10_eats_2 10 rfl rfl)
def dkwX10_pushed_4 : List UInt8 := [100, 172]
abbrev dktX10_pushed_4 : List UInt8 := dkwX10_pushed_4 ++ []
def dkwX10_pushed_3 : List UInt8 := [42, 180, 0, 83, 27, 28, 184, 0, 232, 3, 79, 42, 4, 182, 1, 178, 21, 4, 42, 180, 0, 107, 29, 46]
abbrev dktX10_pushed_3 : List UInt8 := dkwX10_pushed_3 ++ dktX10_pushed_4
def dkwX10_pushed_2 : List UInt8 := [181, 1, 156, 42, 182, 1, 138, 42, 4, 182, 1, 178, 42, 180, 0, 107, 29, 46, 54, 4, 42, 182, 1, 138]
abbrev dktX10_pushed_2 : List UInt8 := dkwX10_pushed_2 ++ dktX10_pushed_3
def dkwX10_pushed_1 : List UInt8 := [184, 0, 228, 5, 182, 0, 214, 153, 0, 11, 42, 29, 182, 1, 181, 154, 0, 5, 3, 172, 42, 3]
abbrev dktX10_pushed_1 : List UInt8 := dkwX10_pushed_1 ++ dktX10_pushed_2
def dkwX10_pushed_0 : List UInt8 := [42, 3, 181, 0, 1, 42, 27, 182, 0, 218, 153, 0, 32, 42, 28, 182, 0, 218, 153, 0, 24, 42, 27, 28]
abbrev dktX10_pushed_0 : List UInt8 := dkwX10_pushed_0 ++ dktX10_pushed_1
theorem dksX10_pushed_0 : cX10_pushed.data.toList.drop 0 = dktX10_pushed_0 := by decide +kernel
theorem dksX10_pushed_1 : cX10_pushed.data.toList.drop 24 = dktX10_pushed_1 := dk_seg dksX10_pushed_0 24 rfl rfl
theorem dksX10_pushed_2 : cX10_pushed.data.toList.drop 46 = dktX10_pushed_2 := dk_seg dksX10_pushed_1 22 rfl rfl
theorem dksX10_pushed_3 : cX10_pushed.data.toList.drop 70 = dktX10_pushed_3 := dk_seg dksX10_pushed_2 24 rfl rfl
theorem dksX10_pushed_4 : cX10_pushed.data.toList.drop 94 = dktX10_pushed_4 := dk_seg dksX10_pushed_3 24 rfl rfl
theorem dX10_pushed_0 : decode cX10_pushed 0 = .ok (.aload_n 0, 1) := dk_42 (dk_at dksX10_pushed_0 0 rfl rfl)
theorem dX10_pushed_1 : decode cX10_pushed 1 = .ok (.iconst 0, 1) := dk_3 (dk_at dksX10_pushed_0 1 rfl rfl)
theorem dX10_pushed_2 : decode cX10_pushed 2 = .ok (.putfield 1, 3) := dk_181 0 1 (dk_at dksX10_pushed_0 2 rfl rfl)
theorem dX10_pushed_5 : decode cX10_pushed 5 = .ok (.aload_n 0, 1) := dk_42 (dk_at dksX10_pushed_0 5 rfl rfl)
theorem dX10_pushed_6 : decode cX10_pushed 6 = .ok (.iload_n 1, 1) := dk_27 (dk_at dksX10_pushed_0 6 rfl rfl)
theorem dX10_pushed_7 : decode cX10_pushed 7 = .ok (.invokevirtual 218, 3) := dk_182 0 218 (dk_at dksX10_pushed_0 7 rfl rfl)
theorem dX10_pushed_10 : decode cX10_pushed 10 = .ok (.ifCond .eq 32, 3) := dk_153 0 32 (dk_at dksX10_pushed_0 10 rfl rfl)
theorem dX10_pushed_13 : decode cX10_pushed 13 = .ok (.aload_n 0, 1) := dk_42 (dk_at dksX10_pushed_0 13 rfl rfl)
theorem dX10_pushed_14 : decode cX10_pushed 14 = .ok (.iload_n 2, 1) := dk_28 (dk_at dksX10_pushed_0 14 rfl rfl)
theorem dX10_pushed_15 : decode cX10_pushed 15 = .ok (.invokevirtual 218, 3) := dk_182 0 218 (dk_at dksX10_pushed_0 15 rfl rfl)
theorem dX10_pushed_18 : decode cX10_pushed 18 = .ok (.ifCond .eq 24, 3) := dk_153 0 24 (dk_at dksX10_pushed_0 18 rfl rfl)
theorem dX10_pushed_21 : decode cX10_pushed 21 = .ok (.aload_n 0, 1) := dk_42 (dk_at dksX10_pushed_0 21 rfl rfl)
theorem dX10_pushed_22 : decode cX10_pushed 22 = .ok (.iload_n 1, 1) := dk_27 (dk_at dksX10_pushed_0 22 rfl rfl)
theorem dX10_pushed_23 : decode cX10_pushed 23 = .ok (.iload_n 2, 1) := dk_28 (dk_at dksX10_pushed_0 23 rfl rfl)
theorem dX10_pushed_24 : decode cX10_pushed 24 = .ok (.invokestatic 228, 3) := dk_184 0 228 (dk_at dksX10_pushed_1 0 rfl rfl)
theorem dX10_pushed_27 : decode cX10_pushed 27 = .ok (.iconst 2, 1) := dk_5 (dk_at dksX10_pushed_1 3 rfl rfl)
theorem dX10_pushed_28 : decode cX10_pushed 28 = .ok (.invokevirtual 214, 3) := dk_182 0 214 (dk_at dksX10_pushed_1 4 rfl rfl)
theorem dX10_pushed_31 : decode cX10_pushed 31 = .ok (.ifCond .eq 11, 3) := dk_153 0 11 (dk_at dksX10_pushed_1 7 rfl rfl)
theorem dX10_pushed_34 : decode cX10_pushed 34 = .ok (.aload_n 0, 1) := dk_42 (dk_at dksX10_pushed_1 10 rfl rfl)
theorem dX10_pushed_35 : decode cX10_pushed 35 = .ok (.iload_n 3, 1) := dk_29 (dk_at dksX10_pushed_1 11 rfl rfl)
theorem dX10_pushed_36 : decode cX10_pushed 36 = .ok (.invokevirtual 437, 3) := dk_182 1 181 (dk_at dksX10_pushed_1 12 rfl rfl)
theorem dX10_pushed_39 : decode cX10_pushed 39 = .ok (.ifCond .ne 5, 3) := dk_154 0 5 (dk_at dksX10_pushed_1 15 rfl rfl)
theorem dX10_pushed_42 : decode cX10_pushed 42 = .ok (.iconst 0, 1) := dk_3 (dk_at dksX10_pushed_1 18 rfl rfl)
theorem dX10_pushed_43 : decode cX10_pushed 43 = .ok (.ireturn, 1) := dk_172 (dk_at dksX10_pushed_1 19 rfl rfl)
theorem dX10_pushed_44 : decode cX10_pushed 44 = .ok (.aload_n 0, 1) := dk_42 (dk_at dksX10_pushed_1 20 rfl rfl)
theorem dX10_pushed_45 : decode cX10_pushed 45 = .ok (.iconst 0, 1) := dk_3 (dk_at dksX10_pushed_1 21 rfl rfl)
theorem dX10_pushed_46 : decode cX10_pushed 46 = .ok (.putfield 412, 3) := dk_181 1 156 (dk_at dksX10_pushed_2 0 rfl rfl)
theorem dX10_pushed_49 : decode cX10_pushed 49 = .ok (.aload_n 0, 1) := dk_42 (dk_at dksX10_pushed_2 3 rfl rfl)
theorem dX10_pushed_50 : decode cX10_pushed 50 = .ok (.invokevirtual 394, 3) := dk_182 1 138 (dk_at dksX10_pushed_2 4 rfl rfl)
theorem dX10_pushed_53 : decode cX10_pushed 53 = .ok (.aload_n 0, 1) := dk_42 (dk_at dksX10_pushed_2 7 rfl rfl)
theorem dX10_pushed_54 : decode cX10_pushed 54 = .ok (.iconst 1, 1) := dk_4 (dk_at dksX10_pushed_2 8 rfl rfl)
theorem dX10_pushed_55 : decode cX10_pushed 55 = .ok (.invokevirtual 434, 3) := dk_182 1 178 (dk_at dksX10_pushed_2 9 rfl rfl)
theorem dX10_pushed_58 : decode cX10_pushed 58 = .ok (.aload_n 0, 1) := dk_42 (dk_at dksX10_pushed_2 12 rfl rfl)
theorem dX10_pushed_59 : decode cX10_pushed 59 = .ok (.getfield 107, 3) := dk_180 0 107 (dk_at dksX10_pushed_2 13 rfl rfl)
theorem dX10_pushed_62 : decode cX10_pushed 62 = .ok (.iload_n 3, 1) := dk_29 (dk_at dksX10_pushed_2 16 rfl rfl)
theorem dX10_pushed_63 : decode cX10_pushed 63 = .ok (.iaload, 1) := dk_46 (dk_at dksX10_pushed_2 17 rfl rfl)
theorem dX10_pushed_64 : decode cX10_pushed 64 = .ok (.istore 4, 2) := dk_54 4 (dk_at dksX10_pushed_2 18 rfl rfl)
theorem dX10_pushed_66 : decode cX10_pushed 66 = .ok (.aload_n 0, 1) := dk_42 (dk_at dksX10_pushed_2 20 rfl rfl)
theorem dX10_pushed_67 : decode cX10_pushed 67 = .ok (.invokevirtual 394, 3) := dk_182 1 138 (dk_at dksX10_pushed_2 21 rfl rfl)
theorem dX10_pushed_70 : decode cX10_pushed 70 = .ok (.aload_n 0, 1) := dk_42 (dk_at dksX10_pushed_3 0 rfl rfl)
theorem dX10_pushed_71 : decode cX10_pushed 71 = .ok (.getfield 83, 3) := dk_180 0 83 (dk_at dksX10_pushed_3 1 rfl rfl)
theorem dX10_pushed_74 : decode cX10_pushed 74 = .ok (.iload_n 1, 1) := dk_27 (dk_at dksX10_pushed_3 4 rfl rfl)
theorem dX10_pushed_75 : decode cX10_pushed 75 = .ok (.iload_n 2, 1) := dk_28 (dk_at dksX10_pushed_3 5 rfl rfl)
theorem dX10_pushed_76 : decode cX10_pushed 76 = .ok (.invokestatic 232, 3) := dk_184 0 232 (dk_at dksX10_pushed_3 6 rfl rfl)
theorem dX10_pushed_79 : decode cX10_pushed 79 = .ok (.iconst 0, 1) := dk_3 (dk_at dksX10_pushed_3 9 rfl rfl)
theorem dX10_pushed_80 : decode cX10_pushed 80 = .ok (.iastore, 1) := dk_79 (dk_at dksX10_pushed_3 10 rfl rfl)
theorem dX10_pushed_81 : decode cX10_pushed 81 = .ok (.aload_n 0, 1) := dk_42 (dk_at dksX10_pushed_3 11 rfl rfl)
theorem dX10_pushed_82 : decode cX10_pushed 82 = .ok (.iconst 1, 1) := dk_4 (dk_at dksX10_pushed_3 12 rfl rfl)
theorem dX10_pushed_83 : decode cX10_pushed 83 = .ok (.invokevirtual 434, 3) := dk_182 1 178 (dk_at dksX10_pushed_3 13 rfl rfl)
theorem dX10_pushed_86 : decode cX10_pushed 86 = .ok (.iload 4, 2) := dk_21 4 (dk_at dksX10_pushed_3 16 rfl rfl)
theorem dX10_pushed_88 : decode cX10_pushed 88 = .ok (.aload_n 0, 1) := dk_42 (dk_at dksX10_pushed_3 18 rfl rfl)
theorem dX10_pushed_89 : decode cX10_pushed 89 = .ok (.getfield 107, 3) := dk_180 0 107 (dk_at dksX10_pushed_3 19 rfl rfl)
theorem dX10_pushed_92 : decode cX10_pushed 92 = .ok (.iload_n 3, 1) := dk_29 (dk_at dksX10_pushed_3 22 rfl rfl)
theorem dX10_pushed_93 : decode cX10_pushed 93 = .ok (.iaload, 1) := dk_46 (dk_at dksX10_pushed_3 23 rfl rfl)
theorem dX10_pushed_94 : decode cX10_pushed 94 = .ok (.isub, 1) := dk_100 (dk_at dksX10_pushed_4 0 rfl rfl)
theorem dX10_pushed_95 : decode cX10_pushed 95 = .ok (.ireturn, 1) := dk_172 (dk_at dksX10_pushed_4 1 rfl rfl)
def dkwX10_isFamily_0 : List UInt8 := [42, 27, 3, 16, 9, 184, 0, 210, 5, 182, 0, 214, 172]
abbrev dktX10_isFamily_0 : List UInt8 := dkwX10_isFamily_0 ++ []
theorem dksX10_isFamily_0 : cX10_isFamily.data.toList.drop 0 = dktX10_isFamily_0 := by decide +kernel
theorem dX10_isFamily_0 : decode cX10_isFamily 0 = .ok (.aload_n 0, 1) := dk_42 (dk_at dksX10_isFamily_0 0 rfl rfl)
theorem dX10_isFamily_1 : decode cX10_isFamily 1 = .ok (.iload_n 1, 1) := dk_27 (dk_at dksX10_isFamily_0 1 rfl rfl)
theorem dX10_isFamily_2 : decode cX10_isFamily 2 = .ok (.iconst 0, 1) := dk_3 (dk_at dksX10_isFamily_0 2 rfl rfl)
theorem dX10_isFamily_3 : decode cX10_isFamily 3 = .ok (.bipush 9, 2) := dk_16 9 (dk_at dksX10_isFamily_0 3 rfl rfl)
theorem dX10_isFamily_5 : decode cX10_isFamily 5 = .ok (.invokestatic 210, 3) := dk_184 0 210 (dk_at dksX10_isFamily_0 5 rfl rfl)
theorem dX10_isFamily_8 : decode cX10_isFamily 8 = .ok (.iconst 2, 1) := dk_5 (dk_at dksX10_isFamily_0 8 rfl rfl)
theorem dX10_isFamily_9 : decode cX10_isFamily 9 = .ok (.invokevirtual 214, 3) := dk_182 0 214 (dk_at dksX10_isFamily_0 9 rfl rfl)
theorem dX10_isFamily_12 : decode cX10_isFamily 12 = .ok (.ireturn, 1) := dk_172 (dk_at dksX10_isFamily_0 12 rfl rfl)
def dkwX10_build_5 : List UInt8 := [167, 0, 7, 42, 180, 1, 193, 172]
abbrev dktX10_build_5 : List UInt8 := dkwX10_build_5 ++ []
def dkwX10_build_4 : List UInt8 := [167, 0, 30, 28, 154, 0, 10, 42, 180, 1, 190, 167, 0, 19, 28, 4, 160, 0, 10, 42, 180, 1, 196]
abbrev dktX10_build_4 : List UInt8 := dkwX10_build_4 ++ dktX10_build_5
def dkwX10_build_3 : List UInt8 := [29, 6, 184, 1, 123, 27, 182, 1, 202, 132, 3, 1, 167, 255, 225, 42, 180, 1, 190, 2, 160, 0, 7, 2]
abbrev dktX10_build_3 : List UInt8 := dkwX10_build_3 ++ dktX10_build_4
def dkwX10_build_2 : List UInt8 := [181, 1, 190, 3, 62, 29, 16, 64, 162, 0, 31, 42, 29, 29, 5, 184, 1, 123, 27, 182, 1, 202, 42, 29]
abbrev dktX10_build_2 : List UInt8 := dkwX10_build_2 ++ dktX10_build_3
def dkwX10_build_1 : List UInt8 := [167, 0, 4, 3, 4, 182, 0, 214, 154, 0, 5, 3, 172, 42, 182, 1, 199, 42, 3, 181, 1, 156, 42, 2]
abbrev dktX10_build_1 : List UInt8 := dkwX10_build_1 ++ dktX10_build_2
def dkwX10_build_0 : List UInt8 := [42, 3, 181, 0, 1, 42, 27, 184, 1, 175, 153, 0, 16, 28, 3, 5, 184, 0, 210, 153, 0, 7, 4]
abbrev dktX10_build_0 : List UInt8 := dkwX10_build_0 ++ dktX10_build_1
theorem dksX10_build_0 : cX10_build.data.toList.drop 0 = dktX10_build_0 := by decide +kernel
theorem dksX10_build_1 : cX10_build.data.toList.drop 23 = dktX10_build_1 := dk_seg dksX10_build_0 23 rfl rfl
theorem dksX10_build_2 : cX10_build.data.toList.drop 47 = dktX10_build_2 := dk_seg dksX10_build_1 24 rfl rfl
theorem dksX10_build_3 : cX10_build.data.toList.drop 71 = dktX10_build_3 := dk_seg dksX10_build_2 24 rfl rfl
theorem dksX10_build_4 : cX10_build.data.toList.drop 95 = dktX10_build_4 := dk_seg dksX10_build_3 24 rfl rfl
theorem dksX10_build_5 : cX10_build.data.toList.drop 118 = dktX10_build_5 := dk_seg dksX10_build_4 23 rfl rfl
theorem dX10_build_0 : decode cX10_build 0 = .ok (.aload_n 0, 1) := dk_42 (dk_at dksX10_build_0 0 rfl rfl)
theorem dX10_build_1 : decode cX10_build 1 = .ok (.iconst 0, 1) := dk_3 (dk_at dksX10_build_0 1 rfl rfl)
theorem dX10_build_2 : decode cX10_build 2 = .ok (.putfield 1, 3) := dk_181 0 1 (dk_at dksX10_build_0 2 rfl rfl)
theorem dX10_build_5 : decode cX10_build 5 = .ok (.aload_n 0, 1) := dk_42 (dk_at dksX10_build_0 5 rfl rfl)
theorem dX10_build_6 : decode cX10_build 6 = .ok (.iload_n 1, 1) := dk_27 (dk_at dksX10_build_0 6 rfl rfl)
theorem dX10_build_7 : decode cX10_build 7 = .ok (.invokestatic 431, 3) := dk_184 1 175 (dk_at dksX10_build_0 7 rfl rfl)
theorem dX10_build_10 : decode cX10_build 10 = .ok (.ifCond .eq 16, 3) := dk_153 0 16 (dk_at dksX10_build_0 10 rfl rfl)
theorem dX10_build_13 : decode cX10_build 13 = .ok (.iload_n 2, 1) := dk_28 (dk_at dksX10_build_0 13 rfl rfl)
theorem dX10_build_14 : decode cX10_build 14 = .ok (.iconst 0, 1) := dk_3 (dk_at dksX10_build_0 14 rfl rfl)
theorem dX10_build_15 : decode cX10_build 15 = .ok (.iconst 2, 1) := dk_5 (dk_at dksX10_build_0 15 rfl rfl)
theorem dX10_build_16 : decode cX10_build 16 = .ok (.invokestatic 210, 3) := dk_184 0 210 (dk_at dksX10_build_0 16 rfl rfl)
theorem dX10_build_19 : decode cX10_build 19 = .ok (.ifCond .eq 7, 3) := dk_153 0 7 (dk_at dksX10_build_0 19 rfl rfl)
theorem dX10_build_22 : decode cX10_build 22 = .ok (.iconst 1, 1) := dk_4 (dk_at dksX10_build_0 22 rfl rfl)
theorem dX10_build_23 : decode cX10_build 23 = .ok (.goto 4, 3) := dk_167 0 4 (dk_at dksX10_build_1 0 rfl rfl)
theorem dX10_build_26 : decode cX10_build 26 = .ok (.iconst 0, 1) := dk_3 (dk_at dksX10_build_1 3 rfl rfl)
theorem dX10_build_27 : decode cX10_build 27 = .ok (.iconst 1, 1) := dk_4 (dk_at dksX10_build_1 4 rfl rfl)
theorem dX10_build_28 : decode cX10_build 28 = .ok (.invokevirtual 214, 3) := dk_182 0 214 (dk_at dksX10_build_1 5 rfl rfl)
theorem dX10_build_31 : decode cX10_build 31 = .ok (.ifCond .ne 5, 3) := dk_154 0 5 (dk_at dksX10_build_1 8 rfl rfl)
theorem dX10_build_34 : decode cX10_build 34 = .ok (.iconst 0, 1) := dk_3 (dk_at dksX10_build_1 11 rfl rfl)
theorem dX10_build_35 : decode cX10_build 35 = .ok (.ireturn, 1) := dk_172 (dk_at dksX10_build_1 12 rfl rfl)
theorem dX10_build_36 : decode cX10_build 36 = .ok (.aload_n 0, 1) := dk_42 (dk_at dksX10_build_1 13 rfl rfl)
theorem dX10_build_37 : decode cX10_build 37 = .ok (.invokevirtual 455, 3) := dk_182 1 199 (dk_at dksX10_build_1 14 rfl rfl)
theorem dX10_build_40 : decode cX10_build 40 = .ok (.aload_n 0, 1) := dk_42 (dk_at dksX10_build_1 17 rfl rfl)
theorem dX10_build_41 : decode cX10_build 41 = .ok (.iconst 0, 1) := dk_3 (dk_at dksX10_build_1 18 rfl rfl)
theorem dX10_build_42 : decode cX10_build 42 = .ok (.putfield 412, 3) := dk_181 1 156 (dk_at dksX10_build_1 19 rfl rfl)
theorem dX10_build_45 : decode cX10_build 45 = .ok (.aload_n 0, 1) := dk_42 (dk_at dksX10_build_1 22 rfl rfl)
theorem dX10_build_46 : decode cX10_build 46 = .ok (.iconst (-1), 1) := dk_2 (dk_at dksX10_build_1 23 rfl rfl)
theorem dX10_build_47 : decode cX10_build 47 = .ok (.putfield 446, 3) := dk_181 1 190 (dk_at dksX10_build_2 0 rfl rfl)
theorem dX10_build_50 : decode cX10_build 50 = .ok (.iconst 0, 1) := dk_3 (dk_at dksX10_build_2 3 rfl rfl)
theorem dX10_build_51 : decode cX10_build 51 = .ok (.istore_n 3, 1) := dk_62 (dk_at dksX10_build_2 4 rfl rfl)
theorem dX10_build_52 : decode cX10_build 52 = .ok (.iload_n 3, 1) := dk_29 (dk_at dksX10_build_2 5 rfl rfl)
theorem dX10_build_53 : decode cX10_build 53 = .ok (.bipush 64, 2) := dk_16 64 (dk_at dksX10_build_2 6 rfl rfl)
theorem dX10_build_55 : decode cX10_build 55 = .ok (.if_icmp .ge 31, 3) := dk_162 0 31 (dk_at dksX10_build_2 8 rfl rfl)
theorem dX10_build_58 : decode cX10_build 58 = .ok (.aload_n 0, 1) := dk_42 (dk_at dksX10_build_2 11 rfl rfl)
theorem dX10_build_59 : decode cX10_build 59 = .ok (.iload_n 3, 1) := dk_29 (dk_at dksX10_build_2 12 rfl rfl)
theorem dX10_build_60 : decode cX10_build 60 = .ok (.iload_n 3, 1) := dk_29 (dk_at dksX10_build_2 13 rfl rfl)
theorem dX10_build_61 : decode cX10_build 61 = .ok (.iconst 2, 1) := dk_5 (dk_at dksX10_build_2 14 rfl rfl)
theorem dX10_build_62 : decode cX10_build 62 = .ok (.invokestatic 379, 3) := dk_184 1 123 (dk_at dksX10_build_2 15 rfl rfl)
theorem dX10_build_65 : decode cX10_build 65 = .ok (.iload_n 1, 1) := dk_27 (dk_at dksX10_build_2 18 rfl rfl)
theorem dX10_build_66 : decode cX10_build 66 = .ok (.invokevirtual 458, 3) := dk_182 1 202 (dk_at dksX10_build_2 19 rfl rfl)
theorem dX10_build_69 : decode cX10_build 69 = .ok (.aload_n 0, 1) := dk_42 (dk_at dksX10_build_2 22 rfl rfl)
theorem dX10_build_70 : decode cX10_build 70 = .ok (.iload_n 3, 1) := dk_29 (dk_at dksX10_build_2 23 rfl rfl)
theorem dX10_build_71 : decode cX10_build 71 = .ok (.iload_n 3, 1) := dk_29 (dk_at dksX10_build_3 0 rfl rfl)
theorem dX10_build_72 : decode cX10_build 72 = .ok (.iconst 3, 1) := dk_6 (dk_at dksX10_build_3 1 rfl rfl)
theorem dX10_build_73 : decode cX10_build 73 = .ok (.invokestatic 379, 3) := dk_184 1 123 (dk_at dksX10_build_3 2 rfl rfl)
theorem dX10_build_76 : decode cX10_build 76 = .ok (.iload_n 1, 1) := dk_27 (dk_at dksX10_build_3 5 rfl rfl)
theorem dX10_build_77 : decode cX10_build 77 = .ok (.invokevirtual 458, 3) := dk_182 1 202 (dk_at dksX10_build_3 6 rfl rfl)
theorem dX10_build_80 : decode cX10_build 80 = .ok (.iinc 3 1, 3) := dk_132 3 1 (dk_at dksX10_build_3 9 rfl rfl)
theorem dX10_build_83 : decode cX10_build 83 = .ok (.goto (-31), 3) := dk_167 255 225 (dk_at dksX10_build_3 12 rfl rfl)
theorem dX10_build_86 : decode cX10_build 86 = .ok (.aload_n 0, 1) := dk_42 (dk_at dksX10_build_3 15 rfl rfl)
theorem dX10_build_87 : decode cX10_build 87 = .ok (.getfield 446, 3) := dk_180 1 190 (dk_at dksX10_build_3 16 rfl rfl)
theorem dX10_build_90 : decode cX10_build 90 = .ok (.iconst (-1), 1) := dk_2 (dk_at dksX10_build_3 19 rfl rfl)
theorem dX10_build_91 : decode cX10_build 91 = .ok (.if_icmp .ne 7, 3) := dk_160 0 7 (dk_at dksX10_build_3 20 rfl rfl)
theorem dX10_build_94 : decode cX10_build 94 = .ok (.iconst (-1), 1) := dk_2 (dk_at dksX10_build_3 23 rfl rfl)
theorem dX10_build_95 : decode cX10_build 95 = .ok (.goto 30, 3) := dk_167 0 30 (dk_at dksX10_build_4 0 rfl rfl)
theorem dX10_build_98 : decode cX10_build 98 = .ok (.iload_n 2, 1) := dk_28 (dk_at dksX10_build_4 3 rfl rfl)
theorem dX10_build_99 : decode cX10_build 99 = .ok (.ifCond .ne 10, 3) := dk_154 0 10 (dk_at dksX10_build_4 4 rfl rfl)
theorem dX10_build_102 : decode cX10_build 102 = .ok (.aload_n 0, 1) := dk_42 (dk_at dksX10_build_4 7 rfl rfl)
theorem dX10_build_103 : decode cX10_build 103 = .ok (.getfield 446, 3) := dk_180 1 190 (dk_at dksX10_build_4 8 rfl rfl)
theorem dX10_build_106 : decode cX10_build 106 = .ok (.goto 19, 3) := dk_167 0 19 (dk_at dksX10_build_4 11 rfl rfl)
theorem dX10_build_109 : decode cX10_build 109 = .ok (.iload_n 2, 1) := dk_28 (dk_at dksX10_build_4 14 rfl rfl)
theorem dX10_build_110 : decode cX10_build 110 = .ok (.iconst 1, 1) := dk_4 (dk_at dksX10_build_4 15 rfl rfl)
theorem dX10_build_111 : decode cX10_build 111 = .ok (.if_icmp .ne 10, 3) := dk_160 0 10 (dk_at dksX10_build_4 16 rfl rfl)
theorem dX10_build_114 : decode cX10_build 114 = .ok (.aload_n 0, 1) := dk_42 (dk_at dksX10_build_4 19 rfl rfl)
theorem dX10_build_115 : decode cX10_build 115 = .ok (.getfield 452, 3) := dk_180 1 196 (dk_at dksX10_build_4 20 rfl rfl)
theorem dX10_build_118 : decode cX10_build 118 = .ok (.goto 7, 3) := dk_167 0 7 (dk_at dksX10_build_5 0 rfl rfl)
theorem dX10_build_121 : decode cX10_build 121 = .ok (.aload_n 0, 1) := dk_42 (dk_at dksX10_build_5 3 rfl rfl)
theorem dX10_build_122 : decode cX10_build 122 = .ok (.getfield 449, 3) := dk_180 1 193 (dk_at dksX10_build_5 4 rfl rfl)
theorem dX10_build_125 : decode cX10_build 125 = .ok (.ireturn, 1) := dk_172 (dk_at dksX10_build_5 7 rfl rfl)
def dkwX10_findTwelve_3 : List UInt8 := [167, 255, 196, 177]
abbrev dktX10_findTwelve_3 : List UInt8 := dkwX10_findTwelve_3 ++ []
def dkwX10_findTwelve_2 : List UInt8 := [180, 0, 110, 42, 180, 1, 184, 27, 79, 42, 89, 180, 1, 184, 4, 96, 181, 1, 184, 132, 1, 1]
abbrev dktX10_findTwelve_2 : List UInt8 := dkwX10_findTwelve_2 ++ dktX10_findTwelve_3
def dkwX10_findTwelve_1 : List UInt8 := [180, 0, 13, 27, 46, 5, 160, 0, 35, 42, 180, 0, 23, 27, 46, 154, 0, 6, 167, 0, 23, 42]
abbrev dktX10_findTwelve_1 : List UInt8 := dkwX10_findTwelve_1 ++ dktX10_findTwelve_2
def dkwX10_findTwelve_0 : List UInt8 := [42, 3, 181, 1, 184, 3, 60, 27, 16, 64, 162, 0, 60, 42, 180, 1, 184, 16, 12, 162, 0, 51, 42]
abbrev dktX10_findTwelve_0 : List UInt8 := dkwX10_findTwelve_0 ++ dktX10_findTwelve_1
theorem dksX10_findTwelve_0 : cX10_findTwelve.data.toList.drop 0 = dktX10_findTwelve_0 := by decide +kernel
theorem dksX10_findTwelve_1 : cX10_findTwelve.data.toList.drop 23 = dktX10_findTwelve_1 := dk_seg dksX10_findTwelve_0 23 rfl rfl
theorem dksX10_findTwelve_2 : cX10_findTwelve.data.toList.drop 45 = dktX10_findTwelve_2 := dk_seg dksX10_findTwelve_1 22 rfl rfl
theorem dksX10_findTwelve_3 : cX10_findTwelve.data.toList.drop 67 = dktX10_findTwelve_3 := dk_seg dksX10_findTwelve_2 22 rfl rfl
theorem dX10_findTwelve_0 : decode cX10_findTwelve 0 = .ok (.aload_n 0, 1) := dk_42 (dk_at dksX10_findTwelve_0 0 rfl rfl)
theorem dX10_findTwelve_1 : decode cX10_findTwelve 1 = .ok (.iconst 0, 1) := dk_3 (dk_at dksX10_findTwelve_0 1 rfl rfl)
theorem dX10_findTwelve_2 : decode cX10_findTwelve 2 = .ok (.putfield 440, 3) := dk_181 1 184 (dk_at dksX10_findTwelve_0 2 rfl rfl)
theorem dX10_findTwelve_5 : decode cX10_findTwelve 5 = .ok (.iconst 0, 1) := dk_3 (dk_at dksX10_findTwelve_0 5 rfl rfl)
theorem dX10_findTwelve_6 : decode cX10_findTwelve 6 = .ok (.istore_n 1, 1) := dk_60 (dk_at dksX10_findTwelve_0 6 rfl rfl)
theorem dX10_findTwelve_7 : decode cX10_findTwelve 7 = .ok (.iload_n 1, 1) := dk_27 (dk_at dksX10_findTwelve_0 7 rfl rfl)
theorem dX10_findTwelve_8 : decode cX10_findTwelve 8 = .ok (.bipush 64, 2) := dk_16 64 (dk_at dksX10_findTwelve_0 8 rfl rfl)
theorem dX10_findTwelve_10 : decode cX10_findTwelve 10 = .ok (.if_icmp .ge 60, 3) := dk_162 0 60 (dk_at dksX10_findTwelve_0 10 rfl rfl)
theorem dX10_findTwelve_13 : decode cX10_findTwelve 13 = .ok (.aload_n 0, 1) := dk_42 (dk_at dksX10_findTwelve_0 13 rfl rfl)
theorem dX10_findTwelve_14 : decode cX10_findTwelve 14 = .ok (.getfield 440, 3) := dk_180 1 184 (dk_at dksX10_findTwelve_0 14 rfl rfl)
theorem dX10_findTwelve_17 : decode cX10_findTwelve 17 = .ok (.bipush 12, 2) := dk_16 12 (dk_at dksX10_findTwelve_0 17 rfl rfl)
theorem dX10_findTwelve_19 : decode cX10_findTwelve 19 = .ok (.if_icmp .ge 51, 3) := dk_162 0 51 (dk_at dksX10_findTwelve_0 19 rfl rfl)
theorem dX10_findTwelve_22 : decode cX10_findTwelve 22 = .ok (.aload_n 0, 1) := dk_42 (dk_at dksX10_findTwelve_0 22 rfl rfl)
theorem dX10_findTwelve_23 : decode cX10_findTwelve 23 = .ok (.getfield 13, 3) := dk_180 0 13 (dk_at dksX10_findTwelve_1 0 rfl rfl)
theorem dX10_findTwelve_26 : decode cX10_findTwelve 26 = .ok (.iload_n 1, 1) := dk_27 (dk_at dksX10_findTwelve_1 3 rfl rfl)
theorem dX10_findTwelve_27 : decode cX10_findTwelve 27 = .ok (.iaload, 1) := dk_46 (dk_at dksX10_findTwelve_1 4 rfl rfl)
theorem dX10_findTwelve_28 : decode cX10_findTwelve 28 = .ok (.iconst 2, 1) := dk_5 (dk_at dksX10_findTwelve_1 5 rfl rfl)
theorem dX10_findTwelve_29 : decode cX10_findTwelve 29 = .ok (.if_icmp .ne 35, 3) := dk_160 0 35 (dk_at dksX10_findTwelve_1 6 rfl rfl)
theorem dX10_findTwelve_32 : decode cX10_findTwelve 32 = .ok (.aload_n 0, 1) := dk_42 (dk_at dksX10_findTwelve_1 9 rfl rfl)
theorem dX10_findTwelve_33 : decode cX10_findTwelve 33 = .ok (.getfield 23, 3) := dk_180 0 23 (dk_at dksX10_findTwelve_1 10 rfl rfl)
theorem dX10_findTwelve_36 : decode cX10_findTwelve 36 = .ok (.iload_n 1, 1) := dk_27 (dk_at dksX10_findTwelve_1 13 rfl rfl)
theorem dX10_findTwelve_37 : decode cX10_findTwelve 37 = .ok (.iaload, 1) := dk_46 (dk_at dksX10_findTwelve_1 14 rfl rfl)
theorem dX10_findTwelve_38 : decode cX10_findTwelve 38 = .ok (.ifCond .ne 6, 3) := dk_154 0 6 (dk_at dksX10_findTwelve_1 15 rfl rfl)
theorem dX10_findTwelve_41 : decode cX10_findTwelve 41 = .ok (.goto 23, 3) := dk_167 0 23 (dk_at dksX10_findTwelve_1 18 rfl rfl)
theorem dX10_findTwelve_44 : decode cX10_findTwelve 44 = .ok (.aload_n 0, 1) := dk_42 (dk_at dksX10_findTwelve_1 21 rfl rfl)
theorem dX10_findTwelve_45 : decode cX10_findTwelve 45 = .ok (.getfield 110, 3) := dk_180 0 110 (dk_at dksX10_findTwelve_2 0 rfl rfl)
theorem dX10_findTwelve_48 : decode cX10_findTwelve 48 = .ok (.aload_n 0, 1) := dk_42 (dk_at dksX10_findTwelve_2 3 rfl rfl)
theorem dX10_findTwelve_49 : decode cX10_findTwelve 49 = .ok (.getfield 440, 3) := dk_180 1 184 (dk_at dksX10_findTwelve_2 4 rfl rfl)
theorem dX10_findTwelve_52 : decode cX10_findTwelve 52 = .ok (.iload_n 1, 1) := dk_27 (dk_at dksX10_findTwelve_2 7 rfl rfl)
theorem dX10_findTwelve_53 : decode cX10_findTwelve 53 = .ok (.iastore, 1) := dk_79 (dk_at dksX10_findTwelve_2 8 rfl rfl)
theorem dX10_findTwelve_54 : decode cX10_findTwelve 54 = .ok (.aload_n 0, 1) := dk_42 (dk_at dksX10_findTwelve_2 9 rfl rfl)
theorem dX10_findTwelve_55 : decode cX10_findTwelve 55 = .ok (.dup, 1) := dk_89 (dk_at dksX10_findTwelve_2 10 rfl rfl)
theorem dX10_findTwelve_56 : decode cX10_findTwelve 56 = .ok (.getfield 440, 3) := dk_180 1 184 (dk_at dksX10_findTwelve_2 11 rfl rfl)
theorem dX10_findTwelve_59 : decode cX10_findTwelve 59 = .ok (.iconst 1, 1) := dk_4 (dk_at dksX10_findTwelve_2 14 rfl rfl)
theorem dX10_findTwelve_60 : decode cX10_findTwelve 60 = .ok (.iadd, 1) := dk_96 (dk_at dksX10_findTwelve_2 15 rfl rfl)
theorem dX10_findTwelve_61 : decode cX10_findTwelve 61 = .ok (.putfield 440, 3) := dk_181 1 184 (dk_at dksX10_findTwelve_2 16 rfl rfl)
theorem dX10_findTwelve_64 : decode cX10_findTwelve 64 = .ok (.iinc 1 1, 3) := dk_132 1 1 (dk_at dksX10_findTwelve_2 19 rfl rfl)
theorem dX10_findTwelve_67 : decode cX10_findTwelve 67 = .ok (.goto (-60), 3) := dk_167 255 196 (dk_at dksX10_findTwelve_3 0 rfl rfl)
theorem dX10_findTwelve_70 : decode cX10_findTwelve 70 = .ok (.return_, 1) := dk_177 (dk_at dksX10_findTwelve_3 3 rfl rfl)
def dkwX10_tryFence_4 : List UInt8 := [181, 1, 196, 42, 42, 180, 1, 147, 181, 1, 193, 177]
abbrev dktX10_tryFence_4 : List UInt8 := dkwX10_tryFence_4 ++ []
def dkwX10_tryFence_3 : List UInt8 := [159, 0, 15, 42, 180, 1, 147, 42, 180, 1, 193, 161, 0, 4, 177, 42, 27, 181, 1, 190, 42, 28]
abbrev dktX10_tryFence_3 : List UInt8 := dkwX10_tryFence_3 ++ dktX10_tryFence_4
def dkwX10_tryFence_2 : List UInt8 := [42, 180, 0, 83, 27, 28, 184, 0, 232, 16, 100, 79, 42, 29, 182, 1, 178, 42, 180, 1, 190, 2]
abbrev dktX10_tryFence_2 : List UInt8 := dkwX10_tryFence_2 ++ dktX10_tryFence_3
def dkwX10_tryFence_1 : List UInt8 := [180, 0, 13, 27, 46, 4, 159, 0, 13, 42, 180, 0, 13, 28, 46, 4, 160, 0, 4, 177, 42, 182, 1, 138]
abbrev dktX10_tryFence_1 : List UInt8 := dkwX10_tryFence_1 ++ dktX10_tryFence_2
def dkwX10_tryFence_0 : List UInt8 := [28, 2, 159, 0, 39, 42, 27, 182, 1, 187, 154, 0, 11, 42, 28, 182, 1, 187, 153, 0, 23, 42]
abbrev dktX10_tryFence_0 : List UInt8 := dkwX10_tryFence_0 ++ dktX10_tryFence_1
theorem dksX10_tryFence_0 : cX10_tryFence.data.toList.drop 0 = dktX10_tryFence_0 := by decide +kernel
theorem dksX10_tryFence_1 : cX10_tryFence.data.toList.drop 22 = dktX10_tryFence_1 := dk_seg dksX10_tryFence_0 22 rfl rfl
theorem dksX10_tryFence_2 : cX10_tryFence.data.toList.drop 46 = dktX10_tryFence_2 := dk_seg dksX10_tryFence_1 24 rfl rfl
theorem dksX10_tryFence_3 : cX10_tryFence.data.toList.drop 68 = dktX10_tryFence_3 := dk_seg dksX10_tryFence_2 22 rfl rfl
theorem dksX10_tryFence_4 : cX10_tryFence.data.toList.drop 90 = dktX10_tryFence_4 := dk_seg dksX10_tryFence_3 22 rfl rfl
theorem dX10_tryFence_0 : decode cX10_tryFence 0 = .ok (.iload_n 2, 1) := dk_28 (dk_at dksX10_tryFence_0 0 rfl rfl)
theorem dX10_tryFence_1 : decode cX10_tryFence 1 = .ok (.iconst (-1), 1) := dk_2 (dk_at dksX10_tryFence_0 1 rfl rfl)
theorem dX10_tryFence_2 : decode cX10_tryFence 2 = .ok (.if_icmp .eq 39, 3) := dk_159 0 39 (dk_at dksX10_tryFence_0 2 rfl rfl)
theorem dX10_tryFence_5 : decode cX10_tryFence 5 = .ok (.aload_n 0, 1) := dk_42 (dk_at dksX10_tryFence_0 5 rfl rfl)
theorem dX10_tryFence_6 : decode cX10_tryFence 6 = .ok (.iload_n 1, 1) := dk_27 (dk_at dksX10_tryFence_0 6 rfl rfl)
theorem dX10_tryFence_7 : decode cX10_tryFence 7 = .ok (.invokevirtual 443, 3) := dk_182 1 187 (dk_at dksX10_tryFence_0 7 rfl rfl)
theorem dX10_tryFence_10 : decode cX10_tryFence 10 = .ok (.ifCond .ne 11, 3) := dk_154 0 11 (dk_at dksX10_tryFence_0 10 rfl rfl)
theorem dX10_tryFence_13 : decode cX10_tryFence 13 = .ok (.aload_n 0, 1) := dk_42 (dk_at dksX10_tryFence_0 13 rfl rfl)
theorem dX10_tryFence_14 : decode cX10_tryFence 14 = .ok (.iload_n 2, 1) := dk_28 (dk_at dksX10_tryFence_0 14 rfl rfl)
theorem dX10_tryFence_15 : decode cX10_tryFence 15 = .ok (.invokevirtual 443, 3) := dk_182 1 187 (dk_at dksX10_tryFence_0 15 rfl rfl)
theorem dX10_tryFence_18 : decode cX10_tryFence 18 = .ok (.ifCond .eq 23, 3) := dk_153 0 23 (dk_at dksX10_tryFence_0 18 rfl rfl)
theorem dX10_tryFence_21 : decode cX10_tryFence 21 = .ok (.aload_n 0, 1) := dk_42 (dk_at dksX10_tryFence_0 21 rfl rfl)
theorem dX10_tryFence_22 : decode cX10_tryFence 22 = .ok (.getfield 13, 3) := dk_180 0 13 (dk_at dksX10_tryFence_1 0 rfl rfl)
theorem dX10_tryFence_25 : decode cX10_tryFence 25 = .ok (.iload_n 1, 1) := dk_27 (dk_at dksX10_tryFence_1 3 rfl rfl)
theorem dX10_tryFence_26 : decode cX10_tryFence 26 = .ok (.iaload, 1) := dk_46 (dk_at dksX10_tryFence_1 4 rfl rfl)
theorem dX10_tryFence_27 : decode cX10_tryFence 27 = .ok (.iconst 1, 1) := dk_4 (dk_at dksX10_tryFence_1 5 rfl rfl)
theorem dX10_tryFence_28 : decode cX10_tryFence 28 = .ok (.if_icmp .eq 13, 3) := dk_159 0 13 (dk_at dksX10_tryFence_1 6 rfl rfl)
theorem dX10_tryFence_31 : decode cX10_tryFence 31 = .ok (.aload_n 0, 1) := dk_42 (dk_at dksX10_tryFence_1 9 rfl rfl)
theorem dX10_tryFence_32 : decode cX10_tryFence 32 = .ok (.getfield 13, 3) := dk_180 0 13 (dk_at dksX10_tryFence_1 10 rfl rfl)
theorem dX10_tryFence_35 : decode cX10_tryFence 35 = .ok (.iload_n 2, 1) := dk_28 (dk_at dksX10_tryFence_1 13 rfl rfl)
theorem dX10_tryFence_36 : decode cX10_tryFence 36 = .ok (.iaload, 1) := dk_46 (dk_at dksX10_tryFence_1 14 rfl rfl)
theorem dX10_tryFence_37 : decode cX10_tryFence 37 = .ok (.iconst 1, 1) := dk_4 (dk_at dksX10_tryFence_1 15 rfl rfl)
theorem dX10_tryFence_38 : decode cX10_tryFence 38 = .ok (.if_icmp .ne 4, 3) := dk_160 0 4 (dk_at dksX10_tryFence_1 16 rfl rfl)
theorem dX10_tryFence_41 : decode cX10_tryFence 41 = .ok (.return_, 1) := dk_177 (dk_at dksX10_tryFence_1 19 rfl rfl)
theorem dX10_tryFence_42 : decode cX10_tryFence 42 = .ok (.aload_n 0, 1) := dk_42 (dk_at dksX10_tryFence_1 20 rfl rfl)
theorem dX10_tryFence_43 : decode cX10_tryFence 43 = .ok (.invokevirtual 394, 3) := dk_182 1 138 (dk_at dksX10_tryFence_1 21 rfl rfl)
theorem dX10_tryFence_46 : decode cX10_tryFence 46 = .ok (.aload_n 0, 1) := dk_42 (dk_at dksX10_tryFence_2 0 rfl rfl)
theorem dX10_tryFence_47 : decode cX10_tryFence 47 = .ok (.getfield 83, 3) := dk_180 0 83 (dk_at dksX10_tryFence_2 1 rfl rfl)
theorem dX10_tryFence_50 : decode cX10_tryFence 50 = .ok (.iload_n 1, 1) := dk_27 (dk_at dksX10_tryFence_2 4 rfl rfl)
theorem dX10_tryFence_51 : decode cX10_tryFence 51 = .ok (.iload_n 2, 1) := dk_28 (dk_at dksX10_tryFence_2 5 rfl rfl)
theorem dX10_tryFence_52 : decode cX10_tryFence 52 = .ok (.invokestatic 232, 3) := dk_184 0 232 (dk_at dksX10_tryFence_2 6 rfl rfl)
theorem dX10_tryFence_55 : decode cX10_tryFence 55 = .ok (.bipush 100, 2) := dk_16 100 (dk_at dksX10_tryFence_2 9 rfl rfl)
theorem dX10_tryFence_57 : decode cX10_tryFence 57 = .ok (.iastore, 1) := dk_79 (dk_at dksX10_tryFence_2 11 rfl rfl)
theorem dX10_tryFence_58 : decode cX10_tryFence 58 = .ok (.aload_n 0, 1) := dk_42 (dk_at dksX10_tryFence_2 12 rfl rfl)
theorem dX10_tryFence_59 : decode cX10_tryFence 59 = .ok (.iload_n 3, 1) := dk_29 (dk_at dksX10_tryFence_2 13 rfl rfl)
theorem dX10_tryFence_60 : decode cX10_tryFence 60 = .ok (.invokevirtual 434, 3) := dk_182 1 178 (dk_at dksX10_tryFence_2 14 rfl rfl)
theorem dX10_tryFence_63 : decode cX10_tryFence 63 = .ok (.aload_n 0, 1) := dk_42 (dk_at dksX10_tryFence_2 17 rfl rfl)
theorem dX10_tryFence_64 : decode cX10_tryFence 64 = .ok (.getfield 446, 3) := dk_180 1 190 (dk_at dksX10_tryFence_2 18 rfl rfl)
theorem dX10_tryFence_67 : decode cX10_tryFence 67 = .ok (.iconst (-1), 1) := dk_2 (dk_at dksX10_tryFence_2 21 rfl rfl)
theorem dX10_tryFence_68 : decode cX10_tryFence 68 = .ok (.if_icmp .eq 15, 3) := dk_159 0 15 (dk_at dksX10_tryFence_3 0 rfl rfl)
theorem dX10_tryFence_71 : decode cX10_tryFence 71 = .ok (.aload_n 0, 1) := dk_42 (dk_at dksX10_tryFence_3 3 rfl rfl)
theorem dX10_tryFence_72 : decode cX10_tryFence 72 = .ok (.getfield 403, 3) := dk_180 1 147 (dk_at dksX10_tryFence_3 4 rfl rfl)
theorem dX10_tryFence_75 : decode cX10_tryFence 75 = .ok (.aload_n 0, 1) := dk_42 (dk_at dksX10_tryFence_3 7 rfl rfl)
theorem dX10_tryFence_76 : decode cX10_tryFence 76 = .ok (.getfield 449, 3) := dk_180 1 193 (dk_at dksX10_tryFence_3 8 rfl rfl)
theorem dX10_tryFence_79 : decode cX10_tryFence 79 = .ok (.if_icmp .lt 4, 3) := dk_161 0 4 (dk_at dksX10_tryFence_3 11 rfl rfl)
theorem dX10_tryFence_82 : decode cX10_tryFence 82 = .ok (.return_, 1) := dk_177 (dk_at dksX10_tryFence_3 14 rfl rfl)
theorem dX10_tryFence_83 : decode cX10_tryFence 83 = .ok (.aload_n 0, 1) := dk_42 (dk_at dksX10_tryFence_3 15 rfl rfl)
theorem dX10_tryFence_84 : decode cX10_tryFence 84 = .ok (.iload_n 1, 1) := dk_27 (dk_at dksX10_tryFence_3 16 rfl rfl)
theorem dX10_tryFence_85 : decode cX10_tryFence 85 = .ok (.putfield 446, 3) := dk_181 1 190 (dk_at dksX10_tryFence_3 17 rfl rfl)
theorem dX10_tryFence_88 : decode cX10_tryFence 88 = .ok (.aload_n 0, 1) := dk_42 (dk_at dksX10_tryFence_3 20 rfl rfl)
theorem dX10_tryFence_89 : decode cX10_tryFence 89 = .ok (.iload_n 2, 1) := dk_28 (dk_at dksX10_tryFence_3 21 rfl rfl)
theorem dX10_tryFence_90 : decode cX10_tryFence 90 = .ok (.putfield 452, 3) := dk_181 1 196 (dk_at dksX10_tryFence_4 0 rfl rfl)
theorem dX10_tryFence_93 : decode cX10_tryFence 93 = .ok (.aload_n 0, 1) := dk_42 (dk_at dksX10_tryFence_4 3 rfl rfl)
theorem dX10_tryFence_94 : decode cX10_tryFence 94 = .ok (.aload_n 0, 1) := dk_42 (dk_at dksX10_tryFence_4 4 rfl rfl)
theorem dX10_tryFence_95 : decode cX10_tryFence 95 = .ok (.getfield 403, 3) := dk_180 1 147 (dk_at dksX10_tryFence_4 5 rfl rfl)
theorem dX10_tryFence_98 : decode cX10_tryFence 98 = .ok (.putfield 449, 3) := dk_181 1 193 (dk_at dksX10_tryFence_4 8 rfl rfl)
theorem dX10_tryFence_101 : decode cX10_tryFence 101 = .ok (.return_, 1) := dk_177 (dk_at dksX10_tryFence_4 11 rfl rfl)
def dkwX10_isOfTwelve_1 : List UInt8 := [132, 2, 1, 167, 255, 233, 3, 172]
abbrev dktX10_isOfTwelve_1 : List UInt8 := dkwX10_isOfTwelve_1 ++ []
def dkwX10_isOfTwelve_0 : List UInt8 := [3, 61, 28, 42, 180, 1, 184, 162, 0, 21, 42, 180, 0, 110, 28, 46, 27, 160, 0, 5, 4, 172]
abbrev dktX10_isOfTwelve_0 : List UInt8 := dkwX10_isOfTwelve_0 ++ dktX10_isOfTwelve_1
theorem dksX10_isOfTwelve_0 : cX10_isOfTwelve.data.toList.drop 0 = dktX10_isOfTwelve_0 := by decide +kernel
theorem dksX10_isOfTwelve_1 : cX10_isOfTwelve.data.toList.drop 22 = dktX10_isOfTwelve_1 := dk_seg dksX10_isOfTwelve_0 22 rfl rfl
theorem dX10_isOfTwelve_0 : decode cX10_isOfTwelve 0 = .ok (.iconst 0, 1) := dk_3 (dk_at dksX10_isOfTwelve_0 0 rfl rfl)
theorem dX10_isOfTwelve_1 : decode cX10_isOfTwelve 1 = .ok (.istore_n 2, 1) := dk_61 (dk_at dksX10_isOfTwelve_0 1 rfl rfl)
theorem dX10_isOfTwelve_2 : decode cX10_isOfTwelve 2 = .ok (.iload_n 2, 1) := dk_28 (dk_at dksX10_isOfTwelve_0 2 rfl rfl)
theorem dX10_isOfTwelve_3 : decode cX10_isOfTwelve 3 = .ok (.aload_n 0, 1) := dk_42 (dk_at dksX10_isOfTwelve_0 3 rfl rfl)
theorem dX10_isOfTwelve_4 : decode cX10_isOfTwelve 4 = .ok (.getfield 440, 3) := dk_180 1 184 (dk_at dksX10_isOfTwelve_0 4 rfl rfl)
theorem dX10_isOfTwelve_7 : decode cX10_isOfTwelve 7 = .ok (.if_icmp .ge 21, 3) := dk_162 0 21 (dk_at dksX10_isOfTwelve_0 7 rfl rfl)
theorem dX10_isOfTwelve_10 : decode cX10_isOfTwelve 10 = .ok (.aload_n 0, 1) := dk_42 (dk_at dksX10_isOfTwelve_0 10 rfl rfl)
theorem dX10_isOfTwelve_11 : decode cX10_isOfTwelve 11 = .ok (.getfield 110, 3) := dk_180 0 110 (dk_at dksX10_isOfTwelve_0 11 rfl rfl)
theorem dX10_isOfTwelve_14 : decode cX10_isOfTwelve 14 = .ok (.iload_n 2, 1) := dk_28 (dk_at dksX10_isOfTwelve_0 14 rfl rfl)
theorem dX10_isOfTwelve_15 : decode cX10_isOfTwelve 15 = .ok (.iaload, 1) := dk_46 (dk_at dksX10_isOfTwelve_0 15 rfl rfl)
theorem dX10_isOfTwelve_16 : decode cX10_isOfTwelve 16 = .ok (.iload_n 1, 1) := dk_27 (dk_at dksX10_isOfTwelve_0 16 rfl rfl)
theorem dX10_isOfTwelve_17 : decode cX10_isOfTwelve 17 = .ok (.if_icmp .ne 5, 3) := dk_160 0 5 (dk_at dksX10_isOfTwelve_0 17 rfl rfl)
theorem dX10_isOfTwelve_20 : decode cX10_isOfTwelve 20 = .ok (.iconst 1, 1) := dk_4 (dk_at dksX10_isOfTwelve_0 20 rfl rfl)
theorem dX10_isOfTwelve_21 : decode cX10_isOfTwelve 21 = .ok (.ireturn, 1) := dk_172 (dk_at dksX10_isOfTwelve_0 21 rfl rfl)
theorem dX10_isOfTwelve_22 : decode cX10_isOfTwelve 22 = .ok (.iinc 2 1, 3) := dk_132 2 1 (dk_at dksX10_isOfTwelve_1 0 rfl rfl)
theorem dX10_isOfTwelve_25 : decode cX10_isOfTwelve 25 = .ok (.goto (-23), 3) := dk_167 255 233 (dk_at dksX10_isOfTwelve_1 3 rfl rfl)
theorem dX10_isOfTwelve_28 : decode cX10_isOfTwelve 28 = .ok (.iconst 0, 1) := dk_3 (dk_at dksX10_isOfTwelve_1 6 rfl rfl)
theorem dX10_isOfTwelve_29 : decode cX10_isOfTwelve 29 = .ok (.ireturn, 1) := dk_172 (dk_at dksX10_isOfTwelve_1 7 rfl rfl)
def dkwX10_night_11 : List UInt8 := [167, 255, 213, 42, 3, 181, 1, 150, 42, 89, 180, 1, 168, 4, 96, 181, 1, 168, 42, 180, 1, 147, 172]
abbrev dktX10_night_11 : List UInt8 := dkwX10_night_11 ++ []
def dkwX10_night_10 : List UInt8 := [46, 120, 128, 181, 1, 218, 42, 180, 0, 116, 42, 180, 0, 98, 29, 46, 92, 46, 4, 96, 79, 132, 3, 1]
abbrev dktX10_night_10 : List UInt8 := dkwX10_night_10 ++ dktX10_night_11
def dkwX10_night_9 : List UInt8 := [181, 1, 218, 3, 62, 29, 42, 180, 1, 150, 162, 0, 41, 42, 89, 180, 1, 218, 4, 42, 180, 0, 98, 29]
abbrev dktX10_night_9 : List UInt8 := dkwX10_night_9 ++ dktX10_night_10
def dkwX10_night_8 : List UInt8 := [162, 0, 14, 42, 29, 42, 180, 0, 107, 29, 46, 182, 1, 216, 132, 3, 1, 167, 255, 218, 42, 3]
abbrev dktX10_night_8 : List UInt8 := dkwX10_night_8 ++ dktX10_night_9
def dkwX10_night_7 : List UInt8 := [3, 62, 29, 16, 10, 162, 0, 38, 42, 180, 0, 107, 29, 46, 158, 0, 23, 42, 180, 1, 213, 16, 60]
abbrev dktX10_night_7 : List UInt8 := dkwX10_night_7 ++ dktX10_night_8
def dkwX10_night_6 : List UInt8 := [17, 0, 128, 162, 0, 21, 42, 180, 0, 29, 29, 42, 180, 0, 83, 29, 46, 79, 132, 3, 1, 167, 255, 234]
abbrev dktX10_night_6 : List UInt8 := dkwX10_night_6 ++ dktX10_night_7
def dkwX10_night_5 : List UInt8 := [29, 46, 79, 42, 180, 0, 26, 29, 42, 180, 0, 86, 29, 46, 79, 132, 3, 1, 167, 255, 213, 3, 62, 29]
abbrev dktX10_night_5 : List UInt8 := dkwX10_night_5 ++ dktX10_night_6
def dkwX10_night_4 : List UInt8 := [16, 64, 162, 0, 43, 42, 180, 0, 13, 29, 46, 5, 160, 0, 15, 42, 180, 0, 23, 29, 42, 180, 0, 80]
abbrev dktX10_night_4 : List UInt8 := dkwX10_night_4 ++ dktX10_night_5
def dkwX10_night_3 : List UInt8 := [182, 1, 210, 28, 164, 0, 13, 42, 3, 182, 1, 210, 28, 100, 167, 0, 4, 3, 96, 79, 3, 62, 29]
abbrev dktX10_night_3 : List UInt8 := dkwX10_night_3 ++ dktX10_night_4
def dkwX10_night_2 : List UInt8 := [42, 4, 182, 1, 210, 27, 100, 167, 0, 4, 3, 96, 79, 42, 180, 0, 113, 4, 92, 46, 42, 3]
abbrev dktX10_night_2 : List UInt8 := dkwX10_night_2 ++ dktX10_night_3
def dkwX10_night_1 : List UInt8 := [182, 1, 138, 42, 4, 182, 1, 178, 42, 180, 0, 113, 3, 92, 46, 42, 4, 182, 1, 210, 27, 164, 0, 13]
abbrev dktX10_night_1 : List UInt8 := dkwX10_night_1 ++ dktX10_night_2
def dkwX10_night_0 : List UInt8 := [42, 3, 181, 0, 1, 42, 3, 181, 1, 156, 42, 3, 182, 1, 206, 60, 42, 4, 182, 1, 206, 61, 42]
abbrev dktX10_night_0 : List UInt8 := dkwX10_night_0 ++ dktX10_night_1
theorem dksX10_night_0 : cX10_night.data.toList.drop 0 = dktX10_night_0 := by decide +kernel
theorem dksX10_night_1 : cX10_night.data.toList.drop 23 = dktX10_night_1 := dk_seg dksX10_night_0 23 rfl rfl
theorem dksX10_night_2 : cX10_night.data.toList.drop 47 = dktX10_night_2 := dk_seg dksX10_night_1 24 rfl rfl
theorem dksX10_night_3 : cX10_night.data.toList.drop 69 = dktX10_night_3 := dk_seg dksX10_night_2 22 rfl rfl
theorem dksX10_night_4 : cX10_night.data.toList.drop 92 = dktX10_night_4 := dk_seg dksX10_night_3 23 rfl rfl
theorem dksX10_night_5 : cX10_night.data.toList.drop 116 = dktX10_night_5 := dk_seg dksX10_night_4 24 rfl rfl
theorem dksX10_night_6 : cX10_night.data.toList.drop 140 = dktX10_night_6 := dk_seg dksX10_night_5 24 rfl rfl
theorem dksX10_night_7 : cX10_night.data.toList.drop 164 = dktX10_night_7 := dk_seg dksX10_night_6 24 rfl rfl
theorem dksX10_night_8 : cX10_night.data.toList.drop 187 = dktX10_night_8 := dk_seg dksX10_night_7 23 rfl rfl
theorem dksX10_night_9 : cX10_night.data.toList.drop 209 = dktX10_night_9 := dk_seg dksX10_night_8 22 rfl rfl
theorem dksX10_night_10 : cX10_night.data.toList.drop 233 = dktX10_night_10 := dk_seg dksX10_night_9 24 rfl rfl
theorem dksX10_night_11 : cX10_night.data.toList.drop 257 = dktX10_night_11 := dk_seg dksX10_night_10 24 rfl rfl
theorem dX10_night_0 : decode cX10_night 0 = .ok (.aload_n 0, 1) := dk_42 (dk_at dksX10_night_0 0 rfl rfl)
theorem dX10_night_1 : decode cX10_night 1 = .ok (.iconst 0, 1) := dk_3 (dk_at dksX10_night_0 1 rfl rfl)
theorem dX10_night_2 : decode cX10_night 2 = .ok (.putfield 1, 3) := dk_181 0 1 (dk_at dksX10_night_0 2 rfl rfl)
theorem dX10_night_5 : decode cX10_night 5 = .ok (.aload_n 0, 1) := dk_42 (dk_at dksX10_night_0 5 rfl rfl)
theorem dX10_night_6 : decode cX10_night 6 = .ok (.iconst 0, 1) := dk_3 (dk_at dksX10_night_0 6 rfl rfl)
theorem dX10_night_7 : decode cX10_night 7 = .ok (.putfield 412, 3) := dk_181 1 156 (dk_at dksX10_night_0 7 rfl rfl)
theorem dX10_night_10 : decode cX10_night 10 = .ok (.aload_n 0, 1) := dk_42 (dk_at dksX10_night_0 10 rfl rfl)
theorem dX10_night_11 : decode cX10_night 11 = .ok (.iconst 0, 1) := dk_3 (dk_at dksX10_night_0 11 rfl rfl)
theorem dX10_night_12 : decode cX10_night 12 = .ok (.invokevirtual 462, 3) := dk_182 1 206 (dk_at dksX10_night_0 12 rfl rfl)
theorem dX10_night_15 : decode cX10_night 15 = .ok (.istore_n 1, 1) := dk_60 (dk_at dksX10_night_0 15 rfl rfl)
theorem dX10_night_16 : decode cX10_night 16 = .ok (.aload_n 0, 1) := dk_42 (dk_at dksX10_night_0 16 rfl rfl)
theorem dX10_night_17 : decode cX10_night 17 = .ok (.iconst 1, 1) := dk_4 (dk_at dksX10_night_0 17 rfl rfl)
theorem dX10_night_18 : decode cX10_night 18 = .ok (.invokevirtual 462, 3) := dk_182 1 206 (dk_at dksX10_night_0 18 rfl rfl)
theorem dX10_night_21 : decode cX10_night 21 = .ok (.istore_n 2, 1) := dk_61 (dk_at dksX10_night_0 21 rfl rfl)
theorem dX10_night_22 : decode cX10_night 22 = .ok (.aload_n 0, 1) := dk_42 (dk_at dksX10_night_0 22 rfl rfl)
theorem dX10_night_23 : decode cX10_night 23 = .ok (.invokevirtual 394, 3) := dk_182 1 138 (dk_at dksX10_night_1 0 rfl rfl)
theorem dX10_night_26 : decode cX10_night 26 = .ok (.aload_n 0, 1) := dk_42 (dk_at dksX10_night_1 3 rfl rfl)
theorem dX10_night_27 : decode cX10_night 27 = .ok (.iconst 1, 1) := dk_4 (dk_at dksX10_night_1 4 rfl rfl)
theorem dX10_night_28 : decode cX10_night 28 = .ok (.invokevirtual 434, 3) := dk_182 1 178 (dk_at dksX10_night_1 5 rfl rfl)
theorem dX10_night_31 : decode cX10_night 31 = .ok (.aload_n 0, 1) := dk_42 (dk_at dksX10_night_1 8 rfl rfl)
theorem dX10_night_32 : decode cX10_night 32 = .ok (.getfield 113, 3) := dk_180 0 113 (dk_at dksX10_night_1 9 rfl rfl)
theorem dX10_night_35 : decode cX10_night 35 = .ok (.iconst 0, 1) := dk_3 (dk_at dksX10_night_1 12 rfl rfl)
theorem dX10_night_36 : decode cX10_night 36 = .ok (.dup2, 1) := dk_92 (dk_at dksX10_night_1 13 rfl rfl)
theorem dX10_night_37 : decode cX10_night 37 = .ok (.iaload, 1) := dk_46 (dk_at dksX10_night_1 14 rfl rfl)
theorem dX10_night_38 : decode cX10_night 38 = .ok (.aload_n 0, 1) := dk_42 (dk_at dksX10_night_1 15 rfl rfl)
theorem dX10_night_39 : decode cX10_night 39 = .ok (.iconst 1, 1) := dk_4 (dk_at dksX10_night_1 16 rfl rfl)
theorem dX10_night_40 : decode cX10_night 40 = .ok (.invokevirtual 466, 3) := dk_182 1 210 (dk_at dksX10_night_1 17 rfl rfl)
theorem dX10_night_43 : decode cX10_night 43 = .ok (.iload_n 1, 1) := dk_27 (dk_at dksX10_night_1 20 rfl rfl)
theorem dX10_night_44 : decode cX10_night 44 = .ok (.if_icmp .le 13, 3) := dk_164 0 13 (dk_at dksX10_night_1 21 rfl rfl)
theorem dX10_night_47 : decode cX10_night 47 = .ok (.aload_n 0, 1) := dk_42 (dk_at dksX10_night_2 0 rfl rfl)
theorem dX10_night_48 : decode cX10_night 48 = .ok (.iconst 1, 1) := dk_4 (dk_at dksX10_night_2 1 rfl rfl)
theorem dX10_night_49 : decode cX10_night 49 = .ok (.invokevirtual 466, 3) := dk_182 1 210 (dk_at dksX10_night_2 2 rfl rfl)
theorem dX10_night_52 : decode cX10_night 52 = .ok (.iload_n 1, 1) := dk_27 (dk_at dksX10_night_2 5 rfl rfl)
theorem dX10_night_53 : decode cX10_night 53 = .ok (.isub, 1) := dk_100 (dk_at dksX10_night_2 6 rfl rfl)
theorem dX10_night_54 : decode cX10_night 54 = .ok (.goto 4, 3) := dk_167 0 4 (dk_at dksX10_night_2 7 rfl rfl)
theorem dX10_night_57 : decode cX10_night 57 = .ok (.iconst 0, 1) := dk_3 (dk_at dksX10_night_2 10 rfl rfl)
theorem dX10_night_58 : decode cX10_night 58 = .ok (.iadd, 1) := dk_96 (dk_at dksX10_night_2 11 rfl rfl)
theorem dX10_night_59 : decode cX10_night 59 = .ok (.iastore, 1) := dk_79 (dk_at dksX10_night_2 12 rfl rfl)
theorem dX10_night_60 : decode cX10_night 60 = .ok (.aload_n 0, 1) := dk_42 (dk_at dksX10_night_2 13 rfl rfl)
theorem dX10_night_61 : decode cX10_night 61 = .ok (.getfield 113, 3) := dk_180 0 113 (dk_at dksX10_night_2 14 rfl rfl)
theorem dX10_night_64 : decode cX10_night 64 = .ok (.iconst 1, 1) := dk_4 (dk_at dksX10_night_2 17 rfl rfl)
theorem dX10_night_65 : decode cX10_night 65 = .ok (.dup2, 1) := dk_92 (dk_at dksX10_night_2 18 rfl rfl)
theorem dX10_night_66 : decode cX10_night 66 = .ok (.iaload, 1) := dk_46 (dk_at dksX10_night_2 19 rfl rfl)
theorem dX10_night_67 : decode cX10_night 67 = .ok (.aload_n 0, 1) := dk_42 (dk_at dksX10_night_2 20 rfl rfl)
theorem dX10_night_68 : decode cX10_night 68 = .ok (.iconst 0, 1) := dk_3 (dk_at dksX10_night_2 21 rfl rfl)
theorem dX10_night_69 : decode cX10_night 69 = .ok (.invokevirtual 466, 3) := dk_182 1 210 (dk_at dksX10_night_3 0 rfl rfl)
theorem dX10_night_72 : decode cX10_night 72 = .ok (.iload_n 2, 1) := dk_28 (dk_at dksX10_night_3 3 rfl rfl)
theorem dX10_night_73 : decode cX10_night 73 = .ok (.if_icmp .le 13, 3) := dk_164 0 13 (dk_at dksX10_night_3 4 rfl rfl)
theorem dX10_night_76 : decode cX10_night 76 = .ok (.aload_n 0, 1) := dk_42 (dk_at dksX10_night_3 7 rfl rfl)
theorem dX10_night_77 : decode cX10_night 77 = .ok (.iconst 0, 1) := dk_3 (dk_at dksX10_night_3 8 rfl rfl)
theorem dX10_night_78 : decode cX10_night 78 = .ok (.invokevirtual 466, 3) := dk_182 1 210 (dk_at dksX10_night_3 9 rfl rfl)
theorem dX10_night_81 : decode cX10_night 81 = .ok (.iload_n 2, 1) := dk_28 (dk_at dksX10_night_3 12 rfl rfl)
theorem dX10_night_82 : decode cX10_night 82 = .ok (.isub, 1) := dk_100 (dk_at dksX10_night_3 13 rfl rfl)
theorem dX10_night_83 : decode cX10_night 83 = .ok (.goto 4, 3) := dk_167 0 4 (dk_at dksX10_night_3 14 rfl rfl)
theorem dX10_night_86 : decode cX10_night 86 = .ok (.iconst 0, 1) := dk_3 (dk_at dksX10_night_3 17 rfl rfl)
theorem dX10_night_87 : decode cX10_night 87 = .ok (.iadd, 1) := dk_96 (dk_at dksX10_night_3 18 rfl rfl)
theorem dX10_night_88 : decode cX10_night 88 = .ok (.iastore, 1) := dk_79 (dk_at dksX10_night_3 19 rfl rfl)
theorem dX10_night_89 : decode cX10_night 89 = .ok (.iconst 0, 1) := dk_3 (dk_at dksX10_night_3 20 rfl rfl)
theorem dX10_night_90 : decode cX10_night 90 = .ok (.istore_n 3, 1) := dk_62 (dk_at dksX10_night_3 21 rfl rfl)
theorem dX10_night_91 : decode cX10_night 91 = .ok (.iload_n 3, 1) := dk_29 (dk_at dksX10_night_3 22 rfl rfl)
theorem dX10_night_92 : decode cX10_night 92 = .ok (.bipush 64, 2) := dk_16 64 (dk_at dksX10_night_4 0 rfl rfl)
theorem dX10_night_94 : decode cX10_night 94 = .ok (.if_icmp .ge 43, 3) := dk_162 0 43 (dk_at dksX10_night_4 2 rfl rfl)
theorem dX10_night_97 : decode cX10_night 97 = .ok (.aload_n 0, 1) := dk_42 (dk_at dksX10_night_4 5 rfl rfl)
theorem dX10_night_98 : decode cX10_night 98 = .ok (.getfield 13, 3) := dk_180 0 13 (dk_at dksX10_night_4 6 rfl rfl)
theorem dX10_night_101 : decode cX10_night 101 = .ok (.iload_n 3, 1) := dk_29 (dk_at dksX10_night_4 9 rfl rfl)
theorem dX10_night_102 : decode cX10_night 102 = .ok (.iaload, 1) := dk_46 (dk_at dksX10_night_4 10 rfl rfl)
theorem dX10_night_103 : decode cX10_night 103 = .ok (.iconst 2, 1) := dk_5 (dk_at dksX10_night_4 11 rfl rfl)
theorem dX10_night_104 : decode cX10_night 104 = .ok (.if_icmp .ne 15, 3) := dk_160 0 15 (dk_at dksX10_night_4 12 rfl rfl)
theorem dX10_night_107 : decode cX10_night 107 = .ok (.aload_n 0, 1) := dk_42 (dk_at dksX10_night_4 15 rfl rfl)
theorem dX10_night_108 : decode cX10_night 108 = .ok (.getfield 23, 3) := dk_180 0 23 (dk_at dksX10_night_4 16 rfl rfl)
theorem dX10_night_111 : decode cX10_night 111 = .ok (.iload_n 3, 1) := dk_29 (dk_at dksX10_night_4 19 rfl rfl)
theorem dX10_night_112 : decode cX10_night 112 = .ok (.aload_n 0, 1) := dk_42 (dk_at dksX10_night_4 20 rfl rfl)
theorem dX10_night_113 : decode cX10_night 113 = .ok (.getfield 80, 3) := dk_180 0 80 (dk_at dksX10_night_4 21 rfl rfl)
theorem dX10_night_116 : decode cX10_night 116 = .ok (.iload_n 3, 1) := dk_29 (dk_at dksX10_night_5 0 rfl rfl)
theorem dX10_night_117 : decode cX10_night 117 = .ok (.iaload, 1) := dk_46 (dk_at dksX10_night_5 1 rfl rfl)
theorem dX10_night_118 : decode cX10_night 118 = .ok (.iastore, 1) := dk_79 (dk_at dksX10_night_5 2 rfl rfl)
theorem dX10_night_119 : decode cX10_night 119 = .ok (.aload_n 0, 1) := dk_42 (dk_at dksX10_night_5 3 rfl rfl)
theorem dX10_night_120 : decode cX10_night 120 = .ok (.getfield 26, 3) := dk_180 0 26 (dk_at dksX10_night_5 4 rfl rfl)
theorem dX10_night_123 : decode cX10_night 123 = .ok (.iload_n 3, 1) := dk_29 (dk_at dksX10_night_5 7 rfl rfl)
theorem dX10_night_124 : decode cX10_night 124 = .ok (.aload_n 0, 1) := dk_42 (dk_at dksX10_night_5 8 rfl rfl)
theorem dX10_night_125 : decode cX10_night 125 = .ok (.getfield 86, 3) := dk_180 0 86 (dk_at dksX10_night_5 9 rfl rfl)
theorem dX10_night_128 : decode cX10_night 128 = .ok (.iload_n 3, 1) := dk_29 (dk_at dksX10_night_5 12 rfl rfl)
theorem dX10_night_129 : decode cX10_night 129 = .ok (.iaload, 1) := dk_46 (dk_at dksX10_night_5 13 rfl rfl)
theorem dX10_night_130 : decode cX10_night 130 = .ok (.iastore, 1) := dk_79 (dk_at dksX10_night_5 14 rfl rfl)
theorem dX10_night_131 : decode cX10_night 131 = .ok (.iinc 3 1, 3) := dk_132 3 1 (dk_at dksX10_night_5 15 rfl rfl)
theorem dX10_night_134 : decode cX10_night 134 = .ok (.goto (-43), 3) := dk_167 255 213 (dk_at dksX10_night_5 18 rfl rfl)
theorem dX10_night_137 : decode cX10_night 137 = .ok (.iconst 0, 1) := dk_3 (dk_at dksX10_night_5 21 rfl rfl)
theorem dX10_night_138 : decode cX10_night 138 = .ok (.istore_n 3, 1) := dk_62 (dk_at dksX10_night_5 22 rfl rfl)
theorem dX10_night_139 : decode cX10_night 139 = .ok (.iload_n 3, 1) := dk_29 (dk_at dksX10_night_5 23 rfl rfl)
theorem dX10_night_140 : decode cX10_night 140 = .ok (.sipush 128, 3) := dk_17 0 128 (dk_at dksX10_night_6 0 rfl rfl)
theorem dX10_night_143 : decode cX10_night 143 = .ok (.if_icmp .ge 21, 3) := dk_162 0 21 (dk_at dksX10_night_6 3 rfl rfl)
theorem dX10_night_146 : decode cX10_night 146 = .ok (.aload_n 0, 1) := dk_42 (dk_at dksX10_night_6 6 rfl rfl)
theorem dX10_night_147 : decode cX10_night 147 = .ok (.getfield 29, 3) := dk_180 0 29 (dk_at dksX10_night_6 7 rfl rfl)
theorem dX10_night_150 : decode cX10_night 150 = .ok (.iload_n 3, 1) := dk_29 (dk_at dksX10_night_6 10 rfl rfl)
theorem dX10_night_151 : decode cX10_night 151 = .ok (.aload_n 0, 1) := dk_42 (dk_at dksX10_night_6 11 rfl rfl)
theorem dX10_night_152 : decode cX10_night 152 = .ok (.getfield 83, 3) := dk_180 0 83 (dk_at dksX10_night_6 12 rfl rfl)
theorem dX10_night_155 : decode cX10_night 155 = .ok (.iload_n 3, 1) := dk_29 (dk_at dksX10_night_6 15 rfl rfl)
