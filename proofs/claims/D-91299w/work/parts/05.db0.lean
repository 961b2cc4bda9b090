set_option maxRecDepth 100000
def dkwX1_init_13 : List UInt8 := [42, 180, 0, 103, 27, 4, 79, 132, 1, 1, 167, 255, 240, 177]
abbrev dktX1_init_13 : List UInt8 := dkwX1_init_13 ++ []
def dkwX1_init_12 : List UInt8 := [181, 0, 148, 42, 187, 0, 151, 89, 42, 3, 183, 0, 153, 181, 0, 156, 3, 60, 27, 16, 64, 162, 0, 16]
abbrev dktX1_init_12 : List UInt8 := dkwX1_init_12 ++ dktX1_init_13
def dkwX1_init_11 : List UInt8 := [188, 4, 181, 0, 140, 42, 16, 64, 188, 4, 181, 0, 143, 42, 16, 10, 17, 3, 232, 197, 0, 146, 2]
abbrev dktX1_init_11 : List UInt8 := dkwX1_init_11 ++ dktX1_init_12
def dkwX1_init_10 : List UInt8 := [188, 4, 181, 0, 130, 42, 16, 10, 188, 4, 181, 0, 134, 42, 16, 64, 188, 4, 181, 0, 137, 42, 16, 64]
abbrev dktX1_init_10 : List UInt8 := dkwX1_init_10 ++ dktX1_init_11
def dkwX1_init_9 : List UInt8 := [188, 10, 181, 0, 121, 42, 16, 10, 188, 10, 181, 0, 124, 42, 16, 10, 188, 10, 181, 0, 127, 42, 16, 10]
abbrev dktX1_init_9 : List UInt8 := dkwX1_init_9 ++ dktX1_init_10
def dkwX1_init_8 : List UInt8 := [188, 10, 181, 0, 112, 42, 16, 64, 188, 10, 181, 0, 115, 42, 16, 10, 188, 10, 181, 0, 118, 42, 16, 10]
abbrev dktX1_init_8 : List UInt8 := dkwX1_init_8 ++ dktX1_init_9
def dkwX1_init_7 : List UInt8 := [188, 10, 181, 0, 103, 42, 16, 60, 188, 10, 181, 0, 106, 42, 16, 60, 188, 10, 181, 0, 109, 42, 8]
abbrev dktX1_init_7 : List UInt8 := dkwX1_init_7 ++ dktX1_init_8
def dkwX1_init_6 : List UInt8 := [188, 10, 181, 0, 94, 42, 16, 12, 188, 10, 181, 0, 97, 42, 5, 188, 10, 181, 0, 100, 42, 16, 64]
abbrev dktX1_init_6 : List UInt8 := dkwX1_init_6 ++ dktX1_init_7
def dkwX1_init_5 : List UInt8 := [188, 10, 181, 0, 84, 42, 16, 10, 188, 10, 181, 0, 88, 42, 16, 10, 188, 10, 181, 0, 91, 42, 16, 10]
abbrev dktX1_init_5 : List UInt8 := dkwX1_init_5 ++ dktX1_init_6
def dkwX1_init_4 : List UInt8 := [187, 0, 68, 89, 183, 0, 70, 181, 0, 78, 42, 187, 0, 68, 89, 183, 0, 70, 181, 0, 81, 42, 16, 10]
abbrev dktX1_init_4 : List UInt8 := dkwX1_init_4 ++ dktX1_init_5
def dkwX1_init_3 : List UInt8 := [187, 0, 68, 89, 183, 0, 70, 181, 0, 71, 42, 187, 0, 68, 89, 183, 0, 70, 181, 0, 75, 42]
abbrev dktX1_init_3 : List UInt8 := dkwX1_init_3 ++ dktX1_init_4
def dkwX1_init_2 : List UInt8 := [187, 0, 54, 89, 183, 0, 56, 181, 0, 57, 42, 187, 0, 61, 89, 183, 0, 63, 181, 0, 64, 42]
abbrev dktX1_init_2 : List UInt8 := dkwX1_init_2 ++ dktX1_init_3
def dkwX1_init_1 : List UInt8 := [42, 187, 0, 41, 89, 183, 0, 43, 181, 0, 48, 42, 187, 0, 41, 89, 183, 0, 43, 181, 0, 51, 42]
abbrev dktX1_init_1 : List UInt8 := dkwX1_init_1 ++ dktX1_init_2
def dkwX1_init_0 : List UInt8 := [42, 183, 0, 31, 42, 17, 1, 144, 188, 8, 181, 0, 37, 42, 187, 0, 41, 89, 183, 0, 43, 181, 0, 44]
abbrev dktX1_init_0 : List UInt8 := dkwX1_init_0 ++ dktX1_init_1
theorem dksX1_init_0 : cX1_init.data.toList.drop 0 = dktX1_init_0 := by decide +kernel
theorem dksX1_init_1 : cX1_init.data.toList.drop 24 = dktX1_init_1 := dk_seg dksX1_init_0 24 rfl rfl
theorem dksX1_init_2 : cX1_init.data.toList.drop 47 = dktX1_init_2 := dk_seg dksX1_init_1 23 rfl rfl
theorem dksX1_init_3 : cX1_init.data.toList.drop 69 = dktX1_init_3 := dk_seg dksX1_init_2 22 rfl rfl
theorem dksX1_init_4 : cX1_init.data.toList.drop 91 = dktX1_init_4 := dk_seg dksX1_init_3 22 rfl rfl
theorem dksX1_init_5 : cX1_init.data.toList.drop 115 = dktX1_init_5 := dk_seg dksX1_init_4 24 rfl rfl
theorem dksX1_init_6 : cX1_init.data.toList.drop 139 = dktX1_init_6 := dk_seg dksX1_init_5 24 rfl rfl
theorem dksX1_init_7 : cX1_init.data.toList.drop 162 = dktX1_init_7 := dk_seg dksX1_init_6 23 rfl rfl
theorem dksX1_init_8 : cX1_init.data.toList.drop 185 = dktX1_init_8 := dk_seg dksX1_init_7 23 rfl rfl
theorem dksX1_init_9 : cX1_init.data.toList.drop 209 = dktX1_init_9 := dk_seg dksX1_init_8 24 rfl rfl
theorem dksX1_init_10 : cX1_init.data.toList.drop 233 = dktX1_init_10 := dk_seg dksX1_init_9 24 rfl rfl
theorem dksX1_init_11 : cX1_init.data.toList.drop 257 = dktX1_init_11 := dk_seg dksX1_init_10 24 rfl rfl
theorem dksX1_init_12 : cX1_init.data.toList.drop 280 = dktX1_init_12 := dk_seg dksX1_init_11 23 rfl rfl
theorem dksX1_init_13 : cX1_init.data.toList.drop 304 = dktX1_init_13 := dk_seg dksX1_init_12 24 rfl rfl
theorem dX1_init_0 : decode cX1_init 0 = .ok (.aload_n 0, 1) := dk_42 (dk_at dksX1_init_0 0 rfl rfl)
theorem dX1_init_1 : decode cX1_init 1 = .ok (.invokespecial 31, 3) := dk_183 0 31 (dk_at dksX1_init_0 1 rfl rfl)
theorem dX1_init_4 : decode cX1_init 4 = .ok (.aload_n 0, 1) := dk_42 (dk_at dksX1_init_0 4 rfl rfl)
theorem dX1_init_5 : decode cX1_init 5 = .ok (.sipush 400, 3) := dk_17 1 144 (dk_at dksX1_init_0 5 rfl rfl)
theorem dX1_init_8 : decode cX1_init 8 = .ok (.newarray .byte, 2) := dk_188_8 (dk_at dksX1_init_0 8 rfl rfl)
theorem dX1_init_10 : decode cX1_init 10 = .ok (.putfield 37, 3) := dk_181 0 37 (dk_at dksX1_init_0 10 rfl rfl)
theorem dX1_init_13 : decode cX1_init 13 = .ok (.aload_n 0, 1) := dk_42 (dk_at dksX1_init_0 13 rfl rfl)
theorem dX1_init_14 : decode cX1_init 14 = .ok (.new 41, 3) := dk_187 0 41 (dk_at dksX1_init_0 14 rfl rfl)
theorem dX1_init_17 : decode cX1_init 17 = .ok (.dup, 1) := dk_89 (dk_at dksX1_init_0 17 rfl rfl)
theorem dX1_init_18 : decode cX1_init 18 = .ok (.invokespecial 43, 3) := dk_183 0 43 (dk_at dksX1_init_0 18 rfl rfl)
theorem dX1_init_21 : decode cX1_init 21 = .ok (.putfield 44, 3) := dk_181 0 44 (dk_at dksX1_init_0 21 rfl rfl)
theorem dX1_init_24 : decode cX1_init 24 = .ok (.aload_n 0, 1) := dk_42 (dk_at dksX1_init_1 0 rfl rfl)
theorem dX1_init_25 : decode cX1_init 25 = .ok (.new 41, 3) := dk_187 0 41 (dk_at dksX1_init_1 1 rfl rfl)
theorem dX1_init_28 : decode cX1_init 28 = .ok (.dup, 1) := dk_89 (dk_at dksX1_init_1 4 rfl rfl)
theorem dX1_init_29 : decode cX1_init 29 = .ok (.invokespecial 43, 3) := dk_183 0 43 (dk_at dksX1_init_1 5 rfl rfl)
theorem dX1_init_32 : decode cX1_init 32 = .ok (.putfield 48, 3) := dk_181 0 48 (dk_at dksX1_init_1 8 rfl rfl)
theorem dX1_init_35 : decode cX1_init 35 = .ok (.aload_n 0, 1) := dk_42 (dk_at dksX1_init_1 11 rfl rfl)
theorem dX1_init_36 : decode cX1_init 36 = .ok (.new 41, 3) := dk_187 0 41 (dk_at dksX1_init_1 12 rfl rfl)
theorem dX1_init_39 : decode cX1_init 39 = .ok (.dup, 1) := dk_89 (dk_at dksX1_init_1 15 rfl rfl)
theorem dX1_init_40 : decode cX1_init 40 = .ok (.invokespecial 43, 3) := dk_183 0 43 (dk_at dksX1_init_1 16 rfl rfl)
theorem dX1_init_43 : decode cX1_init 43 = .ok (.putfield 51, 3) := dk_181 0 51 (dk_at dksX1_init_1 19 rfl rfl)
theorem dX1_init_46 : decode cX1_init 46 = .ok (.aload_n 0, 1) := dk_42 (dk_at dksX1_init_1 22 rfl rfl)
theorem dX1_init_47 : decode cX1_init 47 = .ok (.new 54, 3) := dk_187 0 54 (dk_at dksX1_init_2 0 rfl rfl)
theorem dX1_init_50 : decode cX1_init 50 = .ok (.dup, 1) := dk_89 (dk_at dksX1_init_2 3 rfl rfl)
theorem dX1_init_51 : decode cX1_init 51 = .ok (.invokespecial 56, 3) := dk_183 0 56 (dk_at dksX1_init_2 4 rfl rfl)
theorem dX1_init_54 : decode cX1_init 54 = .ok (.putfield 57, 3) := dk_181 0 57 (dk_at dksX1_init_2 7 rfl rfl)
theorem dX1_init_57 : decode cX1_init 57 = .ok (.aload_n 0, 1) := dk_42 (dk_at dksX1_init_2 10 rfl rfl)
theorem dX1_init_58 : decode cX1_init 58 = .ok (.new 61, 3) := dk_187 0 61 (dk_at dksX1_init_2 11 rfl rfl)
theorem dX1_init_61 : decode cX1_init 61 = .ok (.dup, 1) := dk_89 (dk_at dksX1_init_2 14 rfl rfl)
theorem dX1_init_62 : decode cX1_init 62 = .ok (.invokespecial 63, 3) := dk_183 0 63 (dk_at dksX1_init_2 15 rfl rfl)
theorem dX1_init_65 : decode cX1_init 65 = .ok (.putfield 64, 3) := dk_181 0 64 (dk_at dksX1_init_2 18 rfl rfl)
theorem dX1_init_68 : decode cX1_init 68 = .ok (.aload_n 0, 1) := dk_42 (dk_at dksX1_init_2 21 rfl rfl)
theorem dX1_init_69 : decode cX1_init 69 = .ok (.new 68, 3) := dk_187 0 68 (dk_at dksX1_init_3 0 rfl rfl)
theorem dX1_init_72 : decode cX1_init 72 = .ok (.dup, 1) := dk_89 (dk_at dksX1_init_3 3 rfl rfl)
theorem dX1_init_73 : decode cX1_init 73 = .ok (.invokespecial 70, 3) := dk_183 0 70 (dk_at dksX1_init_3 4 rfl rfl)
theorem dX1_init_76 : decode cX1_init 76 = .ok (.putfield 71, 3) := dk_181 0 71 (dk_at dksX1_init_3 7 rfl rfl)
theorem dX1_init_79 : decode cX1_init 79 = .ok (.aload_n 0, 1) := dk_42 (dk_at dksX1_init_3 10 rfl rfl)
theorem dX1_init_80 : decode cX1_init 80 = .ok (.new 68, 3) := dk_187 0 68 (dk_at dksX1_init_3 11 rfl rfl)
theorem dX1_init_83 : decode cX1_init 83 = .ok (.dup, 1) := dk_89 (dk_at dksX1_init_3 14 rfl rfl)
theorem dX1_init_84 : decode cX1_init 84 = .ok (.invokespecial 70, 3) := dk_183 0 70 (dk_at dksX1_init_3 15 rfl rfl)
theorem dX1_init_87 : decode cX1_init 87 = .ok (.putfield 75, 3) := dk_181 0 75 (dk_at dksX1_init_3 18 rfl rfl)
theorem dX1_init_90 : decode cX1_init 90 = .ok (.aload_n 0, 1) := dk_42 (dk_at dksX1_init_3 21 rfl rfl)
theorem dX1_init_91 : decode cX1_init 91 = .ok (.new 68, 3) := dk_187 0 68 (dk_at dksX1_init_4 0 rfl rfl)
theorem dX1_init_94 : decode cX1_init 94 = .ok (.dup, 1) := dk_89 (dk_at dksX1_init_4 3 rfl rfl)
theorem dX1_init_95 : decode cX1_init 95 = .ok (.invokespecial 70, 3) := dk_183 0 70 (dk_at dksX1_init_4 4 rfl rfl)
theorem dX1_init_98 : decode cX1_init 98 = .ok (.putfield 78, 3) := dk_181 0 78 (dk_at dksX1_init_4 7 rfl rfl)
theorem dX1_init_101 : decode cX1_init 101 = .ok (.aload_n 0, 1) := dk_42 (dk_at dksX1_init_4 10 rfl rfl)
theorem dX1_init_102 : decode cX1_init 102 = .ok (.new 68, 3) := dk_187 0 68 (dk_at dksX1_init_4 11 rfl rfl)
theorem dX1_init_105 : decode cX1_init 105 = .ok (.dup, 1) := dk_89 (dk_at dksX1_init_4 14 rfl rfl)
theorem dX1_init_106 : decode cX1_init 106 = .ok (.invokespecial 70, 3) := dk_183 0 70 (dk_at dksX1_init_4 15 rfl rfl)
theorem dX1_init_109 : decode cX1_init 109 = .ok (.putfield 81, 3) := dk_181 0 81 (dk_at dksX1_init_4 18 rfl rfl)
theorem dX1_init_112 : decode cX1_init 112 = .ok (.aload_n 0, 1) := dk_42 (dk_at dksX1_init_4 21 rfl rfl)
theorem dX1_init_113 : decode cX1_init 113 = .ok (.bipush 10, 2) := dk_16 10 (dk_at dksX1_init_4 22 rfl rfl)
theorem dX1_init_115 : decode cX1_init 115 = .ok (.newarray .int, 2) := dk_188_10 (dk_at dksX1_init_5 0 rfl rfl)
theorem dX1_init_117 : decode cX1_init 117 = .ok (.putfield 84, 3) := dk_181 0 84 (dk_at dksX1_init_5 2 rfl rfl)
theorem dX1_init_120 : decode cX1_init 120 = .ok (.aload_n 0, 1) := dk_42 (dk_at dksX1_init_5 5 rfl rfl)
theorem dX1_init_121 : decode cX1_init 121 = .ok (.bipush 10, 2) := dk_16 10 (dk_at dksX1_init_5 6 rfl rfl)
theorem dX1_init_123 : decode cX1_init 123 = .ok (.newarray .int, 2) := dk_188_10 (dk_at dksX1_init_5 8 rfl rfl)
theorem dX1_init_125 : decode cX1_init 125 = .ok (.putfield 88, 3) := dk_181 0 88 (dk_at dksX1_init_5 10 rfl rfl)
theorem dX1_init_128 : decode cX1_init 128 = .ok (.aload_n 0, 1) := dk_42 (dk_at dksX1_init_5 13 rfl rfl)
theorem dX1_init_129 : decode cX1_init 129 = .ok (.bipush 10, 2) := dk_16 10 (dk_at dksX1_init_5 14 rfl rfl)
theorem dX1_init_131 : decode cX1_init 131 = .ok (.newarray .int, 2) := dk_188_10 (dk_at dksX1_init_5 16 rfl rfl)
theorem dX1_init_133 : decode cX1_init 133 = .ok (.putfield 91, 3) := dk_181 0 91 (dk_at dksX1_init_5 18 rfl rfl)
theorem dX1_init_136 : decode cX1_init 136 = .ok (.aload_n 0, 1) := dk_42 (dk_at dksX1_init_5 21 rfl rfl)
theorem dX1_init_137 : decode cX1_init 137 = .ok (.bipush 10, 2) := dk_16 10 (dk_at dksX1_init_5 22 rfl rfl)
theorem dX1_init_139 : decode cX1_init 139 = .ok (.newarray .int, 2) := dk_188_10 (dk_at dksX1_init_6 0 rfl rfl)
theorem dX1_init_141 : decode cX1_init 141 = .ok (.putfield 94, 3) := dk_181 0 94 (dk_at dksX1_init_6 2 rfl rfl)
theorem dX1_init_144 : decode cX1_init 144 = .ok (.aload_n 0, 1) := dk_42 (dk_at dksX1_init_6 5 rfl rfl)
theorem dX1_init_145 : decode cX1_init 145 = .ok (.bipush 12, 2) := dk_16 12 (dk_at dksX1_init_6 6 rfl rfl)
theorem dX1_init_147 : decode cX1_init 147 = .ok (.newarray .int, 2) := dk_188_10 (dk_at dksX1_init_6 8 rfl rfl)
theorem dX1_init_149 : decode cX1_init 149 = .ok (.putfield 97, 3) := dk_181 0 97 (dk_at dksX1_init_6 10 rfl rfl)
theorem dX1_init_152 : decode cX1_init 152 = .ok (.aload_n 0, 1) := dk_42 (dk_at dksX1_init_6 13 rfl rfl)
theorem dX1_init_153 : decode cX1_init 153 = .ok (.iconst 2, 1) := dk_5 (dk_at dksX1_init_6 14 rfl rfl)
theorem dX1_init_154 : decode cX1_init 154 = .ok (.newarray .int, 2) := dk_188_10 (dk_at dksX1_init_6 15 rfl rfl)
theorem dX1_init_156 : decode cX1_init 156 = .ok (.putfield 100, 3) := dk_181 0 100 (dk_at dksX1_init_6 17 rfl rfl)
theorem dX1_init_159 : decode cX1_init 159 = .ok (.aload_n 0, 1) := dk_42 (dk_at dksX1_init_6 20 rfl rfl)
theorem dX1_init_160 : decode cX1_init 160 = .ok (.bipush 64, 2) := dk_16 64 (dk_at dksX1_init_6 21 rfl rfl)
theorem dX1_init_162 : decode cX1_init 162 = .ok (.newarray .int, 2) := dk_188_10 (dk_at dksX1_init_7 0 rfl rfl)
theorem dX1_init_164 : decode cX1_init 164 = .ok (.putfield 103, 3) := dk_181 0 103 (dk_at dksX1_init_7 2 rfl rfl)
theorem dX1_init_167 : decode cX1_init 167 = .ok (.aload_n 0, 1) := dk_42 (dk_at dksX1_init_7 5 rfl rfl)
theorem dX1_init_168 : decode cX1_init 168 = .ok (.bipush 60, 2) := dk_16 60 (dk_at dksX1_init_7 6 rfl rfl)
theorem dX1_init_170 : decode cX1_init 170 = .ok (.newarray .int, 2) := dk_188_10 (dk_at dksX1_init_7 8 rfl rfl)
theorem dX1_init_172 : decode cX1_init 172 = .ok (.putfield 106, 3) := dk_181 0 106 (dk_at dksX1_init_7 10 rfl rfl)
theorem dX1_init_175 : decode cX1_init 175 = .ok (.aload_n 0, 1) := dk_42 (dk_at dksX1_init_7 13 rfl rfl)
theorem dX1_init_176 : decode cX1_init 176 = .ok (.bipush 60, 2) := dk_16 60 (dk_at dksX1_init_7 14 rfl rfl)
theorem dX1_init_178 : decode cX1_init 178 = .ok (.newarray .int, 2) := dk_188_10 (dk_at dksX1_init_7 16 rfl rfl)
theorem dX1_init_180 : decode cX1_init 180 = .ok (.putfield 109, 3) := dk_181 0 109 (dk_at dksX1_init_7 18 rfl rfl)
theorem dX1_init_183 : decode cX1_init 183 = .ok (.aload_n 0, 1) := dk_42 (dk_at dksX1_init_7 21 rfl rfl)
theorem dX1_init_184 : decode cX1_init 184 = .ok (.iconst 5, 1) := dk_8 (dk_at dksX1_init_7 22 rfl rfl)
theorem dX1_init_185 : decode cX1_init 185 = .ok (.newarray .int, 2) := dk_188_10 (dk_at dksX1_init_8 0 rfl rfl)
theorem dX1_init_187 : decode cX1_init 187 = .ok (.putfield 112, 3) := dk_181 0 112 (dk_at dksX1_init_8 2 rfl rfl)
theorem dX1_init_190 : decode cX1_init 190 = .ok (.aload_n 0, 1) := dk_42 (dk_at dksX1_init_8 5 rfl rfl)
theorem dX1_init_191 : decode cX1_init 191 = .ok (.bipush 64, 2) := dk_16 64 (dk_at dksX1_init_8 6 rfl rfl)
theorem dX1_init_193 : decode cX1_init 193 = .ok (.newarray .int, 2) := dk_188_10 (dk_at dksX1_init_8 8 rfl rfl)
theorem dX1_init_195 : decode cX1_init 195 = .ok (.putfield 115, 3) := dk_181 0 115 (dk_at dksX1_init_8 10 rfl rfl)
theorem dX1_init_198 : decode cX1_init 198 = .ok (.aload_n 0, 1) := dk_42 (dk_at dksX1_init_8 13 rfl rfl)
theorem dX1_init_199 : decode cX1_init 199 = .ok (.bipush 10, 2) := dk_16 10 (dk_at dksX1_init_8 14 rfl rfl)
theorem dX1_init_201 : decode cX1_init 201 = .ok (.newarray .int, 2) := dk_188_10 (dk_at dksX1_init_8 16 rfl rfl)
theorem dX1_init_203 : decode cX1_init 203 = .ok (.putfield 118, 3) := dk_181 0 118 (dk_at dksX1_init_8 18 rfl rfl)
theorem dX1_init_206 : decode cX1_init 206 = .ok (.aload_n 0, 1) := dk_42 (dk_at dksX1_init_8 21 rfl rfl)
theorem dX1_init_207 : decode cX1_init 207 = .ok (.bipush 10, 2) := dk_16 10 (dk_at dksX1_init_8 22 rfl rfl)
theorem dX1_init_209 : decode cX1_init 209 = .ok (.newarray .int, 2) := dk_188_10 (dk_at dksX1_init_9 0 rfl rfl)
theorem dX1_init_211 : decode cX1_init 211 = .ok (.putfield 121, 3) := dk_181 0 121 (dk_at dksX1_init_9 2 rfl rfl)
theorem dX1_init_214 : decode cX1_init 214 = .ok (.aload_n 0, 1) := dk_42 (dk_at dksX1_init_9 5 rfl rfl)
theorem dX1_init_215 : decode cX1_init 215 = .ok (.bipush 10, 2) := dk_16 10 (dk_at dksX1_init_9 6 rfl rfl)
theorem dX1_init_217 : decode cX1_init 217 = .ok (.newarray .int, 2) := dk_188_10 (dk_at dksX1_init_9 8 rfl rfl)
theorem dX1_init_219 : decode cX1_init 219 = .ok (.putfield 124, 3) := dk_181 0 124 (dk_at dksX1_init_9 10 rfl rfl)
theorem dX1_init_222 : decode cX1_init 222 = .ok (.aload_n 0, 1) := dk_42 (dk_at dksX1_init_9 13 rfl rfl)
theorem dX1_init_223 : decode cX1_init 223 = .ok (.bipush 10, 2) := dk_16 10 (dk_at dksX1_init_9 14 rfl rfl)
theorem dX1_init_225 : decode cX1_init 225 = .ok (.newarray .int, 2) := dk_188_10 (dk_at dksX1_init_9 16 rfl rfl)
theorem dX1_init_227 : decode cX1_init 227 = .ok (.putfield 127, 3) := dk_181 0 127 (dk_at dksX1_init_9 18 rfl rfl)
theorem dX1_init_230 : decode cX1_init 230 = .ok (.aload_n 0, 1) := dk_42 (dk_at dksX1_init_9 21 rfl rfl)
theorem dX1_init_231 : decode cX1_init 231 = .ok (.bipush 10, 2) := dk_16 10 (dk_at dksX1_init_9 22 rfl rfl)
theorem dX1_init_233 : decode cX1_init 233 = .ok (.newarray .boolean, 2) := dk_188_4 (dk_at dksX1_init_10 0 rfl rfl)
theorem dX1_init_235 : decode cX1_init 235 = .ok (.putfield 130, 3) := dk_181 0 130 (dk_at dksX1_init_10 2 rfl rfl)
theorem dX1_init_238 : decode cX1_init 238 = .ok (.aload_n 0, 1) := dk_42 (dk_at dksX1_init_10 5 rfl rfl)
theorem dX1_init_239 : decode cX1_init 239 = .ok (.bipush 10, 2) := dk_16 10 (dk_at dksX1_init_10 6 rfl rfl)
theorem dX1_init_241 : decode cX1_init 241 = .ok (.newarray .boolean, 2) := dk_188_4 (dk_at dksX1_init_10 8 rfl rfl)
theorem dX1_init_243 : decode cX1_init 243 = .ok (.putfield 134, 3) := dk_181 0 134 (dk_at dksX1_init_10 10 rfl rfl)
theorem dX1_init_246 : decode cX1_init 246 = .ok (.aload_n 0, 1) := dk_42 (dk_at dksX1_init_10 13 rfl rfl)
theorem dX1_init_247 : decode cX1_init 247 = .ok (.bipush 64, 2) := dk_16 64 (dk_at dksX1_init_10 14 rfl rfl)
theorem dX1_init_249 : decode cX1_init 249 = .ok (.newarray .boolean, 2) := dk_188_4 (dk_at dksX1_init_10 16 rfl rfl)
theorem dX1_init_251 : decode cX1_init 251 = .ok (.putfield 137, 3) := dk_181 0 137 (dk_at dksX1_init_10 18 rfl rfl)
theorem dX1_init_254 : decode cX1_init 254 = .ok (.aload_n 0, 1) := dk_42 (dk_at dksX1_init_10 21 rfl rfl)
theorem dX1_init_255 : decode cX1_init 255 = .ok (.bipush 64, 2) := dk_16 64 (dk_at dksX1_init_10 22 rfl rfl)
theorem dX1_init_257 : decode cX1_init 257 = .ok (.newarray .boolean, 2) := dk_188_4 (dk_at dksX1_init_11 0 rfl rfl)
theorem dX1_init_259 : decode cX1_init 259 = .ok (.putfield 140, 3) := dk_181 0 140 (dk_at dksX1_init_11 2 rfl rfl)
theorem dX1_init_262 : decode cX1_init 262 = .ok (.aload_n 0, 1) := dk_42 (dk_at dksX1_init_11 5 rfl rfl)
theorem dX1_init_263 : decode cX1_init 263 = .ok (.bipush 64, 2) := dk_16 64 (dk_at dksX1_init_11 6 rfl rfl)
theorem dX1_init_265 : decode cX1_init 265 = .ok (.newarray .boolean, 2) := dk_188_4 (dk_at dksX1_init_11 8 rfl rfl)
theorem dX1_init_267 : decode cX1_init 267 = .ok (.putfield 143, 3) := dk_181 0 143 (dk_at dksX1_init_11 10 rfl rfl)
theorem dX1_init_270 : decode cX1_init 270 = .ok (.aload_n 0, 1) := dk_42 (dk_at dksX1_init_11 13 rfl rfl)
theorem dX1_init_271 : decode cX1_init 271 = .ok (.bipush 10, 2) := dk_16 10 (dk_at dksX1_init_11 14 rfl rfl)
theorem dX1_init_273 : decode cX1_init 273 = .ok (.sipush 1000, 3) := dk_17 3 232 (dk_at dksX1_init_11 16 rfl rfl)
theorem dX1_init_276 : decode cX1_init 276 = .ok (.multianewarray 146 2, 4) := by decide +kernel
theorem dX1_init_280 : decode cX1_init 280 = .ok (.putfield 148, 3) := dk_181 0 148 (dk_at dksX1_init_12 0 rfl rfl)
theorem dX1_init_283 : decode cX1_init 283 = .ok (.aload_n 0, 1) := dk_42 (dk_at dksX1_init_12 3 rfl rfl)
theorem dX1_init_284 : decode cX1_init 284 = .ok (.new 151, 3) := dk_187 0 151 (dk_at dksX1_init_12 4 rfl rfl)
theorem dX1_init_287 : decode cX1_init 287 = .ok (.dup, 1) := dk_89 (dk_at dksX1_init_12 7 rfl rfl)
theorem dX1_init_288 : decode cX1_init 288 = .ok (.aload_n 0, 1) := dk_42 (dk_at dksX1_init_12 8 rfl rfl)
theorem dX1_init_289 : decode cX1_init 289 = .ok (.iconst 0, 1) := dk_3 (dk_at dksX1_init_12 9 rfl rfl)
theorem dX1_init_290 : decode cX1_init 290 = .ok (.invokespecial 153, 3) := dk_183 0 153 (dk_at dksX1_init_12 10 rfl rfl)
theorem dX1_init_293 : decode cX1_init 293 = .ok (.putfield 156, 3) := dk_181 0 156 (dk_at dksX1_init_12 13 rfl rfl)
theorem dX1_init_296 : decode cX1_init 296 = .ok (.iconst 0, 1) := dk_3 (dk_at dksX1_init_12 16 rfl rfl)
theorem dX1_init_297 : decode cX1_init 297 = .ok (.istore_n 1, 1) := dk_60 (dk_at dksX1_init_12 17 rfl rfl)
theorem dX1_init_298 : decode cX1_init 298 = .ok (.iload_n 1, 1) := dk_27 (dk_at dksX1_init_12 18 rfl rfl)
theorem dX1_init_299 : decode cX1_init 299 = .ok (.bipush 64, 2) := dk_16 64 (dk_at dksX1_init_12 19 rfl rfl)
theorem dX1_init_301 : decode cX1_init 301 = .ok (.if_icmp .ge 16, 3) := dk_162 0 16 (dk_at dksX1_init_12 21 rfl rfl)
theorem dX1_init_304 : decode cX1_init 304 = .ok (.aload_n 0, 1) := dk_42 (dk_at dksX1_init_13 0 rfl rfl)
theorem dX1_init_305 : decode cX1_init 305 = .ok (.getfield 103, 3) := dk_180 0 103 (dk_at dksX1_init_13 1 rfl rfl)
theorem dX1_init_308 : decode cX1_init 308 = .ok (.iload_n 1, 1) := dk_27 (dk_at dksX1_init_13 4 rfl rfl)
theorem dX1_init_309 : decode cX1_init 309 = .ok (.iconst 1, 1) := dk_4 (dk_at dksX1_init_13 5 rfl rfl)
theorem dX1_init_310 : decode cX1_init 310 = .ok (.iastore, 1) := dk_79 (dk_at dksX1_init_13 6 rfl rfl)
theorem dX1_init_311 : decode cX1_init 311 = .ok (.iinc 1 1, 3) := dk_132 1 1 (dk_at dksX1_init_13 7 rfl rfl)
theorem dX1_init_314 : decode cX1_init 314 = .ok (.goto (-16), 3) := dk_167 255 240 (dk_at dksX1_init_13 10 rfl rfl)
theorem dX1_init_317 : decode cX1_init 317 = .ok (.return_, 1) := dk_177 (dk_at dksX1_init_13 13 rfl rfl)
def dkwX1_feed_4 : List UInt8 := [122, 145, 84, 132, 11, 248, 167, 255, 226, 132, 9, 1, 167, 255, 202, 42, 180, 0, 243, 172]
abbrev dktX1_feed_4 : List UInt8 := dkwX1_feed_4 ++ []
def dkwX1_feed_3 : List UInt8 := [21, 11, 155, 0, 31, 42, 180, 0, 37, 42, 89, 180, 0, 243, 90, 4, 96, 181, 0, 243, 21, 10, 21, 11]
abbrev dktX1_feed_3 : List UInt8 := dkwX1_feed_3 ++ dktX1_feed_4
def dkwX1_feed_2 : List UInt8 := [190, 54, 8, 3, 54, 9, 21, 9, 21, 8, 162, 0, 53, 25, 7, 21, 9, 46, 54, 10, 16, 24, 54, 11]
abbrev dktX1_feed_2 : List UInt8 := dkwX1_feed_2 ++ dktX1_feed_3
def dkwX1_feed_1 : List UInt8 := [28, 79, 89, 5, 29, 79, 89, 6, 21, 4, 79, 89, 7, 21, 5, 79, 58, 6, 25, 6, 58, 7, 25, 7]
abbrev dktX1_feed_1 : List UInt8 := dkwX1_feed_1 ++ dktX1_feed_2
def dkwX1_feed_0 : List UInt8 := [42, 180, 0, 243, 16, 20, 96, 17, 1, 144, 164, 0, 5, 2, 172, 8, 188, 10, 89, 3, 27, 79, 89, 4]
abbrev dktX1_feed_0 : List UInt8 := dkwX1_feed_0 ++ dktX1_feed_1
theorem dksX1_feed_0 : cX1_feed.data.toList.drop 0 = dktX1_feed_0 := by decide +kernel
theorem dksX1_feed_1 : cX1_feed.data.toList.drop 24 = dktX1_feed_1 := dk_seg dksX1_feed_0 24 rfl rfl
theorem dksX1_feed_2 : cX1_feed.data.toList.drop 48 = dktX1_feed_2 := dk_seg dksX1_feed_1 24 rfl rfl
theorem dksX1_feed_3 : cX1_feed.data.toList.drop 72 = dktX1_feed_3 := dk_seg dksX1_feed_2 24 rfl rfl
theorem dksX1_feed_4 : cX1_feed.data.toList.drop 96 = dktX1_feed_4 := dk_seg dksX1_feed_3 24 rfl rfl
theorem dX1_feed_0 : decode cX1_feed 0 = .ok (.aload_n 0, 1) := dk_42 (dk_at dksX1_feed_0 0 rfl rfl)
theorem dX1_feed_1 : decode cX1_feed 1 = .ok (.getfield 243, 3) := dk_180 0 243 (dk_at dksX1_feed_0 1 rfl rfl)
theorem dX1_feed_4 : decode cX1_feed 4 = .ok (.bipush 20, 2) := dk_16 20 (dk_at dksX1_feed_0 4 rfl rfl)
theorem dX1_feed_6 : decode cX1_feed 6 = .ok (.iadd, 1) := dk_96 (dk_at dksX1_feed_0 6 rfl rfl)
theorem dX1_feed_7 : decode cX1_feed 7 = .ok (.sipush 400, 3) := dk_17 1 144 (dk_at dksX1_feed_0 7 rfl rfl)
theorem dX1_feed_10 : decode cX1_feed 10 = .ok (.if_icmp .le 5, 3) := dk_164 0 5 (dk_at dksX1_feed_0 10 rfl rfl)
theorem dX1_feed_13 : decode cX1_feed 13 = .ok (.iconst (-1), 1) := dk_2 (dk_at dksX1_feed_0 13 rfl rfl)
theorem dX1_feed_14 : decode cX1_feed 14 = .ok (.ireturn, 1) := dk_172 (dk_at dksX1_feed_0 14 rfl rfl)
theorem dX1_feed_15 : decode cX1_feed 15 = .ok (.iconst 5, 1) := dk_8 (dk_at dksX1_feed_0 15 rfl rfl)
theorem dX1_feed_16 : decode cX1_feed 16 = .ok (.newarray .int, 2) := dk_188_10 (dk_at dksX1_feed_0 16 rfl rfl)
theorem dX1_feed_18 : decode cX1_feed 18 = .ok (.dup, 1) := dk_89 (dk_at dksX1_feed_0 18 rfl rfl)
theorem dX1_feed_19 : decode cX1_feed 19 = .ok (.iconst 0, 1) := dk_3 (dk_at dksX1_feed_0 19 rfl rfl)
theorem dX1_feed_20 : decode cX1_feed 20 = .ok (.iload_n 1, 1) := dk_27 (dk_at dksX1_feed_0 20 rfl rfl)
theorem dX1_feed_21 : decode cX1_feed 21 = .ok (.iastore, 1) := dk_79 (dk_at dksX1_feed_0 21 rfl rfl)
theorem dX1_feed_22 : decode cX1_feed 22 = .ok (.dup, 1) := dk_89 (dk_at dksX1_feed_0 22 rfl rfl)
theorem dX1_feed_23 : decode cX1_feed 23 = .ok (.iconst 1, 1) := dk_4 (dk_at dksX1_feed_0 23 rfl rfl)
theorem dX1_feed_24 : decode cX1_feed 24 = .ok (.iload_n 2, 1) := dk_28 (dk_at dksX1_feed_1 0 rfl rfl)
theorem dX1_feed_25 : decode cX1_feed 25 = .ok (.iastore, 1) := dk_79 (dk_at dksX1_feed_1 1 rfl rfl)
theorem dX1_feed_26 : decode cX1_feed 26 = .ok (.dup, 1) := dk_89 (dk_at dksX1_feed_1 2 rfl rfl)
theorem dX1_feed_27 : decode cX1_feed 27 = .ok (.iconst 2, 1) := dk_5 (dk_at dksX1_feed_1 3 rfl rfl)
theorem dX1_feed_28 : decode cX1_feed 28 = .ok (.iload_n 3, 1) := dk_29 (dk_at dksX1_feed_1 4 rfl rfl)
theorem dX1_feed_29 : decode cX1_feed 29 = .ok (.iastore, 1) := dk_79 (dk_at dksX1_feed_1 5 rfl rfl)
theorem dX1_feed_30 : decode cX1_feed 30 = .ok (.dup, 1) := dk_89 (dk_at dksX1_feed_1 6 rfl rfl)
theorem dX1_feed_31 : decode cX1_feed 31 = .ok (.iconst 3, 1) := dk_6 (dk_at dksX1_feed_1 7 rfl rfl)
theorem dX1_feed_32 : decode cX1_feed 32 = .ok (.iload 4, 2) := dk_21 4 (dk_at dksX1_feed_1 8 rfl rfl)
theorem dX1_feed_34 : decode cX1_feed 34 = .ok (.iastore, 1) := dk_79 (dk_at dksX1_feed_1 10 rfl rfl)
theorem dX1_feed_35 : decode cX1_feed 35 = .ok (.dup, 1) := dk_89 (dk_at dksX1_feed_1 11 rfl rfl)
theorem dX1_feed_36 : decode cX1_feed 36 = .ok (.iconst 4, 1) := dk_7 (dk_at dksX1_feed_1 12 rfl rfl)
theorem dX1_feed_37 : decode cX1_feed 37 = .ok (.iload 5, 2) := dk_21 5 (dk_at dksX1_feed_1 13 rfl rfl)
theorem dX1_feed_39 : decode cX1_feed 39 = .ok (.iastore, 1) := dk_79 (dk_at dksX1_feed_1 15 rfl rfl)
theorem dX1_feed_40 : decode cX1_feed 40 = .ok (.astore 6, 2) := dk_58 6 (dk_at dksX1_feed_1 16 rfl rfl)
theorem dX1_feed_42 : decode cX1_feed 42 = .ok (.aload 6, 2) := dk_25 6 (dk_at dksX1_feed_1 18 rfl rfl)
theorem dX1_feed_44 : decode cX1_feed 44 = .ok (.astore 7, 2) := dk_58 7 (dk_at dksX1_feed_1 20 rfl rfl)
theorem dX1_feed_46 : decode cX1_feed 46 = .ok (.aload 7, 2) := dk_25 7 (dk_at dksX1_feed_1 22 rfl rfl)
theorem dX1_feed_48 : decode cX1_feed 48 = .ok (.arraylength, 1) := dk_190 (dk_at dksX1_feed_2 0 rfl rfl)
theorem dX1_feed_49 : decode cX1_feed 49 = .ok (.istore 8, 2) := dk_54 8 (dk_at dksX1_feed_2 1 rfl rfl)
theorem dX1_feed_51 : decode cX1_feed 51 = .ok (.iconst 0, 1) := dk_3 (dk_at dksX1_feed_2 3 rfl rfl)
theorem dX1_feed_52 : decode cX1_feed 52 = .ok (.istore 9, 2) := dk_54 9 (dk_at dksX1_feed_2 4 rfl rfl)
theorem dX1_feed_54 : decode cX1_feed 54 = .ok (.iload 9, 2) := dk_21 9 (dk_at dksX1_feed_2 6 rfl rfl)
theorem dX1_feed_56 : decode cX1_feed 56 = .ok (.iload 8, 2) := dk_21 8 (dk_at dksX1_feed_2 8 rfl rfl)
theorem dX1_feed_58 : decode cX1_feed 58 = .ok (.if_icmp .ge 53, 3) := dk_162 0 53 (dk_at dksX1_feed_2 10 rfl rfl)
theorem dX1_feed_61 : decode cX1_feed 61 = .ok (.aload 7, 2) := dk_25 7 (dk_at dksX1_feed_2 13 rfl rfl)
theorem dX1_feed_63 : decode cX1_feed 63 = .ok (.iload 9, 2) := dk_21 9 (dk_at dksX1_feed_2 15 rfl rfl)
theorem dX1_feed_65 : decode cX1_feed 65 = .ok (.iaload, 1) := dk_46 (dk_at dksX1_feed_2 17 rfl rfl)
theorem dX1_feed_66 : decode cX1_feed 66 = .ok (.istore 10, 2) := dk_54 10 (dk_at dksX1_feed_2 18 rfl rfl)
theorem dX1_feed_68 : decode cX1_feed 68 = .ok (.bipush 24, 2) := dk_16 24 (dk_at dksX1_feed_2 20 rfl rfl)
theorem dX1_feed_70 : decode cX1_feed 70 = .ok (.istore 11, 2) := dk_54 11 (dk_at dksX1_feed_2 22 rfl rfl)
theorem dX1_feed_72 : decode cX1_feed 72 = .ok (.iload 11, 2) := dk_21 11 (dk_at dksX1_feed_3 0 rfl rfl)
theorem dX1_feed_74 : decode cX1_feed 74 = .ok (.ifCond .lt 31, 3) := dk_155 0 31 (dk_at dksX1_feed_3 2 rfl rfl)
theorem dX1_feed_77 : decode cX1_feed 77 = .ok (.aload_n 0, 1) := dk_42 (dk_at dksX1_feed_3 5 rfl rfl)
theorem dX1_feed_78 : decode cX1_feed 78 = .ok (.getfield 37, 3) := dk_180 0 37 (dk_at dksX1_feed_3 6 rfl rfl)
theorem dX1_feed_81 : decode cX1_feed 81 = .ok (.aload_n 0, 1) := dk_42 (dk_at dksX1_feed_3 9 rfl rfl)
theorem dX1_feed_82 : decode cX1_feed 82 = .ok (.dup, 1) := dk_89 (dk_at dksX1_feed_3 10 rfl rfl)
theorem dX1_feed_83 : decode cX1_feed 83 = .ok (.getfield 243, 3) := dk_180 0 243 (dk_at dksX1_feed_3 11 rfl rfl)
theorem dX1_feed_86 : decode cX1_feed 86 = .ok (.dup_x1, 1) := dk_90 (dk_at dksX1_feed_3 14 rfl rfl)
theorem dX1_feed_87 : decode cX1_feed 87 = .ok (.iconst 1, 1) := dk_4 (dk_at dksX1_feed_3 15 rfl rfl)
theorem dX1_feed_88 : decode cX1_feed 88 = .ok (.iadd, 1) := dk_96 (dk_at dksX1_feed_3 16 rfl rfl)
theorem dX1_feed_89 : decode cX1_feed 89 = .ok (.putfield 243, 3) := dk_181 0 243 (dk_at dksX1_feed_3 17 rfl rfl)
theorem dX1_feed_92 : decode cX1_feed 92 = .ok (.iload 10, 2) := dk_21 10 (dk_at dksX1_feed_3 20 rfl rfl)
theorem dX1_feed_94 : decode cX1_feed 94 = .ok (.iload 11, 2) := dk_21 11 (dk_at dksX1_feed_3 22 rfl rfl)
theorem dX1_feed_96 : decode cX1_feed 96 = .ok (.ishr, 1) := dk_122 (dk_at dksX1_feed_4 0 rfl rfl)
theorem dX1_feed_97 : decode cX1_feed 97 = .ok (.i2b, 1) := dk_145 (dk_at dksX1_feed_4 1 rfl rfl)
theorem dX1_feed_98 : decode cX1_feed 98 = .ok (.bastore, 1) := dk_84 (dk_at dksX1_feed_4 2 rfl rfl)
theorem dX1_feed_99 : decode cX1_feed 99 = .ok (.iinc 11 (-8), 3) := dk_132 11 248 (dk_at dksX1_feed_4 3 rfl rfl)
theorem dX1_feed_102 : decode cX1_feed 102 = .ok (.goto (-30), 3) := dk_167 255 226 (dk_at dksX1_feed_4 6 rfl rfl)
theorem dX1_feed_105 : decode cX1_feed 105 = .ok (.iinc 9 1, 3) := dk_132 9 1 (dk_at dksX1_feed_4 9 rfl rfl)
theorem dX1_feed_108 : decode cX1_feed 108 = .ok (.goto (-54), 3) := dk_167 255 202 (dk_at dksX1_feed_4 12 rfl rfl)
theorem dX1_feed_111 : decode cX1_feed 111 = .ok (.aload_n 0, 1) := dk_42 (dk_at dksX1_feed_4 15 rfl rfl)
theorem dX1_feed_112 : decode cX1_feed 112 = .ok (.getfield 243, 3) := dk_180 0 243 (dk_at dksX1_feed_4 16 rfl rfl)
theorem dX1_feed_115 : decode cX1_feed 115 = .ok (.ireturn, 1) := dk_172 (dk_at dksX1_feed_4 19 rfl rfl)
def dkwX1_night_12 : List UInt8 := [180, 1, 69, 4, 96, 181, 1, 69, 27, 172]
abbrev dktX1_night_12 : List UInt8 := dkwX1_night_12 ++ []
def dkwX1_night_11 : List UInt8 := [153, 0, 7, 4, 167, 0, 4, 3, 96, 79, 132, 2, 1, 167, 255, 166, 42, 3, 181, 1, 40, 42, 89]
abbrev dktX1_night_11 : List UInt8 := dkwX1_night_11 ++ dktX1_night_12
def dkwX1_night_10 : List UInt8 := [180, 0, 130, 28, 42, 28, 182, 1, 105, 84, 42, 180, 0, 94, 28, 92, 46, 42, 180, 0, 130, 28, 51]
abbrev dktX1_night_10 : List UInt8 := dkwX1_night_10 ++ dktX1_night_11
def dkwX1_night_9 : List UInt8 := [187, 1, 102, 89, 28, 42, 180, 1, 69, 42, 180, 0, 127, 28, 46, 183, 1, 104, 182, 1, 5, 87, 42]
abbrev dktX1_night_9 : List UInt8 := dkwX1_night_9 ++ dktX1_night_10
def dkwX1_night_8 : List UInt8 := [180, 0, 127, 28, 46, 158, 0, 41, 42, 180, 0, 75, 182, 0, 189, 16, 60, 162, 0, 29, 42, 180, 0, 75]
abbrev dktX1_night_8 : List UInt8 := dkwX1_night_8 ++ dktX1_night_9
def dkwX1_night_7 : List UInt8 := [92, 46, 3, 29, 184, 1, 99, 96, 79, 132, 2, 1, 167, 255, 158, 3, 61, 28, 16, 10, 162, 0, 90, 42]
abbrev dktX1_night_7 : List UInt8 := dkwX1_night_7 ++ dktX1_night_8
def dkwX1_night_6 : List UInt8 := [21, 4, 46, 42, 180, 0, 124, 21, 4, 46, 100, 96, 62, 132, 4, 1, 167, 255, 213, 42, 180, 0, 100, 28]
abbrev dktX1_night_6 : List UInt8 := dkwX1_night_6 ++ dktX1_night_7
def dkwX1_night_5 : List UInt8 := [162, 0, 42, 29, 42, 180, 0, 84, 21, 4, 46, 28, 160, 0, 7, 3, 167, 0, 18, 42, 180, 0, 127]
abbrev dktX1_night_5 : List UInt8 := dkwX1_night_5 ++ dktX1_night_6
def dkwX1_night_4 : List UInt8 := [180, 0, 48, 28, 182, 1, 96, 42, 4, 182, 1, 87, 87, 3, 62, 3, 54, 4, 21, 4, 16, 10]
abbrev dktX1_night_4 : List UInt8 := dkwX1_night_4 ++ dktX1_night_5
def dkwX1_night_3 : List UInt8 := [182, 1, 79, 3, 61, 28, 5, 162, 0, 99, 42, 180, 0, 48, 42, 180, 0, 51, 182, 1, 85, 42]
abbrev dktX1_night_3 : List UInt8 := dkwX1_night_3 ++ dktX1_night_4
def dkwX1_night_2 : List UInt8 := [42, 42, 180, 0, 44, 42, 180, 1, 69, 182, 1, 72, 60, 42, 180, 0, 44, 42, 180, 0, 156, 180, 1, 76]
abbrev dktX1_night_2 : List UInt8 := dkwX1_night_2 ++ dktX1_night_3
def dkwX1_night_1 : List UInt8 := [162, 0, 16, 42, 180, 0, 121, 27, 3, 79, 132, 1, 1, 167, 255, 240, 42, 42, 180, 0, 44, 182, 1, 65]
abbrev dktX1_night_1 : List UInt8 := dkwX1_night_1 ++ dktX1_night_2
def dkwX1_night_0 : List UInt8 := [42, 180, 0, 51, 42, 180, 0, 44, 182, 1, 85, 42, 42, 180, 0, 127, 181, 0, 121, 3, 60, 27, 16, 10]
abbrev dktX1_night_0 : List UInt8 := dkwX1_night_0 ++ dktX1_night_1
theorem dksX1_night_0 : cX1_night.data.toList.drop 0 = dktX1_night_0 := by decide +kernel
theorem dksX1_night_1 : cX1_night.data.toList.drop 24 = dktX1_night_1 := dk_seg dksX1_night_0 24 rfl rfl
theorem dksX1_night_2 : cX1_night.data.toList.drop 48 = dktX1_night_2 := dk_seg dksX1_night_1 24 rfl rfl
theorem dksX1_night_3 : cX1_night.data.toList.drop 72 = dktX1_night_3 := dk_seg dksX1_night_2 24 rfl rfl
theorem dksX1_night_4 : cX1_night.data.toList.drop 94 = dktX1_night_4 := dk_seg dksX1_night_3 22 rfl rfl
theorem dksX1_night_5 : cX1_night.data.toList.drop 116 = dktX1_night_5 := dk_seg dksX1_night_4 22 rfl rfl
theorem dksX1_night_6 : cX1_night.data.toList.drop 139 = dktX1_night_6 := dk_seg dksX1_night_5 23 rfl rfl
theorem dksX1_night_7 : cX1_night.data.toList.drop 163 = dktX1_night_7 := dk_seg dksX1_night_6 24 rfl rfl
theorem dksX1_night_8 : cX1_night.data.toList.drop 187 = dktX1_night_8 := dk_seg dksX1_night_7 24 rfl rfl
theorem dksX1_night_9 : cX1_night.data.toList.drop 211 = dktX1_night_9 := dk_seg dksX1_night_8 24 rfl rfl
theorem dksX1_night_10 : cX1_night.data.toList.drop 234 = dktX1_night_10 := dk_seg dksX1_night_9 23 rfl rfl
theorem dksX1_night_11 : cX1_night.data.toList.drop 257 = dktX1_night_11 := dk_seg dksX1_night_10 23 rfl rfl
theorem dksX1_night_12 : cX1_night.data.toList.drop 280 = dktX1_night_12 := dk_seg dksX1_night_11 23 rfl rfl
theorem dX1_night_0 : decode cX1_night 0 = .ok (.aload_n 0, 1) := dk_42 (dk_at dksX1_night_0 0 rfl rfl)
theorem dX1_night_1 : decode cX1_night 1 = .ok (.getfield 51, 3) := dk_180 0 51 (dk_at dksX1_night_0 1 rfl rfl)
theorem dX1_night_4 : decode cX1_night 4 = .ok (.aload_n 0, 1) := dk_42 (dk_at dksX1_night_0 4 rfl rfl)
theorem dX1_night_5 : decode cX1_night 5 = .ok (.getfield 44, 3) := dk_180 0 44 (dk_at dksX1_night_0 5 rfl rfl)
theorem dX1_night_8 : decode cX1_night 8 = .ok (.invokevirtual 341, 3) := dk_182 1 85 (dk_at dksX1_night_0 8 rfl rfl)
theorem dX1_night_11 : decode cX1_night 11 = .ok (.aload_n 0, 1) := dk_42 (dk_at dksX1_night_0 11 rfl rfl)
theorem dX1_night_12 : decode cX1_night 12 = .ok (.aload_n 0, 1) := dk_42 (dk_at dksX1_night_0 12 rfl rfl)
theorem dX1_night_13 : decode cX1_night 13 = .ok (.getfield 127, 3) := dk_180 0 127 (dk_at dksX1_night_0 13 rfl rfl)
theorem dX1_night_16 : decode cX1_night 16 = .ok (.putfield 121, 3) := dk_181 0 121 (dk_at dksX1_night_0 16 rfl rfl)
theorem dX1_night_19 : decode cX1_night 19 = .ok (.iconst 0, 1) := dk_3 (dk_at dksX1_night_0 19 rfl rfl)
theorem dX1_night_20 : decode cX1_night 20 = .ok (.istore_n 1, 1) := dk_60 (dk_at dksX1_night_0 20 rfl rfl)
theorem dX1_night_21 : decode cX1_night 21 = .ok (.iload_n 1, 1) := dk_27 (dk_at dksX1_night_0 21 rfl rfl)
theorem dX1_night_22 : decode cX1_night 22 = .ok (.bipush 10, 2) := dk_16 10 (dk_at dksX1_night_0 22 rfl rfl)
theorem dX1_night_24 : decode cX1_night 24 = .ok (.if_icmp .ge 16, 3) := dk_162 0 16 (dk_at dksX1_night_1 0 rfl rfl)
theorem dX1_night_27 : decode cX1_night 27 = .ok (.aload_n 0, 1) := dk_42 (dk_at dksX1_night_1 3 rfl rfl)
theorem dX1_night_28 : decode cX1_night 28 = .ok (.getfield 121, 3) := dk_180 0 121 (dk_at dksX1_night_1 4 rfl rfl)
theorem dX1_night_31 : decode cX1_night 31 = .ok (.iload_n 1, 1) := dk_27 (dk_at dksX1_night_1 7 rfl rfl)
theorem dX1_night_32 : decode cX1_night 32 = .ok (.iconst 0, 1) := dk_3 (dk_at dksX1_night_1 8 rfl rfl)
theorem dX1_night_33 : decode cX1_night 33 = .ok (.iastore, 1) := dk_79 (dk_at dksX1_night_1 9 rfl rfl)
theorem dX1_night_34 : decode cX1_night 34 = .ok (.iinc 1 1, 3) := dk_132 1 1 (dk_at dksX1_night_1 10 rfl rfl)
theorem dX1_night_37 : decode cX1_night 37 = .ok (.goto (-16), 3) := dk_167 255 240 (dk_at dksX1_night_1 13 rfl rfl)
theorem dX1_night_40 : decode cX1_night 40 = .ok (.aload_n 0, 1) := dk_42 (dk_at dksX1_night_1 16 rfl rfl)
theorem dX1_night_41 : decode cX1_night 41 = .ok (.aload_n 0, 1) := dk_42 (dk_at dksX1_night_1 17 rfl rfl)
theorem dX1_night_42 : decode cX1_night 42 = .ok (.getfield 44, 3) := dk_180 0 44 (dk_at dksX1_night_1 18 rfl rfl)
theorem dX1_night_45 : decode cX1_night 45 = .ok (.invokevirtual 321, 3) := dk_182 1 65 (dk_at dksX1_night_1 21 rfl rfl)
theorem dX1_night_48 : decode cX1_night 48 = .ok (.aload_n 0, 1) := dk_42 (dk_at dksX1_night_2 0 rfl rfl)
theorem dX1_night_49 : decode cX1_night 49 = .ok (.aload_n 0, 1) := dk_42 (dk_at dksX1_night_2 1 rfl rfl)
theorem dX1_night_50 : decode cX1_night 50 = .ok (.getfield 44, 3) := dk_180 0 44 (dk_at dksX1_night_2 2 rfl rfl)
theorem dX1_night_53 : decode cX1_night 53 = .ok (.aload_n 0, 1) := dk_42 (dk_at dksX1_night_2 5 rfl rfl)
theorem dX1_night_54 : decode cX1_night 54 = .ok (.getfield 325, 3) := dk_180 1 69 (dk_at dksX1_night_2 6 rfl rfl)
theorem dX1_night_57 : decode cX1_night 57 = .ok (.invokevirtual 328, 3) := dk_182 1 72 (dk_at dksX1_night_2 9 rfl rfl)
theorem dX1_night_60 : decode cX1_night 60 = .ok (.istore_n 1, 1) := dk_60 (dk_at dksX1_night_2 12 rfl rfl)
theorem dX1_night_61 : decode cX1_night 61 = .ok (.aload_n 0, 1) := dk_42 (dk_at dksX1_night_2 13 rfl rfl)
theorem dX1_night_62 : decode cX1_night 62 = .ok (.getfield 44, 3) := dk_180 0 44 (dk_at dksX1_night_2 14 rfl rfl)
theorem dX1_night_65 : decode cX1_night 65 = .ok (.aload_n 0, 1) := dk_42 (dk_at dksX1_night_2 17 rfl rfl)
theorem dX1_night_66 : decode cX1_night 66 = .ok (.getfield 156, 3) := dk_180 0 156 (dk_at dksX1_night_2 18 rfl rfl)
theorem dX1_night_69 : decode cX1_night 69 = .ok (.getfield 332, 3) := dk_180 1 76 (dk_at dksX1_night_2 21 rfl rfl)
theorem dX1_night_72 : decode cX1_night 72 = .ok (.invokevirtual 335, 3) := dk_182 1 79 (dk_at dksX1_night_3 0 rfl rfl)
theorem dX1_night_75 : decode cX1_night 75 = .ok (.iconst 0, 1) := dk_3 (dk_at dksX1_night_3 3 rfl rfl)
theorem dX1_night_76 : decode cX1_night 76 = .ok (.istore_n 2, 1) := dk_61 (dk_at dksX1_night_3 4 rfl rfl)
theorem dX1_night_77 : decode cX1_night 77 = .ok (.iload_n 2, 1) := dk_28 (dk_at dksX1_night_3 5 rfl rfl)
theorem dX1_night_78 : decode cX1_night 78 = .ok (.iconst 2, 1) := dk_5 (dk_at dksX1_night_3 6 rfl rfl)
theorem dX1_night_79 : decode cX1_night 79 = .ok (.if_icmp .ge 99, 3) := dk_162 0 99 (dk_at dksX1_night_3 7 rfl rfl)
theorem dX1_night_82 : decode cX1_night 82 = .ok (.aload_n 0, 1) := dk_42 (dk_at dksX1_night_3 10 rfl rfl)
theorem dX1_night_83 : decode cX1_night 83 = .ok (.getfield 48, 3) := dk_180 0 48 (dk_at dksX1_night_3 11 rfl rfl)
theorem dX1_night_86 : decode cX1_night 86 = .ok (.aload_n 0, 1) := dk_42 (dk_at dksX1_night_3 14 rfl rfl)
theorem dX1_night_87 : decode cX1_night 87 = .ok (.getfield 51, 3) := dk_180 0 51 (dk_at dksX1_night_3 15 rfl rfl)
theorem dX1_night_90 : decode cX1_night 90 = .ok (.invokevirtual 341, 3) := dk_182 1 85 (dk_at dksX1_night_3 18 rfl rfl)
theorem dX1_night_93 : decode cX1_night 93 = .ok (.aload_n 0, 1) := dk_42 (dk_at dksX1_night_3 21 rfl rfl)
theorem dX1_night_94 : decode cX1_night 94 = .ok (.getfield 48, 3) := dk_180 0 48 (dk_at dksX1_night_4 0 rfl rfl)
theorem dX1_night_97 : decode cX1_night 97 = .ok (.iload_n 2, 1) := dk_28 (dk_at dksX1_night_4 3 rfl rfl)
theorem dX1_night_98 : decode cX1_night 98 = .ok (.invokevirtual 352, 3) := dk_182 1 96 (dk_at dksX1_night_4 4 rfl rfl)
theorem dX1_night_101 : decode cX1_night 101 = .ok (.aload_n 0, 1) := dk_42 (dk_at dksX1_night_4 7 rfl rfl)
theorem dX1_night_102 : decode cX1_night 102 = .ok (.iconst 1, 1) := dk_4 (dk_at dksX1_night_4 8 rfl rfl)
theorem dX1_night_103 : decode cX1_night 103 = .ok (.invokevirtual 343, 3) := dk_182 1 87 (dk_at dksX1_night_4 9 rfl rfl)
theorem dX1_night_106 : decode cX1_night 106 = .ok (.pop, 1) := dk_87 (dk_at dksX1_night_4 12 rfl rfl)
theorem dX1_night_107 : decode cX1_night 107 = .ok (.iconst 0, 1) := dk_3 (dk_at dksX1_night_4 13 rfl rfl)
theorem dX1_night_108 : decode cX1_night 108 = .ok (.istore_n 3, 1) := dk_62 (dk_at dksX1_night_4 14 rfl rfl)
theorem dX1_night_109 : decode cX1_night 109 = .ok (.iconst 0, 1) := dk_3 (dk_at dksX1_night_4 15 rfl rfl)
theorem dX1_night_110 : decode cX1_night 110 = .ok (.istore 4, 2) := dk_54 4 (dk_at dksX1_night_4 16 rfl rfl)
theorem dX1_night_112 : decode cX1_night 112 = .ok (.iload 4, 2) := dk_21 4 (dk_at dksX1_night_4 18 rfl rfl)
theorem dX1_night_114 : decode cX1_night 114 = .ok (.bipush 10, 2) := dk_16 10 (dk_at dksX1_night_4 20 rfl rfl)
theorem dX1_night_116 : decode cX1_night 116 = .ok (.if_icmp .ge 42, 3) := dk_162 0 42 (dk_at dksX1_night_5 0 rfl rfl)
theorem dX1_night_119 : decode cX1_night 119 = .ok (.iload_n 3, 1) := dk_29 (dk_at dksX1_night_5 3 rfl rfl)
theorem dX1_night_120 : decode cX1_night 120 = .ok (.aload_n 0, 1) := dk_42 (dk_at dksX1_night_5 4 rfl rfl)
theorem dX1_night_121 : decode cX1_night 121 = .ok (.getfield 84, 3) := dk_180 0 84 (dk_at dksX1_night_5 5 rfl rfl)
theorem dX1_night_124 : decode cX1_night 124 = .ok (.iload 4, 2) := dk_21 4 (dk_at dksX1_night_5 8 rfl rfl)
theorem dX1_night_126 : decode cX1_night 126 = .ok (.iaload, 1) := dk_46 (dk_at dksX1_night_5 10 rfl rfl)
theorem dX1_night_127 : decode cX1_night 127 = .ok (.iload_n 2, 1) := dk_28 (dk_at dksX1_night_5 11 rfl rfl)
theorem dX1_night_128 : decode cX1_night 128 = .ok (.if_icmp .ne 7, 3) := dk_160 0 7 (dk_at dksX1_night_5 12 rfl rfl)
theorem dX1_night_131 : decode cX1_night 131 = .ok (.iconst 0, 1) := dk_3 (dk_at dksX1_night_5 15 rfl rfl)
theorem dX1_night_132 : decode cX1_night 132 = .ok (.goto 18, 3) := dk_167 0 18 (dk_at dksX1_night_5 16 rfl rfl)
theorem dX1_night_135 : decode cX1_night 135 = .ok (.aload_n 0, 1) := dk_42 (dk_at dksX1_night_5 19 rfl rfl)
theorem dX1_night_136 : decode cX1_night 136 = .ok (.getfield 127, 3) := dk_180 0 127 (dk_at dksX1_night_5 20 rfl rfl)
theorem dX1_night_139 : decode cX1_night 139 = .ok (.iload 4, 2) := dk_21 4 (dk_at dksX1_night_6 0 rfl rfl)
theorem dX1_night_141 : decode cX1_night 141 = .ok (.iaload, 1) := dk_46 (dk_at dksX1_night_6 2 rfl rfl)
theorem dX1_night_142 : decode cX1_night 142 = .ok (.aload_n 0, 1) := dk_42 (dk_at dksX1_night_6 3 rfl rfl)
theorem dX1_night_143 : decode cX1_night 143 = .ok (.getfield 124, 3) := dk_180 0 124 (dk_at dksX1_night_6 4 rfl rfl)
theorem dX1_night_146 : decode cX1_night 146 = .ok (.iload 4, 2) := dk_21 4 (dk_at dksX1_night_6 7 rfl rfl)
theorem dX1_night_148 : decode cX1_night 148 = .ok (.iaload, 1) := dk_46 (dk_at dksX1_night_6 9 rfl rfl)
theorem dX1_night_149 : decode cX1_night 149 = .ok (.isub, 1) := dk_100 (dk_at dksX1_night_6 10 rfl rfl)
theorem dX1_night_150 : decode cX1_night 150 = .ok (.iadd, 1) := dk_96 (dk_at dksX1_night_6 11 rfl rfl)
theorem dX1_night_151 : decode cX1_night 151 = .ok (.istore_n 3, 1) := dk_62 (dk_at dksX1_night_6 12 rfl rfl)
theorem dX1_night_152 : decode cX1_night 152 = .ok (.iinc 4 1, 3) := dk_132 4 1 (dk_at dksX1_night_6 13 rfl rfl)
theorem dX1_night_155 : decode cX1_night 155 = .ok (.goto (-43), 3) := dk_167 255 213 (dk_at dksX1_night_6 16 rfl rfl)
theorem dX1_night_158 : decode cX1_night 158 = .ok (.aload_n 0, 1) := dk_42 (dk_at dksX1_night_6 19 rfl rfl)
theorem dX1_night_159 : decode cX1_night 159 = .ok (.getfield 100, 3) := dk_180 0 100 (dk_at dksX1_night_6 20 rfl rfl)
theorem dX1_night_162 : decode cX1_night 162 = .ok (.iload_n 2, 1) := dk_28 (dk_at dksX1_night_6 23 rfl rfl)
theorem dX1_night_163 : decode cX1_night 163 = .ok (.dup2, 1) := dk_92 (dk_at dksX1_night_7 0 rfl rfl)
theorem dX1_night_164 : decode cX1_night 164 = .ok (.iaload, 1) := dk_46 (dk_at dksX1_night_7 1 rfl rfl)
theorem dX1_night_165 : decode cX1_night 165 = .ok (.iconst 0, 1) := dk_3 (dk_at dksX1_night_7 2 rfl rfl)
theorem dX1_night_166 : decode cX1_night 166 = .ok (.iload_n 3, 1) := dk_29 (dk_at dksX1_night_7 3 rfl rfl)
theorem dX1_night_167 : decode cX1_night 167 = .ok (.invokestatic 355, 3) := dk_184 1 99 (dk_at dksX1_night_7 4 rfl rfl)
theorem dX1_night_170 : decode cX1_night 170 = .ok (.iadd, 1) := dk_96 (dk_at dksX1_night_7 7 rfl rfl)
theorem dX1_night_171 : decode cX1_night 171 = .ok (.iastore, 1) := dk_79 (dk_at dksX1_night_7 8 rfl rfl)
theorem dX1_night_172 : decode cX1_night 172 = .ok (.iinc 2 1, 3) := dk_132 2 1 (dk_at dksX1_night_7 9 rfl rfl)
theorem dX1_night_175 : decode cX1_night 175 = .ok (.goto (-98), 3) := dk_167 255 158 (dk_at dksX1_night_7 12 rfl rfl)
theorem dX1_night_178 : decode cX1_night 178 = .ok (.iconst 0, 1) := dk_3 (dk_at dksX1_night_7 15 rfl rfl)
theorem dX1_night_179 : decode cX1_night 179 = .ok (.istore_n 2, 1) := dk_61 (dk_at dksX1_night_7 16 rfl rfl)
theorem dX1_night_180 : decode cX1_night 180 = .ok (.iload_n 2, 1) := dk_28 (dk_at dksX1_night_7 17 rfl rfl)
theorem dX1_night_181 : decode cX1_night 181 = .ok (.bipush 10, 2) := dk_16 10 (dk_at dksX1_night_7 18 rfl rfl)
theorem dX1_night_183 : decode cX1_night 183 = .ok (.if_icmp .ge 90, 3) := dk_162 0 90 (dk_at dksX1_night_7 20 rfl rfl)
theorem dX1_night_186 : decode cX1_night 186 = .ok (.aload_n 0, 1) := dk_42 (dk_at dksX1_night_7 23 rfl rfl)
theorem dX1_night_187 : decode cX1_night 187 = .ok (.getfield 127, 3) := dk_180 0 127 (dk_at dksX1_night_8 0 rfl rfl)
theorem dX1_night_190 : decode cX1_night 190 = .ok (.iload_n 2, 1) := dk_28 (dk_at dksX1_night_8 3 rfl rfl)
theorem dX1_night_191 : decode cX1_night 191 = .ok (.iaload, 1) := dk_46 (dk_at dksX1_night_8 4 rfl rfl)
theorem dX1_night_192 : decode cX1_night 192 = .ok (.ifCond .le 41, 3) := dk_158 0 41 (dk_at dksX1_night_8 5 rfl rfl)
theorem dX1_night_195 : decode cX1_night 195 = .ok (.aload_n 0, 1) := dk_42 (dk_at dksX1_night_8 8 rfl rfl)
theorem dX1_night_196 : decode cX1_night 196 = .ok (.getfield 75, 3) := dk_180 0 75 (dk_at dksX1_night_8 9 rfl rfl)
theorem dX1_night_199 : decode cX1_night 199 = .ok (.invokevirtual 189, 3) := dk_182 0 189 (dk_at dksX1_night_8 12 rfl rfl)
theorem dX1_night_202 : decode cX1_night 202 = .ok (.bipush 60, 2) := dk_16 60 (dk_at dksX1_night_8 15 rfl rfl)
theorem dX1_night_204 : decode cX1_night 204 = .ok (.if_icmp .ge 29, 3) := dk_162 0 29 (dk_at dksX1_night_8 17 rfl rfl)
theorem dX1_night_207 : decode cX1_night 207 = .ok (.aload_n 0, 1) := dk_42 (dk_at dksX1_night_8 20 rfl rfl)
theorem dX1_night_208 : decode cX1_night 208 = .ok (.getfield 75, 3) := dk_180 0 75 (dk_at dksX1_night_8 21 rfl rfl)
theorem dX1_night_211 : decode cX1_night 211 = .ok (.new 358, 3) := dk_187 1 102 (dk_at dksX1_night_9 0 rfl rfl)
theorem dX1_night_214 : decode cX1_night 214 = .ok (.dup, 1) := dk_89 (dk_at dksX1_night_9 3 rfl rfl)
theorem dX1_night_215 : decode cX1_night 215 = .ok (.iload_n 2, 1) := dk_28 (dk_at dksX1_night_9 4 rfl rfl)
theorem dX1_night_216 : decode cX1_night 216 = .ok (.aload_n 0, 1) := dk_42 (dk_at dksX1_night_9 5 rfl rfl)
theorem dX1_night_217 : decode cX1_night 217 = .ok (.getfield 325, 3) := dk_180 1 69 (dk_at dksX1_night_9 6 rfl rfl)
theorem dX1_night_220 : decode cX1_night 220 = .ok (.aload_n 0, 1) := dk_42 (dk_at dksX1_night_9 9 rfl rfl)
theorem dX1_night_221 : decode cX1_night 221 = .ok (.getfield 127, 3) := dk_180 0 127 (dk_at dksX1_night_9 10 rfl rfl)
theorem dX1_night_224 : decode cX1_night 224 = .ok (.iload_n 2, 1) := dk_28 (dk_at dksX1_night_9 13 rfl rfl)
theorem dX1_night_225 : decode cX1_night 225 = .ok (.iaload, 1) := dk_46 (dk_at dksX1_night_9 14 rfl rfl)
theorem dX1_night_226 : decode cX1_night 226 = .ok (.invokespecial 360, 3) := dk_183 1 104 (dk_at dksX1_night_9 15 rfl rfl)
theorem dX1_night_229 : decode cX1_night 229 = .ok (.invokevirtual 261, 3) := dk_182 1 5 (dk_at dksX1_night_9 18 rfl rfl)
theorem dX1_night_232 : decode cX1_night 232 = .ok (.pop, 1) := dk_87 (dk_at dksX1_night_9 21 rfl rfl)
theorem dX1_night_233 : decode cX1_night 233 = .ok (.aload_n 0, 1) := dk_42 (dk_at dksX1_night_9 22 rfl rfl)
theorem dX1_night_234 : decode cX1_night 234 = .ok (.getfield 130, 3) := dk_180 0 130 (dk_at dksX1_night_10 0 rfl rfl)
theorem dX1_night_237 : decode cX1_night 237 = .ok (.iload_n 2, 1) := dk_28 (dk_at dksX1_night_10 3 rfl rfl)
theorem dX1_night_238 : decode cX1_night 238 = .ok (.aload_n 0, 1) := dk_42 (dk_at dksX1_night_10 4 rfl rfl)
theorem dX1_night_239 : decode cX1_night 239 = .ok (.iload_n 2, 1) := dk_28 (dk_at dksX1_night_10 5 rfl rfl)
theorem dX1_night_240 : decode cX1_night 240 = .ok (.invokevirtual 361, 3) := dk_182 1 105 (dk_at dksX1_night_10 6 rfl rfl)
theorem dX1_night_243 : decode cX1_night 243 = .ok (.bastore, 1) := dk_84 (dk_at dksX1_night_10 9 rfl rfl)
theorem dX1_night_244 : decode cX1_night 244 = .ok (.aload_n 0, 1) := dk_42 (dk_at dksX1_night_10 10 rfl rfl)
theorem dX1_night_245 : decode cX1_night 245 = .ok (.getfield 94, 3) := dk_180 0 94 (dk_at dksX1_night_10 11 rfl rfl)
theorem dX1_night_248 : decode cX1_night 248 = .ok (.iload_n 2, 1) := dk_28 (dk_at dksX1_night_10 14 rfl rfl)
theorem dX1_night_249 : decode cX1_night 249 = .ok (.dup2, 1) := dk_92 (dk_at dksX1_night_10 15 rfl rfl)
theorem dX1_night_250 : decode cX1_night 250 = .ok (.iaload, 1) := dk_46 (dk_at dksX1_night_10 16 rfl rfl)
theorem dX1_night_251 : decode cX1_night 251 = .ok (.aload_n 0, 1) := dk_42 (dk_at dksX1_night_10 17 rfl rfl)
theorem dX1_night_252 : decode cX1_night 252 = .ok (.getfield 130, 3) := dk_180 0 130 (dk_at dksX1_night_10 18 rfl rfl)
theorem dX1_night_255 : decode cX1_night 255 = .ok (.iload_n 2, 1) := dk_28 (dk_at dksX1_night_10 21 rfl rfl)
theorem dX1_night_256 : decode cX1_night 256 = .ok (.baload, 1) := dk_51 (dk_at dksX1_night_10 22 rfl rfl)
theorem dX1_night_257 : decode cX1_night 257 = .ok (.ifCond .eq 7, 3) := dk_153 0 7 (dk_at dksX1_night_11 0 rfl rfl)
theorem dX1_night_260 : decode cX1_night 260 = .ok (.iconst 1, 1) := dk_4 (dk_at dksX1_night_11 3 rfl rfl)
theorem dX1_night_261 : decode cX1_night 261 = .ok (.goto 4, 3) := dk_167 0 4 (dk_at dksX1_night_11 4 rfl rfl)
theorem dX1_night_264 : decode cX1_night 264 = .ok (.iconst 0, 1) := dk_3 (dk_at dksX1_night_11 7 rfl rfl)
theorem dX1_night_265 : decode cX1_night 265 = .ok (.iadd, 1) := dk_96 (dk_at dksX1_night_11 8 rfl rfl)
theorem dX1_night_266 : decode cX1_night 266 = .ok (.iastore, 1) := dk_79 (dk_at dksX1_night_11 9 rfl rfl)
theorem dX1_night_267 : decode cX1_night 267 = .ok (.iinc 2 1, 3) := dk_132 2 1 (dk_at dksX1_night_11 10 rfl rfl)
theorem dX1_night_270 : decode cX1_night 270 = .ok (.goto (-90), 3) := dk_167 255 166 (dk_at dksX1_night_11 13 rfl rfl)
theorem dX1_night_273 : decode cX1_night 273 = .ok (.aload_n 0, 1) := dk_42 (dk_at dksX1_night_11 16 rfl rfl)
theorem dX1_night_274 : decode cX1_night 274 = .ok (.iconst 0, 1) := dk_3 (dk_at dksX1_night_11 17 rfl rfl)
theorem dX1_night_275 : decode cX1_night 275 = .ok (.putfield 296, 3) := dk_181 1 40 (dk_at dksX1_night_11 18 rfl rfl)
theorem dX1_night_278 : decode cX1_night 278 = .ok (.aload_n 0, 1) := dk_42 (dk_at dksX1_night_11 21 rfl rfl)
theorem dX1_night_279 : decode cX1_night 279 = .ok (.dup, 1) := dk_89 (dk_at dksX1_night_11 22 rfl rfl)
theorem dX1_night_280 : decode cX1_night 280 = .ok (.getfield 325, 3) := dk_180 1 69 (dk_at dksX1_night_12 0 rfl rfl)
theorem dX1_night_283 : decode cX1_night 283 = .ok (.iconst 1, 1) := dk_4 (dk_at dksX1_night_12 3 rfl rfl)
theorem dX1_night_284 : decode cX1_night 284 = .ok (.iadd, 1) := dk_96 (dk_at dksX1_night_12 4 rfl rfl)
theorem dX1_night_285 : decode cX1_night 285 = .ok (.putfield 325, 3) := dk_181 1 69 (dk_at dksX1_night_12 5 rfl rfl)
theorem dX1_night_288 : decode cX1_night 288 = .ok (.iload_n 1, 1) := dk_27 (dk_at dksX1_night_12 8 rfl rfl)
theorem dX1_night_289 : decode cX1_night 289 = .ok (.ireturn, 1) := dk_172 (dk_at dksX1_night_12 9 rfl rfl)
def dkwX1_watch_1 : List UInt8 := [182, 1, 46, 132, 2, 1, 167, 255, 228, 177]
abbrev dktX1_watch_1 : List UInt8 := dkwX1_watch_1 ++ []
def dkwX1_watch_0 : List UInt8 := [3, 61, 28, 42, 180, 1, 40, 162, 0, 26, 43, 42, 180, 0, 91, 28, 46, 42, 180, 0, 156, 180, 1, 43]
abbrev dktX1_watch_0 : List UInt8 := dkwX1_watch_0 ++ dktX1_watch_1
theorem dksX1_watch_0 : cX1_watch.data.toList.drop 0 = dktX1_watch_0 := by decide +kernel
theorem dksX1_watch_1 : cX1_watch.data.toList.drop 24 = dktX1_watch_1 := dk_seg dksX1_watch_0 24 rfl rfl
theorem dX1_watch_0 : decode cX1_watch 0 = .ok (.iconst 0, 1) := dk_3 (dk_at dksX1_watch_0 0 rfl rfl)
theorem dX1_watch_1 : decode cX1_watch 1 = .ok (.istore_n 2, 1) := dk_61 (dk_at dksX1_watch_0 1 rfl rfl)
theorem dX1_watch_2 : decode cX1_watch 2 = .ok (.iload_n 2, 1) := dk_28 (dk_at dksX1_watch_0 2 rfl rfl)
theorem dX1_watch_3 : decode cX1_watch 3 = .ok (.aload_n 0, 1) := dk_42 (dk_at dksX1_watch_0 3 rfl rfl)
theorem dX1_watch_4 : decode cX1_watch 4 = .ok (.getfield 296, 3) := dk_180 1 40 (dk_at dksX1_watch_0 4 rfl rfl)
theorem dX1_watch_7 : decode cX1_watch 7 = .ok (.if_icmp .ge 26, 3) := dk_162 0 26 (dk_at dksX1_watch_0 7 rfl rfl)
theorem dX1_watch_10 : decode cX1_watch 10 = .ok (.aload_n 1, 1) := dk_43 (dk_at dksX1_watch_0 10 rfl rfl)
theorem dX1_watch_11 : decode cX1_watch 11 = .ok (.aload_n 0, 1) := dk_42 (dk_at dksX1_watch_0 11 rfl rfl)
theorem dX1_watch_12 : decode cX1_watch 12 = .ok (.getfield 91, 3) := dk_180 0 91 (dk_at dksX1_watch_0 12 rfl rfl)
theorem dX1_watch_15 : decode cX1_watch 15 = .ok (.iload_n 2, 1) := dk_28 (dk_at dksX1_watch_0 15 rfl rfl)
theorem dX1_watch_16 : decode cX1_watch 16 = .ok (.iaload, 1) := dk_46 (dk_at dksX1_watch_0 16 rfl rfl)
theorem dX1_watch_17 : decode cX1_watch 17 = .ok (.aload_n 0, 1) := dk_42 (dk_at dksX1_watch_0 17 rfl rfl)
theorem dX1_watch_18 : decode cX1_watch 18 = .ok (.getfield 156, 3) := dk_180 0 156 (dk_at dksX1_watch_0 18 rfl rfl)
theorem dX1_watch_21 : decode cX1_watch 21 = .ok (.getfield 299, 3) := dk_180 1 43 (dk_at dksX1_watch_0 21 rfl rfl)
theorem dX1_watch_24 : decode cX1_watch 24 = .ok (.invokevirtual 302, 3) := dk_182 1 46 (dk_at dksX1_watch_1 0 rfl rfl)
theorem dX1_watch_27 : decode cX1_watch 27 = .ok (.iinc 2 1, 3) := dk_132 2 1 (dk_at dksX1_watch_1 3 rfl rfl)
theorem dX1_watch_30 : decode cX1_watch 30 = .ok (.goto (-28), 3) := dk_167 255 228 (dk_at dksX1_watch_1 6 rfl rfl)
theorem dX1_watch_33 : decode cX1_watch 33 = .ok (.return_, 1) := dk_177 (dk_at dksX1_watch_1 9 rfl rfl)
def dkwX1_next_4 : List UInt8 := [96, 167, 0, 4, 2, 172]
abbrev dktX1_next_4 : List UInt8 := dkwX1_next_4 ++ []
def dkwX1_next_3 : List UInt8 := [172, 28, 16, 7, 162, 0, 9, 26, 4, 96, 167, 0, 4, 2, 172, 29, 16, 7, 162, 0, 10, 26, 16, 8]
abbrev dktX1_next_3 : List UInt8 := dkwX1_next_3 ++ dktX1_next_4
def dkwX1_next_2 : List UInt8 := [29, 158, 0, 10, 26, 16, 8, 100, 167, 0, 4, 2, 172, 28, 158, 0, 9, 26, 4, 100, 167, 0, 4, 2]
abbrev dktX1_next_2 : List UInt8 := dkwX1_next_2 ++ dktX1_next_3
def dkwX1_next_1 : List UInt8 := [170, 0, 0, 0, 64, 0, 0, 0, 0, 0, 0, 0, 2, 0, 0, 0, 25, 0, 0, 0, 38, 0, 0, 0, 50]
abbrev dktX1_next_1 : List UInt8 := dkwX1_next_1 ++ dktX1_next_2
def dkwX1_next_0 : List UInt8 := [26, 16, 8, 112, 61, 26, 16, 8, 108, 62, 27]
abbrev dktX1_next_0 : List UInt8 := dkwX1_next_0 ++ dktX1_next_1
theorem dksX1_next_0 : cX1_next.data.toList.drop 0 = dktX1_next_0 := by decide +kernel
theorem dksX1_next_1 : cX1_next.data.toList.drop 11 = dktX1_next_1 := dk_seg dksX1_next_0 11 rfl rfl
theorem dksX1_next_2 : cX1_next.data.toList.drop 36 = dktX1_next_2 := dk_seg dksX1_next_1 25 rfl rfl
theorem dksX1_next_3 : cX1_next.data.toList.drop 60 = dktX1_next_3 := dk_seg dksX1_next_2 24 rfl rfl
theorem dksX1_next_4 : cX1_next.data.toList.drop 84 = dktX1_next_4 := dk_seg dksX1_next_3 24 rfl rfl
theorem dX1_next_0 : decode cX1_next 0 = .ok (.iload_n 0, 1) := dk_26 (dk_at dksX1_next_0 0 rfl rfl)
theorem dX1_next_1 : decode cX1_next 1 = .ok (.bipush 8, 2) := dk_16 8 (dk_at dksX1_next_0 1 rfl rfl)
theorem dX1_next_3 : decode cX1_next 3 = .ok (.irem, 1) := dk_112 (dk_at dksX1_next_0 3 rfl rfl)
theorem dX1_next_4 : decode cX1_next 4 = .ok (.istore_n 2, 1) := dk_61 (dk_at dksX1_next_0 4 rfl rfl)
theorem dX1_next_5 : decode cX1_next 5 = .ok (.iload_n 0, 1) := dk_26 (dk_at dksX1_next_0 5 rfl rfl)
theorem dX1_next_6 : decode cX1_next 6 = .ok (.bipush 8, 2) := dk_16 8 (dk_at dksX1_next_0 6 rfl rfl)
theorem dX1_next_8 : decode cX1_next 8 = .ok (.idiv, 1) := dk_108 (dk_at dksX1_next_0 8 rfl rfl)
theorem dX1_next_9 : decode cX1_next 9 = .ok (.istore_n 3, 1) := dk_62 (dk_at dksX1_next_0 9 rfl rfl)
theorem dX1_next_10 : decode cX1_next 10 = .ok (.iload_n 1, 1) := dk_27 (dk_at dksX1_next_0 10 rfl rfl)
theorem dX1_next_11 : decode cX1_next 11 = .ok (.tableswitch 64 0 2 #[25, 38, 50], 25) := by decide +kernel
theorem dX1_next_36 : decode cX1_next 36 = .ok (.iload_n 3, 1) := dk_29 (dk_at dksX1_next_2 0 rfl rfl)
theorem dX1_next_37 : decode cX1_next 37 = .ok (.ifCond .le 10, 3) := dk_158 0 10 (dk_at dksX1_next_2 1 rfl rfl)
theorem dX1_next_40 : decode cX1_next 40 = .ok (.iload_n 0, 1) := dk_26 (dk_at dksX1_next_2 4 rfl rfl)
theorem dX1_next_41 : decode cX1_next 41 = .ok (.bipush 8, 2) := dk_16 8 (dk_at dksX1_next_2 5 rfl rfl)
theorem dX1_next_43 : decode cX1_next 43 = .ok (.isub, 1) := dk_100 (dk_at dksX1_next_2 7 rfl rfl)
theorem dX1_next_44 : decode cX1_next 44 = .ok (.goto 4, 3) := dk_167 0 4 (dk_at dksX1_next_2 8 rfl rfl)
theorem dX1_next_47 : decode cX1_next 47 = .ok (.iconst (-1), 1) := dk_2 (dk_at dksX1_next_2 11 rfl rfl)
theorem dX1_next_48 : decode cX1_next 48 = .ok (.ireturn, 1) := dk_172 (dk_at dksX1_next_2 12 rfl rfl)
theorem dX1_next_49 : decode cX1_next 49 = .ok (.iload_n 2, 1) := dk_28 (dk_at dksX1_next_2 13 rfl rfl)
theorem dX1_next_50 : decode cX1_next 50 = .ok (.ifCond .le 9, 3) := dk_158 0 9 (dk_at dksX1_next_2 14 rfl rfl)
theorem dX1_next_53 : decode cX1_next 53 = .ok (.iload_n 0, 1) := dk_26 (dk_at dksX1_next_2 17 rfl rfl)
theorem dX1_next_54 : decode cX1_next 54 = .ok (.iconst 1, 1) := dk_4 (dk_at dksX1_next_2 18 rfl rfl)
theorem dX1_next_55 : decode cX1_next 55 = .ok (.isub, 1) := dk_100 (dk_at dksX1_next_2 19 rfl rfl)
theorem dX1_next_56 : decode cX1_next 56 = .ok (.goto 4, 3) := dk_167 0 4 (dk_at dksX1_next_2 20 rfl rfl)
theorem dX1_next_59 : decode cX1_next 59 = .ok (.iconst (-1), 1) := dk_2 (dk_at dksX1_next_2 23 rfl rfl)
theorem dX1_next_60 : decode cX1_next 60 = .ok (.ireturn, 1) := dk_172 (dk_at dksX1_next_3 0 rfl rfl)
theorem dX1_next_61 : decode cX1_next 61 = .ok (.iload_n 2, 1) := dk_28 (dk_at dksX1_next_3 1 rfl rfl)
theorem dX1_next_62 : decode cX1_next 62 = .ok (.bipush 7, 2) := dk_16 7 (dk_at dksX1_next_3 2 rfl rfl)
theorem dX1_next_64 : decode cX1_next 64 = .ok (.if_icmp .ge 9, 3) := dk_162 0 9 (dk_at dksX1_next_3 4 rfl rfl)
theorem dX1_next_67 : decode cX1_next 67 = .ok (.iload_n 0, 1) := dk_26 (dk_at dksX1_next_3 7 rfl rfl)
theorem dX1_next_68 : decode cX1_next 68 = .ok (.iconst 1, 1) := dk_4 (dk_at dksX1_next_3 8 rfl rfl)
theorem dX1_next_69 : decode cX1_next 69 = .ok (.iadd, 1) := dk_96 (dk_at dksX1_next_3 9 rfl rfl)
theorem dX1_next_70 : decode cX1_next 70 = .ok (.goto 4, 3) := dk_167 0 4 (dk_at dksX1_next_3 10 rfl rfl)
theorem dX1_next_73 : decode cX1_next 73 = .ok (.iconst (-1), 1) := dk_2 (dk_at dksX1_next_3 13 rfl rfl)
theorem dX1_next_74 : decode cX1_next 74 = .ok (.ireturn, 1) := dk_172 (dk_at dksX1_next_3 14 rfl rfl)
theorem dX1_next_75 : decode cX1_next 75 = .ok (.iload_n 3, 1) := dk_29 (dk_at dksX1_next_3 15 rfl rfl)
theorem dX1_next_76 : decode cX1_next 76 = .ok (.bipush 7, 2) := dk_16 7 (dk_at dksX1_next_3 16 rfl rfl)
theorem dX1_next_78 : decode cX1_next 78 = .ok (.if_icmp .ge 10, 3) := dk_162 0 10 (dk_at dksX1_next_3 18 rfl rfl)
theorem dX1_next_81 : decode cX1_next 81 = .ok (.iload_n 0, 1) := dk_26 (dk_at dksX1_next_3 21 rfl rfl)
theorem dX1_next_82 : decode cX1_next 82 = .ok (.bipush 8, 2) := dk_16 8 (dk_at dksX1_next_3 22 rfl rfl)
theorem dX1_next_84 : decode cX1_next 84 = .ok (.iadd, 1) := dk_96 (dk_at dksX1_next_4 0 rfl rfl)
theorem dX1_next_85 : decode cX1_next 85 = .ok (.goto 4, 3) := dk_167 0 4 (dk_at dksX1_next_4 1 rfl rfl)
theorem dX1_next_88 : decode cX1_next 88 = .ok (.iconst (-1), 1) := dk_2 (dk_at dksX1_next_4 4 rfl rfl)
theorem dX1_next_89 : decode cX1_next 89 = .ok (.ireturn, 1) := dk_172 (dk_at dksX1_next_4 5 rfl rfl)
def dkwX1_comes_2 : List UInt8 := [167, 255, 214, 29, 172]
abbrev dktX1_comes_2 : List UInt8 := dkwX1_comes_2 ++ []
def dkwX1_comes_1 : List UInt8 := [21, 4, 182, 0, 193, 192, 0, 197, 28, 16, 30, 108, 16, 12, 112, 182, 1, 37, 96, 62, 132, 4, 1]
abbrev dktX1_comes_1 : List UInt8 := dkwX1_comes_1 ++ dktX1_comes_2
def dkwX1_comes_0 : List UInt8 := [3, 62, 3, 54, 4, 21, 4, 42, 180, 0, 71, 182, 0, 189, 162, 0, 36, 29, 42, 43, 42, 180, 0, 71]
abbrev dktX1_comes_0 : List UInt8 := dkwX1_comes_0 ++ dktX1_comes_1
theorem dksX1_comes_0 : cX1_comes.data.toList.drop 0 = dktX1_comes_0 := by decide +kernel
theorem dksX1_comes_1 : cX1_comes.data.toList.drop 24 = dktX1_comes_1 := dk_seg dksX1_comes_0 24 rfl rfl
theorem dksX1_comes_2 : cX1_comes.data.toList.drop 47 = dktX1_comes_2 := dk_seg dksX1_comes_1 23 rfl rfl
theorem dX1_comes_0 : decode cX1_comes 0 = .ok (.iconst 0, 1) := dk_3 (dk_at dksX1_comes_0 0 rfl rfl)
theorem dX1_comes_1 : decode cX1_comes 1 = .ok (.istore_n 3, 1) := dk_62 (dk_at dksX1_comes_0 1 rfl rfl)
theorem dX1_comes_2 : decode cX1_comes 2 = .ok (.iconst 0, 1) := dk_3 (dk_at dksX1_comes_0 2 rfl rfl)
theorem dX1_comes_3 : decode cX1_comes 3 = .ok (.istore 4, 2) := dk_54 4 (dk_at dksX1_comes_0 3 rfl rfl)
theorem dX1_comes_5 : decode cX1_comes 5 = .ok (.iload 4, 2) := dk_21 4 (dk_at dksX1_comes_0 5 rfl rfl)
theorem dX1_comes_7 : decode cX1_comes 7 = .ok (.aload_n 0, 1) := dk_42 (dk_at dksX1_comes_0 7 rfl rfl)
theorem dX1_comes_8 : decode cX1_comes 8 = .ok (.getfield 71, 3) := dk_180 0 71 (dk_at dksX1_comes_0 8 rfl rfl)
theorem dX1_comes_11 : decode cX1_comes 11 = .ok (.invokevirtual 189, 3) := dk_182 0 189 (dk_at dksX1_comes_0 11 rfl rfl)
theorem dX1_comes_14 : decode cX1_comes 14 = .ok (.if_icmp .ge 36, 3) := dk_162 0 36 (dk_at dksX1_comes_0 14 rfl rfl)
theorem dX1_comes_17 : decode cX1_comes 17 = .ok (.iload_n 3, 1) := dk_29 (dk_at dksX1_comes_0 17 rfl rfl)
theorem dX1_comes_18 : decode cX1_comes 18 = .ok (.aload_n 0, 1) := dk_42 (dk_at dksX1_comes_0 18 rfl rfl)
theorem dX1_comes_19 : decode cX1_comes 19 = .ok (.aload_n 1, 1) := dk_43 (dk_at dksX1_comes_0 19 rfl rfl)
theorem dX1_comes_20 : decode cX1_comes 20 = .ok (.aload_n 0, 1) := dk_42 (dk_at dksX1_comes_0 20 rfl rfl)
theorem dX1_comes_21 : decode cX1_comes 21 = .ok (.getfield 71, 3) := dk_180 0 71 (dk_at dksX1_comes_0 21 rfl rfl)
theorem dX1_comes_24 : decode cX1_comes 24 = .ok (.iload 4, 2) := dk_21 4 (dk_at dksX1_comes_1 0 rfl rfl)
theorem dX1_comes_26 : decode cX1_comes 26 = .ok (.invokevirtual 193, 3) := dk_182 0 193 (dk_at dksX1_comes_1 2 rfl rfl)
theorem dX1_comes_29 : decode cX1_comes 29 = .ok (.checkcast 197, 3) := dk_192 0 197 (dk_at dksX1_comes_1 5 rfl rfl)
theorem dX1_comes_32 : decode cX1_comes 32 = .ok (.iload_n 2, 1) := dk_28 (dk_at dksX1_comes_1 8 rfl rfl)
theorem dX1_comes_33 : decode cX1_comes 33 = .ok (.bipush 30, 2) := dk_16 30 (dk_at dksX1_comes_1 9 rfl rfl)
theorem dX1_comes_35 : decode cX1_comes 35 = .ok (.idiv, 1) := dk_108 (dk_at dksX1_comes_1 11 rfl rfl)
theorem dX1_comes_36 : decode cX1_comes 36 = .ok (.bipush 12, 2) := dk_16 12 (dk_at dksX1_comes_1 12 rfl rfl)
theorem dX1_comes_38 : decode cX1_comes 38 = .ok (.irem, 1) := dk_112 (dk_at dksX1_comes_1 14 rfl rfl)
theorem dX1_comes_39 : decode cX1_comes 39 = .ok (.invokevirtual 293, 3) := dk_182 1 37 (dk_at dksX1_comes_1 15 rfl rfl)
theorem dX1_comes_42 : decode cX1_comes 42 = .ok (.iadd, 1) := dk_96 (dk_at dksX1_comes_1 18 rfl rfl)
theorem dX1_comes_43 : decode cX1_comes 43 = .ok (.istore_n 3, 1) := dk_62 (dk_at dksX1_comes_1 19 rfl rfl)
theorem dX1_comes_44 : decode cX1_comes 44 = .ok (.iinc 4 1, 3) := dk_132 4 1 (dk_at dksX1_comes_1 20 rfl rfl)
theorem dX1_comes_47 : decode cX1_comes 47 = .ok (.goto (-42), 3) := dk_167 255 214 (dk_at dksX1_comes_2 0 rfl rfl)
theorem dX1_comes_50 : decode cX1_comes 50 = .ok (.iload_n 3, 1) := dk_29 (dk_at dksX1_comes_2 3 rfl rfl)
theorem dX1_comes_51 : decode cX1_comes 51 = .ok (.ireturn, 1) := dk_172 (dk_at dksX1_comes_2 4 rfl rfl)
def dkwX1_goes_11 : List UInt8 := [182, 1, 58, 96, 172]
abbrev dktX1_goes_11 : List UInt8 := dkwX1_goes_11 ++ []
def dkwX1_goes_10 : List UInt8 := [182, 1, 58, 96, 54, 6, 132, 7, 1, 167, 255, 179, 21, 6, 42, 43, 21, 5, 44, 180, 1, 52]
abbrev dktX1_goes_10 : List UInt8 := dkwX1_goes_10 ++ dktX1_goes_11
def dkwX1_goes_9 : List UInt8 := [180, 1, 31, 4, 100, 162, 0, 24, 21, 6, 42, 43, 42, 180, 0, 57, 180, 1, 34, 21, 7, 46, 8]
abbrev dktX1_goes_9 : List UInt8 := dkwX1_goes_9 ++ dktX1_goes_10
def dkwX1_goes_8 : List UInt8 := [4, 100, 46, 42, 180, 0, 57, 180, 1, 34, 21, 7, 46, 3, 182, 0, 234, 21, 7, 42, 180, 0, 57]
abbrev dktX1_goes_8 : List UInt8 := dkwX1_goes_8 ++ dktX1_goes_9
def dkwX1_goes_7 : List UInt8 := [54, 7, 21, 7, 42, 180, 0, 57, 180, 1, 31, 162, 0, 71, 43, 42, 180, 0, 57, 180, 1, 34, 21, 7]
abbrev dktX1_goes_7 : List UInt8 := dkwX1_goes_7 ++ dktX1_goes_8
def dkwX1_goes_6 : List UInt8 := [180, 0, 57, 43, 44, 180, 0, 199, 21, 5, 42, 180, 0, 156, 180, 1, 16, 182, 1, 27, 3, 54, 6, 4]
abbrev dktX1_goes_6 : List UInt8 := dkwX1_goes_6 ++ dktX1_goes_7
def dkwX1_goes_5 : List UInt8 := [21, 7, 54, 4, 21, 6, 54, 5, 132, 6, 1, 167, 255, 157, 21, 5, 2, 160, 0, 5, 3, 172, 42]
abbrev dktX1_goes_5 : List UInt8 := dkwX1_goes_5 ++ dktX1_goes_6
def dkwX1_goes_4 : List UInt8 := [104, 42, 180, 0, 57, 180, 1, 23, 21, 6, 46, 100, 54, 7, 21, 7, 21, 4, 163, 0, 6, 167, 0, 11]
abbrev dktX1_goes_4 : List UInt8 := dkwX1_goes_4 ++ dktX1_goes_5
def dkwX1_goes_3 : List UInt8 := [180, 0, 224, 21, 6, 46, 29, 182, 1, 0, 43, 180, 0, 186, 21, 6, 46, 44, 180, 1, 52, 184, 1, 55]
abbrev dktX1_goes_3 : List UInt8 := dkwX1_goes_3 ++ dktX1_goes_4
def dkwX1_goes_2 : List UInt8 := [180, 0, 57, 180, 1, 23, 21, 6, 46, 19, 1, 26, 160, 0, 6, 167, 0, 64, 42, 180, 0, 156, 43]
abbrev dktX1_goes_2 : List UInt8 := dkwX1_goes_2 ++ dktX1_goes_3
def dkwX1_goes_1 : List UInt8 := [182, 1, 19, 3, 54, 6, 21, 6, 16, 64, 162, 0, 98, 43, 21, 6, 182, 1, 49, 153, 0, 83, 42]
abbrev dktX1_goes_1 : List UInt8 := dkwX1_goes_1 ++ dktX1_goes_2
def dkwX1_goes_0 : List UInt8 := [3, 54, 4, 2, 54, 5, 42, 180, 0, 57, 43, 44, 180, 0, 199, 42, 180, 0, 156, 180, 1, 16, 3]
abbrev dktX1_goes_0 : List UInt8 := dkwX1_goes_0 ++ dktX1_goes_1
theorem dksX1_goes_0 : cX1_goes.data.toList.drop 0 = dktX1_goes_0 := by decide +kernel
theorem dksX1_goes_1 : cX1_goes.data.toList.drop 23 = dktX1_goes_1 := dk_seg dksX1_goes_0 23 rfl rfl
theorem dksX1_goes_2 : cX1_goes.data.toList.drop 46 = dktX1_goes_2 := dk_seg dksX1_goes_1 23 rfl rfl
theorem dksX1_goes_3 : cX1_goes.data.toList.drop 69 = dktX1_goes_3 := dk_seg dksX1_goes_2 23 rfl rfl
theorem dksX1_goes_4 : cX1_goes.data.toList.drop 93 = dktX1_goes_4 := dk_seg dksX1_goes_3 24 rfl rfl
theorem dksX1_goes_5 : cX1_goes.data.toList.drop 117 = dktX1_goes_5 := dk_seg dksX1_goes_4 24 rfl rfl
theorem dksX1_goes_6 : cX1_goes.data.toList.drop 140 = dktX1_goes_6 := dk_seg dksX1_goes_5 23 rfl rfl
theorem dksX1_goes_7 : cX1_goes.data.toList.drop 164 = dktX1_goes_7 := dk_seg dksX1_goes_6 24 rfl rfl
theorem dksX1_goes_8 : cX1_goes.data.toList.drop 188 = dktX1_goes_8 := dk_seg dksX1_goes_7 24 rfl rfl
theorem dksX1_goes_9 : cX1_goes.data.toList.drop 211 = dktX1_goes_9 := dk_seg dksX1_goes_8 23 rfl rfl
theorem dksX1_goes_10 : cX1_goes.data.toList.drop 234 = dktX1_goes_10 := dk_seg dksX1_goes_9 23 rfl rfl
theorem dksX1_goes_11 : cX1_goes.data.toList.drop 256 = dktX1_goes_11 := dk_seg dksX1_goes_10 22 rfl rfl
theorem dX1_goes_0 : decode cX1_goes 0 = .ok (.iconst 0, 1) := dk_3 (dk_at dksX1_goes_0 0 rfl rfl)
theorem dX1_goes_1 : decode cX1_goes 1 = .ok (.istore 4, 2) := dk_54 4 (dk_at dksX1_goes_0 1 rfl rfl)
theorem dX1_goes_3 : decode cX1_goes 3 = .ok (.iconst (-1), 1) := dk_2 (dk_at dksX1_goes_0 3 rfl rfl)
theorem dX1_goes_4 : decode cX1_goes 4 = .ok (.istore 5, 2) := dk_54 5 (dk_at dksX1_goes_0 4 rfl rfl)
theorem dX1_goes_6 : decode cX1_goes 6 = .ok (.aload_n 0, 1) := dk_42 (dk_at dksX1_goes_0 6 rfl rfl)
theorem dX1_goes_7 : decode cX1_goes 7 = .ok (.getfield 57, 3) := dk_180 0 57 (dk_at dksX1_goes_0 7 rfl rfl)
theorem dX1_goes_10 : decode cX1_goes 10 = .ok (.aload_n 1, 1) := dk_43 (dk_at dksX1_goes_0 10 rfl rfl)
theorem dX1_goes_11 : decode cX1_goes 11 = .ok (.aload_n 2, 1) := dk_44 (dk_at dksX1_goes_0 11 rfl rfl)
theorem dX1_goes_12 : decode cX1_goes 12 = .ok (.getfield 199, 3) := dk_180 0 199 (dk_at dksX1_goes_0 12 rfl rfl)
theorem dX1_goes_15 : decode cX1_goes 15 = .ok (.aload_n 0, 1) := dk_42 (dk_at dksX1_goes_0 15 rfl rfl)
theorem dX1_goes_16 : decode cX1_goes 16 = .ok (.getfield 156, 3) := dk_180 0 156 (dk_at dksX1_goes_0 16 rfl rfl)
theorem dX1_goes_19 : decode cX1_goes 19 = .ok (.getfield 272, 3) := dk_180 1 16 (dk_at dksX1_goes_0 19 rfl rfl)
theorem dX1_goes_22 : decode cX1_goes 22 = .ok (.iconst 0, 1) := dk_3 (dk_at dksX1_goes_0 22 rfl rfl)
theorem dX1_goes_23 : decode cX1_goes 23 = .ok (.invokevirtual 275, 3) := dk_182 1 19 (dk_at dksX1_goes_1 0 rfl rfl)
theorem dX1_goes_26 : decode cX1_goes 26 = .ok (.iconst 0, 1) := dk_3 (dk_at dksX1_goes_1 3 rfl rfl)
theorem dX1_goes_27 : decode cX1_goes 27 = .ok (.istore 6, 2) := dk_54 6 (dk_at dksX1_goes_1 4 rfl rfl)
theorem dX1_goes_29 : decode cX1_goes 29 = .ok (.iload 6, 2) := dk_21 6 (dk_at dksX1_goes_1 6 rfl rfl)
theorem dX1_goes_31 : decode cX1_goes 31 = .ok (.bipush 64, 2) := dk_16 64 (dk_at dksX1_goes_1 8 rfl rfl)
theorem dX1_goes_33 : decode cX1_goes 33 = .ok (.if_icmp .ge 98, 3) := dk_162 0 98 (dk_at dksX1_goes_1 10 rfl rfl)
theorem dX1_goes_36 : decode cX1_goes 36 = .ok (.aload_n 1, 1) := dk_43 (dk_at dksX1_goes_1 13 rfl rfl)
theorem dX1_goes_37 : decode cX1_goes 37 = .ok (.iload 6, 2) := dk_21 6 (dk_at dksX1_goes_1 14 rfl rfl)
theorem dX1_goes_39 : decode cX1_goes 39 = .ok (.invokevirtual 305, 3) := dk_182 1 49 (dk_at dksX1_goes_1 16 rfl rfl)
theorem dX1_goes_42 : decode cX1_goes 42 = .ok (.ifCond .eq 83, 3) := dk_153 0 83 (dk_at dksX1_goes_1 19 rfl rfl)
theorem dX1_goes_45 : decode cX1_goes 45 = .ok (.aload_n 0, 1) := dk_42 (dk_at dksX1_goes_1 22 rfl rfl)
theorem dX1_goes_46 : decode cX1_goes 46 = .ok (.getfield 57, 3) := dk_180 0 57 (dk_at dksX1_goes_2 0 rfl rfl)
theorem dX1_goes_49 : decode cX1_goes 49 = .ok (.getfield 279, 3) := dk_180 1 23 (dk_at dksX1_goes_2 3 rfl rfl)
theorem dX1_goes_52 : decode cX1_goes 52 = .ok (.iload 6, 2) := dk_21 6 (dk_at dksX1_goes_2 6 rfl rfl)
theorem dX1_goes_54 : decode cX1_goes 54 = .ok (.iaload, 1) := dk_46 (dk_at dksX1_goes_2 8 rfl rfl)
theorem dX1_goes_55 : decode cX1_goes 55 = .ok (.ldc_w 282, 3) := dk_19 1 26 (dk_at dksX1_goes_2 9 rfl rfl)
theorem dX1_goes_58 : decode cX1_goes 58 = .ok (.if_icmp .ne 6, 3) := dk_160 0 6 (dk_at dksX1_goes_2 12 rfl rfl)
theorem dX1_goes_61 : decode cX1_goes 61 = .ok (.goto 64, 3) := dk_167 0 64 (dk_at dksX1_goes_2 15 rfl rfl)
theorem dX1_goes_64 : decode cX1_goes 64 = .ok (.aload_n 0, 1) := dk_42 (dk_at dksX1_goes_2 18 rfl rfl)
theorem dX1_goes_65 : decode cX1_goes 65 = .ok (.getfield 156, 3) := dk_180 0 156 (dk_at dksX1_goes_2 19 rfl rfl)
theorem dX1_goes_68 : decode cX1_goes 68 = .ok (.aload_n 1, 1) := dk_43 (dk_at dksX1_goes_2 22 rfl rfl)
theorem dX1_goes_69 : decode cX1_goes 69 = .ok (.getfield 224, 3) := dk_180 0 224 (dk_at dksX1_goes_3 0 rfl rfl)
theorem dX1_goes_72 : decode cX1_goes 72 = .ok (.iload 6, 2) := dk_21 6 (dk_at dksX1_goes_3 3 rfl rfl)
theorem dX1_goes_74 : decode cX1_goes 74 = .ok (.iaload, 1) := dk_46 (dk_at dksX1_goes_3 5 rfl rfl)
theorem dX1_goes_75 : decode cX1_goes 75 = .ok (.iload_n 3, 1) := dk_29 (dk_at dksX1_goes_3 6 rfl rfl)
theorem dX1_goes_76 : decode cX1_goes 76 = .ok (.invokevirtual 256, 3) := dk_182 1 0 (dk_at dksX1_goes_3 7 rfl rfl)
theorem dX1_goes_79 : decode cX1_goes 79 = .ok (.aload_n 1, 1) := dk_43 (dk_at dksX1_goes_3 10 rfl rfl)
theorem dX1_goes_80 : decode cX1_goes 80 = .ok (.getfield 186, 3) := dk_180 0 186 (dk_at dksX1_goes_3 11 rfl rfl)
theorem dX1_goes_83 : decode cX1_goes 83 = .ok (.iload 6, 2) := dk_21 6 (dk_at dksX1_goes_3 14 rfl rfl)
theorem dX1_goes_85 : decode cX1_goes 85 = .ok (.iaload, 1) := dk_46 (dk_at dksX1_goes_3 16 rfl rfl)
theorem dX1_goes_86 : decode cX1_goes 86 = .ok (.aload_n 2, 1) := dk_44 (dk_at dksX1_goes_3 17 rfl rfl)
theorem dX1_goes_87 : decode cX1_goes 87 = .ok (.getfield 308, 3) := dk_180 1 52 (dk_at dksX1_goes_3 18 rfl rfl)
theorem dX1_goes_90 : decode cX1_goes 90 = .ok (.invokestatic 311, 3) := dk_184 1 55 (dk_at dksX1_goes_3 21 rfl rfl)
theorem dX1_goes_93 : decode cX1_goes 93 = .ok (.imul, 1) := dk_104 (dk_at dksX1_goes_4 0 rfl rfl)
theorem dX1_goes_94 : decode cX1_goes 94 = .ok (.aload_n 0, 1) := dk_42 (dk_at dksX1_goes_4 1 rfl rfl)
theorem dX1_goes_95 : decode cX1_goes 95 = .ok (.getfield 57, 3) := dk_180 0 57 (dk_at dksX1_goes_4 2 rfl rfl)
theorem dX1_goes_98 : decode cX1_goes 98 = .ok (.getfield 279, 3) := dk_180 1 23 (dk_at dksX1_goes_4 5 rfl rfl)
theorem dX1_goes_101 : decode cX1_goes 101 = .ok (.iload 6, 2) := dk_21 6 (dk_at dksX1_goes_4 8 rfl rfl)
theorem dX1_goes_103 : decode cX1_goes 103 = .ok (.iaload, 1) := dk_46 (dk_at dksX1_goes_4 10 rfl rfl)
theorem dX1_goes_104 : decode cX1_goes 104 = .ok (.isub, 1) := dk_100 (dk_at dksX1_goes_4 11 rfl rfl)
theorem dX1_goes_105 : decode cX1_goes 105 = .ok (.istore 7, 2) := dk_54 7 (dk_at dksX1_goes_4 12 rfl rfl)
theorem dX1_goes_107 : decode cX1_goes 107 = .ok (.iload 7, 2) := dk_21 7 (dk_at dksX1_goes_4 14 rfl rfl)
theorem dX1_goes_109 : decode cX1_goes 109 = .ok (.iload 4, 2) := dk_21 4 (dk_at dksX1_goes_4 16 rfl rfl)
theorem dX1_goes_111 : decode cX1_goes 111 = .ok (.if_icmp .gt 6, 3) := dk_163 0 6 (dk_at dksX1_goes_4 18 rfl rfl)
theorem dX1_goes_114 : decode cX1_goes 114 = .ok (.goto 11, 3) := dk_167 0 11 (dk_at dksX1_goes_4 21 rfl rfl)
theorem dX1_goes_117 : decode cX1_goes 117 = .ok (.iload 7, 2) := dk_21 7 (dk_at dksX1_goes_5 0 rfl rfl)
theorem dX1_goes_119 : decode cX1_goes 119 = .ok (.istore 4, 2) := dk_54 4 (dk_at dksX1_goes_5 2 rfl rfl)
theorem dX1_goes_121 : decode cX1_goes 121 = .ok (.iload 6, 2) := dk_21 6 (dk_at dksX1_goes_5 4 rfl rfl)
theorem dX1_goes_123 : decode cX1_goes 123 = .ok (.istore 5, 2) := dk_54 5 (dk_at dksX1_goes_5 6 rfl rfl)
theorem dX1_goes_125 : decode cX1_goes 125 = .ok (.iinc 6 1, 3) := dk_132 6 1 (dk_at dksX1_goes_5 8 rfl rfl)
theorem dX1_goes_128 : decode cX1_goes 128 = .ok (.goto (-99), 3) := dk_167 255 157 (dk_at dksX1_goes_5 11 rfl rfl)
theorem dX1_goes_131 : decode cX1_goes 131 = .ok (.iload 5, 2) := dk_21 5 (dk_at dksX1_goes_5 14 rfl rfl)
theorem dX1_goes_133 : decode cX1_goes 133 = .ok (.iconst (-1), 1) := dk_2 (dk_at dksX1_goes_5 16 rfl rfl)
theorem dX1_goes_134 : decode cX1_goes 134 = .ok (.if_icmp .ne 5, 3) := dk_160 0 5 (dk_at dksX1_goes_5 17 rfl rfl)
theorem dX1_goes_137 : decode cX1_goes 137 = .ok (.iconst 0, 1) := dk_3 (dk_at dksX1_goes_5 20 rfl rfl)
theorem dX1_goes_138 : decode cX1_goes 138 = .ok (.ireturn, 1) := dk_172 (dk_at dksX1_goes_5 21 rfl rfl)
theorem dX1_goes_139 : decode cX1_goes 139 = .ok (.aload_n 0, 1) := dk_42 (dk_at dksX1_goes_5 22 rfl rfl)
theorem dX1_goes_140 : decode cX1_goes 140 = .ok (.getfield 57, 3) := dk_180 0 57 (dk_at dksX1_goes_6 0 rfl rfl)
theorem dX1_goes_143 : decode cX1_goes 143 = .ok (.aload_n 1, 1) := dk_43 (dk_at dksX1_goes_6 3 rfl rfl)
theorem dX1_goes_144 : decode cX1_goes 144 = .ok (.aload_n 2, 1) := dk_44 (dk_at dksX1_goes_6 4 rfl rfl)
theorem dX1_goes_145 : decode cX1_goes 145 = .ok (.getfield 199, 3) := dk_180 0 199 (dk_at dksX1_goes_6 5 rfl rfl)
theorem dX1_goes_148 : decode cX1_goes 148 = .ok (.iload 5, 2) := dk_21 5 (dk_at dksX1_goes_6 8 rfl rfl)
theorem dX1_goes_150 : decode cX1_goes 150 = .ok (.aload_n 0, 1) := dk_42 (dk_at dksX1_goes_6 10 rfl rfl)
theorem dX1_goes_151 : decode cX1_goes 151 = .ok (.getfield 156, 3) := dk_180 0 156 (dk_at dksX1_goes_6 11 rfl rfl)
theorem dX1_goes_154 : decode cX1_goes 154 = .ok (.getfield 272, 3) := dk_180 1 16 (dk_at dksX1_goes_6 14 rfl rfl)
theorem dX1_goes_157 : decode cX1_goes 157 = .ok (.invokevirtual 283, 3) := dk_182 1 27 (dk_at dksX1_goes_6 17 rfl rfl)
theorem dX1_goes_160 : decode cX1_goes 160 = .ok (.iconst 0, 1) := dk_3 (dk_at dksX1_goes_6 20 rfl rfl)
theorem dX1_goes_161 : decode cX1_goes 161 = .ok (.istore 6, 2) := dk_54 6 (dk_at dksX1_goes_6 21 rfl rfl)
theorem dX1_goes_163 : decode cX1_goes 163 = .ok (.iconst 1, 1) := dk_4 (dk_at dksX1_goes_6 23 rfl rfl)
theorem dX1_goes_164 : decode cX1_goes 164 = .ok (.istore 7, 2) := dk_54 7 (dk_at dksX1_goes_7 0 rfl rfl)
theorem dX1_goes_166 : decode cX1_goes 166 = .ok (.iload 7, 2) := dk_21 7 (dk_at dksX1_goes_7 2 rfl rfl)
theorem dX1_goes_168 : decode cX1_goes 168 = .ok (.aload_n 0, 1) := dk_42 (dk_at dksX1_goes_7 4 rfl rfl)
theorem dX1_goes_169 : decode cX1_goes 169 = .ok (.getfield 57, 3) := dk_180 0 57 (dk_at dksX1_goes_7 5 rfl rfl)
theorem dX1_goes_172 : decode cX1_goes 172 = .ok (.getfield 287, 3) := dk_180 1 31 (dk_at dksX1_goes_7 8 rfl rfl)
theorem dX1_goes_175 : decode cX1_goes 175 = .ok (.if_icmp .ge 71, 3) := dk_162 0 71 (dk_at dksX1_goes_7 11 rfl rfl)
theorem dX1_goes_178 : decode cX1_goes 178 = .ok (.aload_n 1, 1) := dk_43 (dk_at dksX1_goes_7 14 rfl rfl)
theorem dX1_goes_179 : decode cX1_goes 179 = .ok (.aload_n 0, 1) := dk_42 (dk_at dksX1_goes_7 15 rfl rfl)
theorem dX1_goes_180 : decode cX1_goes 180 = .ok (.getfield 57, 3) := dk_180 0 57 (dk_at dksX1_goes_7 16 rfl rfl)
theorem dX1_goes_183 : decode cX1_goes 183 = .ok (.getfield 290, 3) := dk_180 1 34 (dk_at dksX1_goes_7 19 rfl rfl)
theorem dX1_goes_186 : decode cX1_goes 186 = .ok (.iload 7, 2) := dk_21 7 (dk_at dksX1_goes_7 22 rfl rfl)
theorem dX1_goes_188 : decode cX1_goes 188 = .ok (.iconst 1, 1) := dk_4 (dk_at dksX1_goes_8 0 rfl rfl)
theorem dX1_goes_189 : decode cX1_goes 189 = .ok (.isub, 1) := dk_100 (dk_at dksX1_goes_8 1 rfl rfl)
theorem dX1_goes_190 : decode cX1_goes 190 = .ok (.iaload, 1) := dk_46 (dk_at dksX1_goes_8 2 rfl rfl)
theorem dX1_goes_191 : decode cX1_goes 191 = .ok (.aload_n 0, 1) := dk_42 (dk_at dksX1_goes_8 3 rfl rfl)
theorem dX1_goes_192 : decode cX1_goes 192 = .ok (.getfield 57, 3) := dk_180 0 57 (dk_at dksX1_goes_8 4 rfl rfl)
theorem dX1_goes_195 : decode cX1_goes 195 = .ok (.getfield 290, 3) := dk_180 1 34 (dk_at dksX1_goes_8 7 rfl rfl)
theorem dX1_goes_198 : decode cX1_goes 198 = .ok (.iload 7, 2) := dk_21 7 (dk_at dksX1_goes_8 10 rfl rfl)
theorem dX1_goes_200 : decode cX1_goes 200 = .ok (.iaload, 1) := dk_46 (dk_at dksX1_goes_8 12 rfl rfl)
theorem dX1_goes_201 : decode cX1_goes 201 = .ok (.iconst 0, 1) := dk_3 (dk_at dksX1_goes_8 13 rfl rfl)
theorem dX1_goes_202 : decode cX1_goes 202 = .ok (.invokevirtual 234, 3) := dk_182 0 234 (dk_at dksX1_goes_8 14 rfl rfl)
theorem dX1_goes_205 : decode cX1_goes 205 = .ok (.iload 7, 2) := dk_21 7 (dk_at dksX1_goes_8 17 rfl rfl)
theorem dX1_goes_207 : decode cX1_goes 207 = .ok (.aload_n 0, 1) := dk_42 (dk_at dksX1_goes_8 19 rfl rfl)
theorem dX1_goes_208 : decode cX1_goes 208 = .ok (.getfield 57, 3) := dk_180 0 57 (dk_at dksX1_goes_8 20 rfl rfl)
theorem dX1_goes_211 : decode cX1_goes 211 = .ok (.getfield 287, 3) := dk_180 1 31 (dk_at dksX1_goes_9 0 rfl rfl)
theorem dX1_goes_214 : decode cX1_goes 214 = .ok (.iconst 1, 1) := dk_4 (dk_at dksX1_goes_9 3 rfl rfl)
theorem dX1_goes_215 : decode cX1_goes 215 = .ok (.isub, 1) := dk_100 (dk_at dksX1_goes_9 4 rfl rfl)
theorem dX1_goes_216 : decode cX1_goes 216 = .ok (.if_icmp .ge 24, 3) := dk_162 0 24 (dk_at dksX1_goes_9 5 rfl rfl)
theorem dX1_goes_219 : decode cX1_goes 219 = .ok (.iload 6, 2) := dk_21 6 (dk_at dksX1_goes_9 8 rfl rfl)
theorem dX1_goes_221 : decode cX1_goes 221 = .ok (.aload_n 0, 1) := dk_42 (dk_at dksX1_goes_9 10 rfl rfl)
theorem dX1_goes_222 : decode cX1_goes 222 = .ok (.aload_n 1, 1) := dk_43 (dk_at dksX1_goes_9 11 rfl rfl)
theorem dX1_goes_223 : decode cX1_goes 223 = .ok (.aload_n 0, 1) := dk_42 (dk_at dksX1_goes_9 12 rfl rfl)
theorem dX1_goes_224 : decode cX1_goes 224 = .ok (.getfield 57, 3) := dk_180 0 57 (dk_at dksX1_goes_9 13 rfl rfl)
theorem dX1_goes_227 : decode cX1_goes 227 = .ok (.getfield 290, 3) := dk_180 1 34 (dk_at dksX1_goes_9 16 rfl rfl)
theorem dX1_goes_230 : decode cX1_goes 230 = .ok (.iload 7, 2) := dk_21 7 (dk_at dksX1_goes_9 19 rfl rfl)
theorem dX1_goes_232 : decode cX1_goes 232 = .ok (.iaload, 1) := dk_46 (dk_at dksX1_goes_9 21 rfl rfl)
theorem dX1_goes_233 : decode cX1_goes 233 = .ok (.iconst 5, 1) := dk_8 (dk_at dksX1_goes_9 22 rfl rfl)
theorem dX1_goes_234 : decode cX1_goes 234 = .ok (.invokevirtual 314, 3) := dk_182 1 58 (dk_at dksX1_goes_10 0 rfl rfl)
theorem dX1_goes_237 : decode cX1_goes 237 = .ok (.iadd, 1) := dk_96 (dk_at dksX1_goes_10 3 rfl rfl)
theorem dX1_goes_238 : decode cX1_goes 238 = .ok (.istore 6, 2) := dk_54 6 (dk_at dksX1_goes_10 4 rfl rfl)
theorem dX1_goes_240 : decode cX1_goes 240 = .ok (.iinc 7 1, 3) := dk_132 7 1 (dk_at dksX1_goes_10 6 rfl rfl)
theorem dX1_goes_243 : decode cX1_goes 243 = .ok (.goto (-77), 3) := dk_167 255 179 (dk_at dksX1_goes_10 9 rfl rfl)
theorem dX1_goes_246 : decode cX1_goes 246 = .ok (.iload 6, 2) := dk_21 6 (dk_at dksX1_goes_10 12 rfl rfl)
theorem dX1_goes_248 : decode cX1_goes 248 = .ok (.aload_n 0, 1) := dk_42 (dk_at dksX1_goes_10 14 rfl rfl)
theorem dX1_goes_249 : decode cX1_goes 249 = .ok (.aload_n 1, 1) := dk_43 (dk_at dksX1_goes_10 15 rfl rfl)
theorem dX1_goes_250 : decode cX1_goes 250 = .ok (.iload 5, 2) := dk_21 5 (dk_at dksX1_goes_10 16 rfl rfl)
theorem dX1_goes_252 : decode cX1_goes 252 = .ok (.aload_n 2, 1) := dk_44 (dk_at dksX1_goes_10 18 rfl rfl)
theorem dX1_goes_253 : decode cX1_goes 253 = .ok (.getfield 308, 3) := dk_180 1 52 (dk_at dksX1_goes_10 19 rfl rfl)
theorem dX1_goes_256 : decode cX1_goes 256 = .ok (.invokevirtual 314, 3) := dk_182 1 58 (dk_at dksX1_goes_11 0 rfl rfl)
theorem dX1_goes_259 : decode cX1_goes 259 = .ok (.iadd, 1) := dk_96 (dk_at dksX1_goes_11 3 rfl rfl)
theorem dX1_goes_260 : decode cX1_goes 260 = .ok (.ireturn, 1) := dk_172 (dk_at dksX1_goes_11 4 rfl rfl)
def dkwX1_harms_1 : List UInt8 := [43, 180, 0, 222, 28, 46, 92, 46, 21, 4, 96, 79, 21, 4, 172]
abbrev dktX1_harms_1 : List UInt8 := dkwX1_harms_1 ++ []
def dkwX1_harms_0 : List UInt8 := [43, 180, 0, 183, 28, 46, 5, 159, 0, 5, 3, 172, 43, 28, 29, 182, 1, 62, 54, 4, 42, 180, 0, 121]
abbrev dktX1_harms_0 : List UInt8 := dkwX1_harms_0 ++ dktX1_harms_1
theorem dksX1_harms_0 : cX1_harms.data.toList.drop 0 = dktX1_harms_0 := by decide +kernel
theorem dksX1_harms_1 : cX1_harms.data.toList.drop 24 = dktX1_harms_1 := dk_seg dksX1_harms_0 24 rfl rfl
theorem dX1_harms_0 : decode cX1_harms 0 = .ok (.aload_n 1, 1) := dk_43 (dk_at dksX1_harms_0 0 rfl rfl)
theorem dX1_harms_1 : decode cX1_harms 1 = .ok (.getfield 183, 3) := dk_180 0 183 (dk_at dksX1_harms_0 1 rfl rfl)
theorem dX1_harms_4 : decode cX1_harms 4 = .ok (.iload_n 2, 1) := dk_28 (dk_at dksX1_harms_0 4 rfl rfl)
theorem dX1_harms_5 : decode cX1_harms 5 = .ok (.iaload, 1) := dk_46 (dk_at dksX1_harms_0 5 rfl rfl)
theorem dX1_harms_6 : decode cX1_harms 6 = .ok (.iconst 2, 1) := dk_5 (dk_at dksX1_harms_0 6 rfl rfl)
theorem dX1_harms_7 : decode cX1_harms 7 = .ok (.if_icmp .eq 5, 3) := dk_159 0 5 (dk_at dksX1_harms_0 7 rfl rfl)
theorem dX1_harms_10 : decode cX1_harms 10 = .ok (.iconst 0, 1) := dk_3 (dk_at dksX1_harms_0 10 rfl rfl)
theorem dX1_harms_11 : decode cX1_harms 11 = .ok (.ireturn, 1) := dk_172 (dk_at dksX1_harms_0 11 rfl rfl)
theorem dX1_harms_12 : decode cX1_harms 12 = .ok (.aload_n 1, 1) := dk_43 (dk_at dksX1_harms_0 12 rfl rfl)
theorem dX1_harms_13 : decode cX1_harms 13 = .ok (.iload_n 2, 1) := dk_28 (dk_at dksX1_harms_0 13 rfl rfl)
theorem dX1_harms_14 : decode cX1_harms 14 = .ok (.iload_n 3, 1) := dk_29 (dk_at dksX1_harms_0 14 rfl rfl)
theorem dX1_harms_15 : decode cX1_harms 15 = .ok (.invokevirtual 318, 3) := dk_182 1 62 (dk_at dksX1_harms_0 15 rfl rfl)
theorem dX1_harms_18 : decode cX1_harms 18 = .ok (.istore 4, 2) := dk_54 4 (dk_at dksX1_harms_0 18 rfl rfl)
theorem dX1_harms_20 : decode cX1_harms 20 = .ok (.aload_n 0, 1) := dk_42 (dk_at dksX1_harms_0 20 rfl rfl)
theorem dX1_harms_21 : decode cX1_harms 21 = .ok (.getfield 121, 3) := dk_180 0 121 (dk_at dksX1_harms_0 21 rfl rfl)
theorem dX1_harms_24 : decode cX1_harms 24 = .ok (.aload_n 1, 1) := dk_43 (dk_at dksX1_harms_1 0 rfl rfl)
theorem dX1_harms_25 : decode cX1_harms 25 = .ok (.getfield 222, 3) := dk_180 0 222 (dk_at dksX1_harms_1 1 rfl rfl)
theorem dX1_harms_28 : decode cX1_harms 28 = .ok (.iload_n 2, 1) := dk_28 (dk_at dksX1_harms_1 4 rfl rfl)
theorem dX1_harms_29 : decode cX1_harms 29 = .ok (.iaload, 1) := dk_46 (dk_at dksX1_harms_1 5 rfl rfl)
theorem dX1_harms_30 : decode cX1_harms 30 = .ok (.dup2, 1) := dk_92 (dk_at dksX1_harms_1 6 rfl rfl)
theorem dX1_harms_31 : decode cX1_harms 31 = .ok (.iaload, 1) := dk_46 (dk_at dksX1_harms_1 7 rfl rfl)
theorem dX1_harms_32 : decode cX1_harms 32 = .ok (.iload 4, 2) := dk_21 4 (dk_at dksX1_harms_1 8 rfl rfl)
theorem dX1_harms_34 : decode cX1_harms 34 = .ok (.iadd, 1) := dk_96 (dk_at dksX1_harms_1 10 rfl rfl)
theorem dX1_harms_35 : decode cX1_harms 35 = .ok (.iastore, 1) := dk_79 (dk_at dksX1_harms_1 11 rfl rfl)
theorem dX1_harms_36 : decode cX1_harms 36 = .ok (.iload 4, 2) := dk_21 4 (dk_at dksX1_harms_1 12 rfl rfl)
theorem dX1_harms_38 : decode cX1_harms 38 = .ok (.ireturn, 1) := dk_172 (dk_at dksX1_harms_1 14 rfl rfl)
def dkwX1_foretells_3 : List UInt8 := [180, 1, 76, 182, 1, 79, 132, 3, 1, 167, 255, 217, 28, 172]
abbrev dktX1_foretells_3 : List UInt8 := dkwX1_foretells_3 ++ []
def dkwX1_foretells_2 : List UInt8 := [42, 42, 180, 0, 48, 42, 180, 1, 69, 29, 96, 182, 1, 72, 96, 61, 42, 180, 0, 48, 42, 180, 0, 156]
abbrev dktX1_foretells_2 : List UInt8 := dkwX1_foretells_2 ++ dktX1_foretells_3
def dkwX1_foretells_1 : List UInt8 := [132, 2, 1, 167, 255, 240, 42, 42, 180, 0, 48, 182, 1, 65, 3, 61, 3, 62, 29, 27, 162, 0, 40, 28]
abbrev dktX1_foretells_1 : List UInt8 := dkwX1_foretells_1 ++ dktX1_foretells_2
def dkwX1_foretells_0 : List UInt8 := [42, 42, 180, 0, 124, 181, 0, 121, 3, 61, 28, 16, 10, 162, 0, 16, 42, 180, 0, 121, 28, 3, 79]
abbrev dktX1_foretells_0 : List UInt8 := dkwX1_foretells_0 ++ dktX1_foretells_1
theorem dksX1_foretells_0 : cX1_foretells.data.toList.drop 0 = dktX1_foretells_0 := by decide +kernel
theorem dksX1_foretells_1 : cX1_foretells.data.toList.drop 23 = dktX1_foretells_1 := dk_seg dksX1_foretells_0 23 rfl rfl
theorem dksX1_foretells_2 : cX1_foretells.data.toList.drop 47 = dktX1_foretells_2 := dk_seg dksX1_foretells_1 24 rfl rfl
theorem dksX1_foretells_3 : cX1_foretells.data.toList.drop 71 = dktX1_foretells_3 := dk_seg dksX1_foretells_2 24 rfl rfl
theorem dX1_foretells_0 : decode cX1_foretells 0 = .ok (.aload_n 0, 1) := dk_42 (dk_at dksX1_foretells_0 0 rfl rfl)
theorem dX1_foretells_1 : decode cX1_foretells 1 = .ok (.aload_n 0, 1) := dk_42 (dk_at dksX1_foretells_0 1 rfl rfl)
theorem dX1_foretells_2 : decode cX1_foretells 2 = .ok (.getfield 124, 3) := dk_180 0 124 (dk_at dksX1_foretells_0 2 rfl rfl)
theorem dX1_foretells_5 : decode cX1_foretells 5 = .ok (.putfield 121, 3) := dk_181 0 121 (dk_at dksX1_foretells_0 5 rfl rfl)
theorem dX1_foretells_8 : decode cX1_foretells 8 = .ok (.iconst 0, 1) := dk_3 (dk_at dksX1_foretells_0 8 rfl rfl)
theorem dX1_foretells_9 : decode cX1_foretells 9 = .ok (.istore_n 2, 1) := dk_61 (dk_at dksX1_foretells_0 9 rfl rfl)
theorem dX1_foretells_10 : decode cX1_foretells 10 = .ok (.iload_n 2, 1) := dk_28 (dk_at dksX1_foretells_0 10 rfl rfl)
theorem dX1_foretells_11 : decode cX1_foretells 11 = .ok (.bipush 10, 2) := dk_16 10 (dk_at dksX1_foretells_0 11 rfl rfl)
theorem dX1_foretells_13 : decode cX1_foretells 13 = .ok (.if_icmp .ge 16, 3) := dk_162 0 16 (dk_at dksX1_foretells_0 13 rfl rfl)
theorem dX1_foretells_16 : decode cX1_foretells 16 = .ok (.aload_n 0, 1) := dk_42 (dk_at dksX1_foretells_0 16 rfl rfl)
theorem dX1_foretells_17 : decode cX1_foretells 17 = .ok (.getfield 121, 3) := dk_180 0 121 (dk_at dksX1_foretells_0 17 rfl rfl)
theorem dX1_foretells_20 : decode cX1_foretells 20 = .ok (.iload_n 2, 1) := dk_28 (dk_at dksX1_foretells_0 20 rfl rfl)
theorem dX1_foretells_21 : decode cX1_foretells 21 = .ok (.iconst 0, 1) := dk_3 (dk_at dksX1_foretells_0 21 rfl rfl)
theorem dX1_foretells_22 : decode cX1_foretells 22 = .ok (.iastore, 1) := dk_79 (dk_at dksX1_foretells_0 22 rfl rfl)
theorem dX1_foretells_23 : decode cX1_foretells 23 = .ok (.iinc 2 1, 3) := dk_132 2 1 (dk_at dksX1_foretells_1 0 rfl rfl)
theorem dX1_foretells_26 : decode cX1_foretells 26 = .ok (.goto (-16), 3) := dk_167 255 240 (dk_at dksX1_foretells_1 3 rfl rfl)
theorem dX1_foretells_29 : decode cX1_foretells 29 = .ok (.aload_n 0, 1) := dk_42 (dk_at dksX1_foretells_1 6 rfl rfl)
theorem dX1_foretells_30 : decode cX1_foretells 30 = .ok (.aload_n 0, 1) := dk_42 (dk_at dksX1_foretells_1 7 rfl rfl)
theorem dX1_foretells_31 : decode cX1_foretells 31 = .ok (.getfield 48, 3) := dk_180 0 48 (dk_at dksX1_foretells_1 8 rfl rfl)
theorem dX1_foretells_34 : decode cX1_foretells 34 = .ok (.invokevirtual 321, 3) := dk_182 1 65 (dk_at dksX1_foretells_1 11 rfl rfl)
theorem dX1_foretells_37 : decode cX1_foretells 37 = .ok (.iconst 0, 1) := dk_3 (dk_at dksX1_foretells_1 14 rfl rfl)
theorem dX1_foretells_38 : decode cX1_foretells 38 = .ok (.istore_n 2, 1) := dk_61 (dk_at dksX1_foretells_1 15 rfl rfl)
theorem dX1_foretells_39 : decode cX1_foretells 39 = .ok (.iconst 0, 1) := dk_3 (dk_at dksX1_foretells_1 16 rfl rfl)
theorem dX1_foretells_40 : decode cX1_foretells 40 = .ok (.istore_n 3, 1) := dk_62 (dk_at dksX1_foretells_1 17 rfl rfl)
theorem dX1_foretells_41 : decode cX1_foretells 41 = .ok (.iload_n 3, 1) := dk_29 (dk_at dksX1_foretells_1 18 rfl rfl)
theorem dX1_foretells_42 : decode cX1_foretells 42 = .ok (.iload_n 1, 1) := dk_27 (dk_at dksX1_foretells_1 19 rfl rfl)
theorem dX1_foretells_43 : decode cX1_foretells 43 = .ok (.if_icmp .ge 40, 3) := dk_162 0 40 (dk_at dksX1_foretells_1 20 rfl rfl)
theorem dX1_foretells_46 : decode cX1_foretells 46 = .ok (.iload_n 2, 1) := dk_28 (dk_at dksX1_foretells_1 23 rfl rfl)
theorem dX1_foretells_47 : decode cX1_foretells 47 = .ok (.aload_n 0, 1) := dk_42 (dk_at dksX1_foretells_2 0 rfl rfl)
theorem dX1_foretells_48 : decode cX1_foretells 48 = .ok (.aload_n 0, 1) := dk_42 (dk_at dksX1_foretells_2 1 rfl rfl)
theorem dX1_foretells_49 : decode cX1_foretells 49 = .ok (.getfield 48, 3) := dk_180 0 48 (dk_at dksX1_foretells_2 2 rfl rfl)
theorem dX1_foretells_52 : decode cX1_foretells 52 = .ok (.aload_n 0, 1) := dk_42 (dk_at dksX1_foretells_2 5 rfl rfl)
theorem dX1_foretells_53 : decode cX1_foretells 53 = .ok (.getfield 325, 3) := dk_180 1 69 (dk_at dksX1_foretells_2 6 rfl rfl)
theorem dX1_foretells_56 : decode cX1_foretells 56 = .ok (.iload_n 3, 1) := dk_29 (dk_at dksX1_foretells_2 9 rfl rfl)
theorem dX1_foretells_57 : decode cX1_foretells 57 = .ok (.iadd, 1) := dk_96 (dk_at dksX1_foretells_2 10 rfl rfl)
theorem dX1_foretells_58 : decode cX1_foretells 58 = .ok (.invokevirtual 328, 3) := dk_182 1 72 (dk_at dksX1_foretells_2 11 rfl rfl)
theorem dX1_foretells_61 : decode cX1_foretells 61 = .ok (.iadd, 1) := dk_96 (dk_at dksX1_foretells_2 14 rfl rfl)
theorem dX1_foretells_62 : decode cX1_foretells 62 = .ok (.istore_n 2, 1) := dk_61 (dk_at dksX1_foretells_2 15 rfl rfl)
theorem dX1_foretells_63 : decode cX1_foretells 63 = .ok (.aload_n 0, 1) := dk_42 (dk_at dksX1_foretells_2 16 rfl rfl)
theorem dX1_foretells_64 : decode cX1_foretells 64 = .ok (.getfield 48, 3) := dk_180 0 48 (dk_at dksX1_foretells_2 17 rfl rfl)
theorem dX1_foretells_67 : decode cX1_foretells 67 = .ok (.aload_n 0, 1) := dk_42 (dk_at dksX1_foretells_2 20 rfl rfl)
theorem dX1_foretells_68 : decode cX1_foretells 68 = .ok (.getfield 156, 3) := dk_180 0 156 (dk_at dksX1_foretells_2 21 rfl rfl)
theorem dX1_foretells_71 : decode cX1_foretells 71 = .ok (.getfield 332, 3) := dk_180 1 76 (dk_at dksX1_foretells_3 0 rfl rfl)
theorem dX1_foretells_74 : decode cX1_foretells 74 = .ok (.invokevirtual 335, 3) := dk_182 1 79 (dk_at dksX1_foretells_3 3 rfl rfl)
theorem dX1_foretells_77 : decode cX1_foretells 77 = .ok (.iinc 3 1, 3) := dk_132 3 1 (dk_at dksX1_foretells_3 6 rfl rfl)
theorem dX1_foretells_80 : decode cX1_foretells 80 = .ok (.goto (-39), 3) := dk_167 255 217 (dk_at dksX1_foretells_3 9 rfl rfl)
theorem dX1_foretells_83 : decode cX1_foretells 83 = .ok (.iload_n 2, 1) := dk_28 (dk_at dksX1_foretells_3 12 rfl rfl)
theorem dX1_foretells_84 : decode cX1_foretells 84 = .ok (.ireturn, 1) := dk_172 (dk_at dksX1_foretells_3 13 rfl rfl)
def dkwX1_isTold_1 : List UInt8 := [167, 0, 4, 3, 128, 61, 132, 3, 1, 167, 255, 227, 28, 172]
abbrev dktX1_isTold_1 : List UInt8 := dkwX1_isTold_1 ++ []
def dkwX1_isTold_0 : List UInt8 := [3, 61, 3, 62, 29, 42, 180, 1, 40, 162, 0, 27, 28, 42, 180, 0, 88, 29, 46, 27, 160, 0, 7, 4]
abbrev dktX1_isTold_0 : List UInt8 := dkwX1_isTold_0 ++ dktX1_isTold_1
theorem dksX1_isTold_0 : cX1_isTold.data.toList.drop 0 = dktX1_isTold_0 := by decide +kernel
theorem dksX1_isTold_1 : cX1_isTold.data.toList.drop 24 = dktX1_isTold_1 := dk_seg dksX1_isTold_0 24 rfl rfl
theorem dX1_isTold_0 : decode cX1_isTold 0 = .ok (.iconst 0, 1) := dk_3 (dk_at dksX1_isTold_0 0 rfl rfl)
theorem dX1_isTold_1 : decode cX1_isTold 1 = .ok (.istore_n 2, 1) := dk_61 (dk_at dksX1_isTold_0 1 rfl rfl)
theorem dX1_isTold_2 : decode cX1_isTold 2 = .ok (.iconst 0, 1) := dk_3 (dk_at dksX1_isTold_0 2 rfl rfl)
theorem dX1_isTold_3 : decode cX1_isTold 3 = .ok (.istore_n 3, 1) := dk_62 (dk_at dksX1_isTold_0 3 rfl rfl)
theorem dX1_isTold_4 : decode cX1_isTold 4 = .ok (.iload_n 3, 1) := dk_29 (dk_at dksX1_isTold_0 4 rfl rfl)
theorem dX1_isTold_5 : decode cX1_isTold 5 = .ok (.aload_n 0, 1) := dk_42 (dk_at dksX1_isTold_0 5 rfl rfl)
theorem dX1_isTold_6 : decode cX1_isTold 6 = .ok (.getfield 296, 3) := dk_180 1 40 (dk_at dksX1_isTold_0 6 rfl rfl)
theorem dX1_isTold_9 : decode cX1_isTold 9 = .ok (.if_icmp .ge 27, 3) := dk_162 0 27 (dk_at dksX1_isTold_0 9 rfl rfl)
theorem dX1_isTold_12 : decode cX1_isTold 12 = .ok (.iload_n 2, 1) := dk_28 (dk_at dksX1_isTold_0 12 rfl rfl)
theorem dX1_isTold_13 : decode cX1_isTold 13 = .ok (.aload_n 0, 1) := dk_42 (dk_at dksX1_isTold_0 13 rfl rfl)
theorem dX1_isTold_14 : decode cX1_isTold 14 = .ok (.getfield 88, 3) := dk_180 0 88 (dk_at dksX1_isTold_0 14 rfl rfl)
theorem dX1_isTold_17 : decode cX1_isTold 17 = .ok (.iload_n 3, 1) := dk_29 (dk_at dksX1_isTold_0 17 rfl rfl)
theorem dX1_isTold_18 : decode cX1_isTold 18 = .ok (.iaload, 1) := dk_46 (dk_at dksX1_isTold_0 18 rfl rfl)
theorem dX1_isTold_19 : decode cX1_isTold 19 = .ok (.iload_n 1, 1) := dk_27 (dk_at dksX1_isTold_0 19 rfl rfl)
theorem dX1_isTold_20 : decode cX1_isTold 20 = .ok (.if_icmp .ne 7, 3) := dk_160 0 7 (dk_at dksX1_isTold_0 20 rfl rfl)
theorem dX1_isTold_23 : decode cX1_isTold 23 = .ok (.iconst 1, 1) := dk_4 (dk_at dksX1_isTold_0 23 rfl rfl)
theorem dX1_isTold_24 : decode cX1_isTold 24 = .ok (.goto 4, 3) := dk_167 0 4 (dk_at dksX1_isTold_1 0 rfl rfl)
theorem dX1_isTold_27 : decode cX1_isTold 27 = .ok (.iconst 0, 1) := dk_3 (dk_at dksX1_isTold_1 3 rfl rfl)
theorem dX1_isTold_28 : decode cX1_isTold 28 = .ok (.ior, 1) := dk_128 (dk_at dksX1_isTold_1 4 rfl rfl)
theorem dX1_isTold_29 : decode cX1_isTold 29 = .ok (.istore_n 2, 1) := dk_61 (dk_at dksX1_isTold_1 5 rfl rfl)
theorem dX1_isTold_30 : decode cX1_isTold 30 = .ok (.iinc 3 1, 3) := dk_132 3 1 (dk_at dksX1_isTold_1 6 rfl rfl)
theorem dX1_isTold_33 : decode cX1_isTold 33 = .ok (.goto (-29), 3) := dk_167 255 227 (dk_at dksX1_isTold_1 9 rfl rfl)
theorem dX1_isTold_36 : decode cX1_isTold 36 = .ok (.iload_n 2, 1) := dk_28 (dk_at dksX1_isTold_1 12 rfl rfl)
theorem dX1_isTold_37 : decode cX1_isTold 37 = .ok (.ireturn, 1) := dk_172 (dk_at dksX1_isTold_1 13 rfl rfl)
def dkwX1_turn_4 : List UInt8 := [160, 0, 5, 28, 172, 132, 2, 1, 167, 255, 156, 2, 172]
abbrev dktX1_turn_4 : List UInt8 := dkwX1_turn_4 ++ []
def dkwX1_turn_3 : List UInt8 := [160, 0, 13, 21, 4, 28, 162, 0, 7, 4, 167, 0, 4, 3, 96, 62, 132, 4, 1, 167, 255, 191, 29, 27]
abbrev dktX1_turn_3 : List UInt8 := dkwX1_turn_3 ++ dktX1_turn_4
def dkwX1_turn_2 : List UInt8 := [42, 180, 0, 94, 28, 46, 161, 0, 25, 42, 180, 0, 94, 21, 4, 46, 42, 180, 0, 94, 28, 46]
abbrev dktX1_turn_2 : List UInt8 := dkwX1_turn_2 ++ dktX1_turn_3
def dkwX1_turn_1 : List UInt8 := [21, 4, 16, 10, 162, 0, 64, 29, 42, 21, 4, 182, 1, 108, 153, 0, 45, 42, 180, 0, 94, 21, 4, 46]
abbrev dktX1_turn_1 : List UInt8 := dkwX1_turn_1 ++ dktX1_turn_2
def dkwX1_turn_0 : List UInt8 := [3, 61, 28, 16, 10, 162, 0, 100, 42, 28, 182, 1, 108, 154, 0, 6, 167, 0, 83, 3, 62, 3, 54, 4]
abbrev dktX1_turn_0 : List UInt8 := dkwX1_turn_0 ++ dktX1_turn_1
theorem dksX1_turn_0 : cX1_turn.data.toList.drop 0 = dktX1_turn_0 := by decide +kernel
theorem dksX1_turn_1 : cX1_turn.data.toList.drop 24 = dktX1_turn_1 := dk_seg dksX1_turn_0 24 rfl rfl
theorem dksX1_turn_2 : cX1_turn.data.toList.drop 48 = dktX1_turn_2 := dk_seg dksX1_turn_1 24 rfl rfl
theorem dksX1_turn_3 : cX1_turn.data.toList.drop 70 = dktX1_turn_3 := dk_seg dksX1_turn_2 22 rfl rfl
theorem dksX1_turn_4 : cX1_turn.data.toList.drop 94 = dktX1_turn_4 := dk_seg dksX1_turn_3 24 rfl rfl
theorem dX1_turn_0 : decode cX1_turn 0 = .ok (.iconst 0, 1) := dk_3 (dk_at dksX1_turn_0 0 rfl rfl)
theorem dX1_turn_1 : decode cX1_turn 1 = .ok (.istore_n 2, 1) := dk_61 (dk_at dksX1_turn_0 1 rfl rfl)
theorem dX1_turn_2 : decode cX1_turn 2 = .ok (.iload_n 2, 1) := dk_28 (dk_at dksX1_turn_0 2 rfl rfl)
theorem dX1_turn_3 : decode cX1_turn 3 = .ok (.bipush 10, 2) := dk_16 10 (dk_at dksX1_turn_0 3 rfl rfl)
theorem dX1_turn_5 : decode cX1_turn 5 = .ok (.if_icmp .ge 100, 3) := dk_162 0 100 (dk_at dksX1_turn_0 5 rfl rfl)
theorem dX1_turn_8 : decode cX1_turn 8 = .ok (.aload_n 0, 1) := dk_42 (dk_at dksX1_turn_0 8 rfl rfl)
theorem dX1_turn_9 : decode cX1_turn 9 = .ok (.iload_n 2, 1) := dk_28 (dk_at dksX1_turn_0 9 rfl rfl)
theorem dX1_turn_10 : decode cX1_turn 10 = .ok (.invokevirtual 364, 3) := dk_182 1 108 (dk_at dksX1_turn_0 10 rfl rfl)
theorem dX1_turn_13 : decode cX1_turn 13 = .ok (.ifCond .ne 6, 3) := dk_154 0 6 (dk_at dksX1_turn_0 13 rfl rfl)
theorem dX1_turn_16 : decode cX1_turn 16 = .ok (.goto 83, 3) := dk_167 0 83 (dk_at dksX1_turn_0 16 rfl rfl)
theorem dX1_turn_19 : decode cX1_turn 19 = .ok (.iconst 0, 1) := dk_3 (dk_at dksX1_turn_0 19 rfl rfl)
theorem dX1_turn_20 : decode cX1_turn 20 = .ok (.istore_n 3, 1) := dk_62 (dk_at dksX1_turn_0 20 rfl rfl)
theorem dX1_turn_21 : decode cX1_turn 21 = .ok (.iconst 0, 1) := dk_3 (dk_at dksX1_turn_0 21 rfl rfl)
theorem dX1_turn_22 : decode cX1_turn 22 = .ok (.istore 4, 2) := dk_54 4 (dk_at dksX1_turn_0 22 rfl rfl)
theorem dX1_turn_24 : decode cX1_turn 24 = .ok (.iload 4, 2) := dk_21 4 (dk_at dksX1_turn_1 0 rfl rfl)
theorem dX1_turn_26 : decode cX1_turn 26 = .ok (.bipush 10, 2) := dk_16 10 (dk_at dksX1_turn_1 2 rfl rfl)
theorem dX1_turn_28 : decode cX1_turn 28 = .ok (.if_icmp .ge 64, 3) := dk_162 0 64 (dk_at dksX1_turn_1 4 rfl rfl)
theorem dX1_turn_31 : decode cX1_turn 31 = .ok (.iload_n 3, 1) := dk_29 (dk_at dksX1_turn_1 7 rfl rfl)
theorem dX1_turn_32 : decode cX1_turn 32 = .ok (.aload_n 0, 1) := dk_42 (dk_at dksX1_turn_1 8 rfl rfl)
theorem dX1_turn_33 : decode cX1_turn 33 = .ok (.iload 4, 2) := dk_21 4 (dk_at dksX1_turn_1 9 rfl rfl)
theorem dX1_turn_35 : decode cX1_turn 35 = .ok (.invokevirtual 364, 3) := dk_182 1 108 (dk_at dksX1_turn_1 11 rfl rfl)
theorem dX1_turn_38 : decode cX1_turn 38 = .ok (.ifCond .eq 45, 3) := dk_153 0 45 (dk_at dksX1_turn_1 14 rfl rfl)
theorem dX1_turn_41 : decode cX1_turn 41 = .ok (.aload_n 0, 1) := dk_42 (dk_at dksX1_turn_1 17 rfl rfl)
theorem dX1_turn_42 : decode cX1_turn 42 = .ok (.getfield 94, 3) := dk_180 0 94 (dk_at dksX1_turn_1 18 rfl rfl)
theorem dX1_turn_45 : decode cX1_turn 45 = .ok (.iload 4, 2) := dk_21 4 (dk_at dksX1_turn_1 21 rfl rfl)
theorem dX1_turn_47 : decode cX1_turn 47 = .ok (.iaload, 1) := dk_46 (dk_at dksX1_turn_1 23 rfl rfl)
theorem dX1_turn_48 : decode cX1_turn 48 = .ok (.aload_n 0, 1) := dk_42 (dk_at dksX1_turn_2 0 rfl rfl)
theorem dX1_turn_49 : decode cX1_turn 49 = .ok (.getfield 94, 3) := dk_180 0 94 (dk_at dksX1_turn_2 1 rfl rfl)
theorem dX1_turn_52 : decode cX1_turn 52 = .ok (.iload_n 2, 1) := dk_28 (dk_at dksX1_turn_2 4 rfl rfl)
theorem dX1_turn_53 : decode cX1_turn 53 = .ok (.iaload, 1) := dk_46 (dk_at dksX1_turn_2 5 rfl rfl)
theorem dX1_turn_54 : decode cX1_turn 54 = .ok (.if_icmp .lt 25, 3) := dk_161 0 25 (dk_at dksX1_turn_2 6 rfl rfl)
theorem dX1_turn_57 : decode cX1_turn 57 = .ok (.aload_n 0, 1) := dk_42 (dk_at dksX1_turn_2 9 rfl rfl)
theorem dX1_turn_58 : decode cX1_turn 58 = .ok (.getfield 94, 3) := dk_180 0 94 (dk_at dksX1_turn_2 10 rfl rfl)
theorem dX1_turn_61 : decode cX1_turn 61 = .ok (.iload 4, 2) := dk_21 4 (dk_at dksX1_turn_2 13 rfl rfl)
theorem dX1_turn_63 : decode cX1_turn 63 = .ok (.iaload, 1) := dk_46 (dk_at dksX1_turn_2 15 rfl rfl)
theorem dX1_turn_64 : decode cX1_turn 64 = .ok (.aload_n 0, 1) := dk_42 (dk_at dksX1_turn_2 16 rfl rfl)
theorem dX1_turn_65 : decode cX1_turn 65 = .ok (.getfield 94, 3) := dk_180 0 94 (dk_at dksX1_turn_2 17 rfl rfl)
theorem dX1_turn_68 : decode cX1_turn 68 = .ok (.iload_n 2, 1) := dk_28 (dk_at dksX1_turn_2 20 rfl rfl)
theorem dX1_turn_69 : decode cX1_turn 69 = .ok (.iaload, 1) := dk_46 (dk_at dksX1_turn_2 21 rfl rfl)
theorem dX1_turn_70 : decode cX1_turn 70 = .ok (.if_icmp .ne 13, 3) := dk_160 0 13 (dk_at dksX1_turn_3 0 rfl rfl)
theorem dX1_turn_73 : decode cX1_turn 73 = .ok (.iload 4, 2) := dk_21 4 (dk_at dksX1_turn_3 3 rfl rfl)
theorem dX1_turn_75 : decode cX1_turn 75 = .ok (.iload_n 2, 1) := dk_28 (dk_at dksX1_turn_3 5 rfl rfl)
theorem dX1_turn_76 : decode cX1_turn 76 = .ok (.if_icmp .ge 7, 3) := dk_162 0 7 (dk_at dksX1_turn_3 6 rfl rfl)
theorem dX1_turn_79 : decode cX1_turn 79 = .ok (.iconst 1, 1) := dk_4 (dk_at dksX1_turn_3 9 rfl rfl)
theorem dX1_turn_80 : decode cX1_turn 80 = .ok (.goto 4, 3) := dk_167 0 4 (dk_at dksX1_turn_3 10 rfl rfl)
theorem dX1_turn_83 : decode cX1_turn 83 = .ok (.iconst 0, 1) := dk_3 (dk_at dksX1_turn_3 13 rfl rfl)
theorem dX1_turn_84 : decode cX1_turn 84 = .ok (.iadd, 1) := dk_96 (dk_at dksX1_turn_3 14 rfl rfl)
theorem dX1_turn_85 : decode cX1_turn 85 = .ok (.istore_n 3, 1) := dk_62 (dk_at dksX1_turn_3 15 rfl rfl)
theorem dX1_turn_86 : decode cX1_turn 86 = .ok (.iinc 4 1, 3) := dk_132 4 1 (dk_at dksX1_turn_3 16 rfl rfl)
theorem dX1_turn_89 : decode cX1_turn 89 = .ok (.goto (-65), 3) := dk_167 255 191 (dk_at dksX1_turn_3 19 rfl rfl)
theorem dX1_turn_92 : decode cX1_turn 92 = .ok (.iload_n 3, 1) := dk_29 (dk_at dksX1_turn_3 22 rfl rfl)
theorem dX1_turn_93 : decode cX1_turn 93 = .ok (.iload_n 1, 1) := dk_27 (dk_at dksX1_turn_3 23 rfl rfl)
theorem dX1_turn_94 : decode cX1_turn 94 = .ok (.if_icmp .ne 5, 3) := dk_160 0 5 (dk_at dksX1_turn_4 0 rfl rfl)
theorem dX1_turn_97 : decode cX1_turn 97 = .ok (.iload_n 2, 1) := dk_28 (dk_at dksX1_turn_4 3 rfl rfl)
theorem dX1_turn_98 : decode cX1_turn 98 = .ok (.ireturn, 1) := dk_172 (dk_at dksX1_turn_4 4 rfl rfl)
theorem dX1_turn_99 : decode cX1_turn 99 = .ok (.iinc 2 1, 3) := dk_132 2 1 (dk_at dksX1_turn_4 5 rfl rfl)
theorem dX1_turn_102 : decode cX1_turn 102 = .ok (.goto (-100), 3) := dk_167 255 156 (dk_at dksX1_turn_4 8 rfl rfl)
theorem dX1_turn_105 : decode cX1_turn 105 = .ok (.iconst (-1), 1) := dk_2 (dk_at dksX1_turn_4 11 rfl rfl)
theorem dX1_turn_106 : decode cX1_turn 106 = .ok (.ireturn, 1) := dk_172 (dk_at dksX1_turn_4 12 rfl rfl)
def dkwX1_mayTurn_0 : List UInt8 := [42, 180, 0, 130, 27, 51, 154, 0, 15, 42, 27, 182, 1, 105, 154, 0, 7, 4, 167, 0, 4, 3, 172]
abbrev dktX1_mayTurn_0 : List UInt8 := dkwX1_mayTurn_0 ++ []
theorem dksX1_mayTurn_0 : cX1_mayTurn.data.toList.drop 0 = dktX1_mayTurn_0 := by decide +kernel
theorem dX1_mayTurn_0 : decode cX1_mayTurn 0 = .ok (.aload_n 0, 1) := dk_42 (dk_at dksX1_mayTurn_0 0 rfl rfl)
theorem dX1_mayTurn_1 : decode cX1_mayTurn 1 = .ok (.getfield 130, 3) := dk_180 0 130 (dk_at dksX1_mayTurn_0 1 rfl rfl)
theorem dX1_mayTurn_4 : decode cX1_mayTurn 4 = .ok (.iload_n 1, 1) := dk_27 (dk_at dksX1_mayTurn_0 4 rfl rfl)
theorem dX1_mayTurn_5 : decode cX1_mayTurn 5 = .ok (.baload, 1) := dk_51 (dk_at dksX1_mayTurn_0 5 rfl rfl)
theorem dX1_mayTurn_6 : decode cX1_mayTurn 6 = .ok (.ifCond .ne 15, 3) := dk_154 0 15 (dk_at dksX1_mayTurn_0 6 rfl rfl)
theorem dX1_mayTurn_9 : decode cX1_mayTurn 9 = .ok (.aload_n 0, 1) := dk_42 (dk_at dksX1_mayTurn_0 9 rfl rfl)
theorem dX1_mayTurn_10 : decode cX1_mayTurn 10 = .ok (.iload_n 1, 1) := dk_27 (dk_at dksX1_mayTurn_0 10 rfl rfl)
theorem dX1_mayTurn_11 : decode cX1_mayTurn 11 = .ok (.invokevirtual 361, 3) := dk_182 1 105 (dk_at dksX1_mayTurn_0 11 rfl rfl)
theorem dX1_mayTurn_14 : decode cX1_mayTurn 14 = .ok (.ifCond .ne 7, 3) := dk_154 0 7 (dk_at dksX1_mayTurn_0 14 rfl rfl)
theorem dX1_mayTurn_17 : decode cX1_mayTurn 17 = .ok (.iconst 1, 1) := dk_4 (dk_at dksX1_mayTurn_0 17 rfl rfl)
theorem dX1_mayTurn_18 : decode cX1_mayTurn 18 = .ok (.goto 4, 3) := dk_167 0 4 (dk_at dksX1_mayTurn_0 18 rfl rfl)
theorem dX1_mayTurn_21 : decode cX1_mayTurn 21 = .ok (.iconst 0, 1) := dk_3 (dk_at dksX1_mayTurn_0 21 rfl rfl)
theorem dX1_mayTurn_22 : decode cX1_mayTurn 22 = .ok (.ireturn, 1) := dk_172 (dk_at dksX1_mayTurn_0 22 rfl rfl)
def dkwX1_count_6 : List UInt8 := [172, 42, 180, 1, 141, 172, 2, 172]
abbrev dktX1_count_6 : List UInt8 := dkwX1_count_6 ++ []
def dkwX1_count_5 : List UInt8 := [180, 0, 253, 172, 42, 180, 0, 78, 182, 0, 189, 172, 42, 180, 0, 81, 182, 0, 189, 172, 42, 182, 1, 116]
abbrev dktX1_count_5 : List UInt8 := dkwX1_count_5 ++ dktX1_count_6
def dkwX1_count_4 : List UInt8 := [180, 0, 186, 29, 46, 96, 61, 132, 3, 1, 167, 255, 235, 28, 172, 42, 180, 0, 243, 172, 42, 180, 0, 156]
abbrev dktX1_count_4 : List UInt8 := dkwX1_count_4 ++ dktX1_count_5
def dkwX1_count_3 : List UInt8 := [182, 0, 189, 172, 42, 180, 1, 158, 172, 3, 61, 3, 62, 29, 16, 64, 162, 0, 21, 28, 42, 180, 0, 44]
abbrev dktX1_count_3 : List UInt8 := dkwX1_count_3 ++ dktX1_count_4
def dkwX1_count_2 : List UInt8 := [42, 180, 1, 69, 172, 42, 180, 0, 71, 182, 0, 189, 172, 42, 180, 1, 40, 172, 42, 180, 0, 75]
abbrev dktX1_count_2 : List UInt8 := dkwX1_count_2 ++ dktX1_count_3
def dkwX1_count_1 : List UInt8 := [170, 0, 0, 0, 0, 0, 163, 0, 0, 0, 0, 0, 0, 0, 11, 0, 0, 0, 63, 0, 0, 0, 68, 0, 0, 0, 76, 0, 0, 0, 81, 0, 0, 0, 89, 0, 0, 0, 94, 0, 0, 0, 124, 0, 0, 0, 129, 0, 0, 0, 137, 0, 0, 0, 145, 0, 0, 0, 153, 0, 0, 0, 158]
abbrev dktX1_count_1 : List UInt8 := dkwX1_count_1 ++ dktX1_count_2
def dkwX1_count_0 : List UInt8 := [27]
abbrev dktX1_count_0 : List UInt8 := dkwX1_count_0 ++ dktX1_count_1
theorem dksX1_count_0 : cX1_count.data.toList.drop 0 = dktX1_count_0 := by decide +kernel
theorem dksX1_count_1 : cX1_count.data.toList.drop 1 = dktX1_count_1 := dk_seg dksX1_count_0 1 rfl rfl
theorem dksX1_count_2 : cX1_count.data.toList.drop 64 = dktX1_count_2 := dk_seg dksX1_count_1 63 rfl rfl
theorem dksX1_count_3 : cX1_count.data.toList.drop 86 = dktX1_count_3 := dk_seg dksX1_count_2 22 rfl rfl
theorem dksX1_count_4 : cX1_count.data.toList.drop 110 = dktX1_count_4 := dk_seg dksX1_count_3 24 rfl rfl
theorem dksX1_count_5 : cX1_count.data.toList.drop 134 = dktX1_count_5 := dk_seg dksX1_count_4 24 rfl rfl
theorem dksX1_count_6 : cX1_count.data.toList.drop 158 = dktX1_count_6 := dk_seg dksX1_count_5 24 rfl rfl
theorem dX1_count_0 : decode cX1_count 0 = .ok (.iload_n 1, 1) := dk_27 (dk_at dksX1_count_0 0 rfl rfl)
theorem dX1_count_1 : decode cX1_count 1 = .ok (.tableswitch 163 0 11 #[63, 68, 76, 81, 89, 94, 124, 129, 137, 145, 153, 158], 63) := by decide +kernel
theorem dX1_count_64 : decode cX1_count 64 = .ok (.aload_n 0, 1) := dk_42 (dk_at dksX1_count_2 0 rfl rfl)
theorem dX1_count_65 : decode cX1_count 65 = .ok (.getfield 325, 3) := dk_180 1 69 (dk_at dksX1_count_2 1 rfl rfl)
theorem dX1_count_68 : decode cX1_count 68 = .ok (.ireturn, 1) := dk_172 (dk_at dksX1_count_2 4 rfl rfl)
theorem dX1_count_69 : decode cX1_count 69 = .ok (.aload_n 0, 1) := dk_42 (dk_at dksX1_count_2 5 rfl rfl)
theorem dX1_count_70 : decode cX1_count 70 = .ok (.getfield 71, 3) := dk_180 0 71 (dk_at dksX1_count_2 6 rfl rfl)
theorem dX1_count_73 : decode cX1_count 73 = .ok (.invokevirtual 189, 3) := dk_182 0 189 (dk_at dksX1_count_2 9 rfl rfl)
theorem dX1_count_76 : decode cX1_count 76 = .ok (.ireturn, 1) := dk_172 (dk_at dksX1_count_2 12 rfl rfl)
theorem dX1_count_77 : decode cX1_count 77 = .ok (.aload_n 0, 1) := dk_42 (dk_at dksX1_count_2 13 rfl rfl)
theorem dX1_count_78 : decode cX1_count 78 = .ok (.getfield 296, 3) := dk_180 1 40 (dk_at dksX1_count_2 14 rfl rfl)
theorem dX1_count_81 : decode cX1_count 81 = .ok (.ireturn, 1) := dk_172 (dk_at dksX1_count_2 17 rfl rfl)
theorem dX1_count_82 : decode cX1_count 82 = .ok (.aload_n 0, 1) := dk_42 (dk_at dksX1_count_2 18 rfl rfl)
theorem dX1_count_83 : decode cX1_count 83 = .ok (.getfield 75, 3) := dk_180 0 75 (dk_at dksX1_count_2 19 rfl rfl)
theorem dX1_count_86 : decode cX1_count 86 = .ok (.invokevirtual 189, 3) := dk_182 0 189 (dk_at dksX1_count_3 0 rfl rfl)
theorem dX1_count_89 : decode cX1_count 89 = .ok (.ireturn, 1) := dk_172 (dk_at dksX1_count_3 3 rfl rfl)
theorem dX1_count_90 : decode cX1_count 90 = .ok (.aload_n 0, 1) := dk_42 (dk_at dksX1_count_3 4 rfl rfl)
theorem dX1_count_91 : decode cX1_count 91 = .ok (.getfield 414, 3) := dk_180 1 158 (dk_at dksX1_count_3 5 rfl rfl)
theorem dX1_count_94 : decode cX1_count 94 = .ok (.ireturn, 1) := dk_172 (dk_at dksX1_count_3 8 rfl rfl)
theorem dX1_count_95 : decode cX1_count 95 = .ok (.iconst 0, 1) := dk_3 (dk_at dksX1_count_3 9 rfl rfl)
theorem dX1_count_96 : decode cX1_count 96 = .ok (.istore_n 2, 1) := dk_61 (dk_at dksX1_count_3 10 rfl rfl)
theorem dX1_count_97 : decode cX1_count 97 = .ok (.iconst 0, 1) := dk_3 (dk_at dksX1_count_3 11 rfl rfl)
theorem dX1_count_98 : decode cX1_count 98 = .ok (.istore_n 3, 1) := dk_62 (dk_at dksX1_count_3 12 rfl rfl)
theorem dX1_count_99 : decode cX1_count 99 = .ok (.iload_n 3, 1) := dk_29 (dk_at dksX1_count_3 13 rfl rfl)
theorem dX1_count_100 : decode cX1_count 100 = .ok (.bipush 64, 2) := dk_16 64 (dk_at dksX1_count_3 14 rfl rfl)
theorem dX1_count_102 : decode cX1_count 102 = .ok (.if_icmp .ge 21, 3) := dk_162 0 21 (dk_at dksX1_count_3 16 rfl rfl)
theorem dX1_count_105 : decode cX1_count 105 = .ok (.iload_n 2, 1) := dk_28 (dk_at dksX1_count_3 19 rfl rfl)
theorem dX1_count_106 : decode cX1_count 106 = .ok (.aload_n 0, 1) := dk_42 (dk_at dksX1_count_3 20 rfl rfl)
theorem dX1_count_107 : decode cX1_count 107 = .ok (.getfield 44, 3) := dk_180 0 44 (dk_at dksX1_count_3 21 rfl rfl)
theorem dX1_count_110 : decode cX1_count 110 = .ok (.getfield 186, 3) := dk_180 0 186 (dk_at dksX1_count_4 0 rfl rfl)
theorem dX1_count_113 : decode cX1_count 113 = .ok (.iload_n 3, 1) := dk_29 (dk_at dksX1_count_4 3 rfl rfl)
theorem dX1_count_114 : decode cX1_count 114 = .ok (.iaload, 1) := dk_46 (dk_at dksX1_count_4 4 rfl rfl)
theorem dX1_count_115 : decode cX1_count 115 = .ok (.iadd, 1) := dk_96 (dk_at dksX1_count_4 5 rfl rfl)
theorem dX1_count_116 : decode cX1_count 116 = .ok (.istore_n 2, 1) := dk_61 (dk_at dksX1_count_4 6 rfl rfl)
theorem dX1_count_117 : decode cX1_count 117 = .ok (.iinc 3 1, 3) := dk_132 3 1 (dk_at dksX1_count_4 7 rfl rfl)
theorem dX1_count_120 : decode cX1_count 120 = .ok (.goto (-21), 3) := dk_167 255 235 (dk_at dksX1_count_4 10 rfl rfl)
theorem dX1_count_123 : decode cX1_count 123 = .ok (.iload_n 2, 1) := dk_28 (dk_at dksX1_count_4 13 rfl rfl)
theorem dX1_count_124 : decode cX1_count 124 = .ok (.ireturn, 1) := dk_172 (dk_at dksX1_count_4 14 rfl rfl)
theorem dX1_count_125 : decode cX1_count 125 = .ok (.aload_n 0, 1) := dk_42 (dk_at dksX1_count_4 15 rfl rfl)
theorem dX1_count_126 : decode cX1_count 126 = .ok (.getfield 243, 3) := dk_180 0 243 (dk_at dksX1_count_4 16 rfl rfl)
theorem dX1_count_129 : decode cX1_count 129 = .ok (.ireturn, 1) := dk_172 (dk_at dksX1_count_4 19 rfl rfl)
theorem dX1_count_130 : decode cX1_count 130 = .ok (.aload_n 0, 1) := dk_42 (dk_at dksX1_count_4 20 rfl rfl)
theorem dX1_count_131 : decode cX1_count 131 = .ok (.getfield 156, 3) := dk_180 0 156 (dk_at dksX1_count_4 21 rfl rfl)
theorem dX1_count_134 : decode cX1_count 134 = .ok (.getfield 253, 3) := dk_180 0 253 (dk_at dksX1_count_5 0 rfl rfl)
theorem dX1_count_137 : decode cX1_count 137 = .ok (.ireturn, 1) := dk_172 (dk_at dksX1_count_5 3 rfl rfl)
theorem dX1_count_138 : decode cX1_count 138 = .ok (.aload_n 0, 1) := dk_42 (dk_at dksX1_count_5 4 rfl rfl)
theorem dX1_count_139 : decode cX1_count 139 = .ok (.getfield 78, 3) := dk_180 0 78 (dk_at dksX1_count_5 5 rfl rfl)
theorem dX1_count_142 : decode cX1_count 142 = .ok (.invokevirtual 189, 3) := dk_182 0 189 (dk_at dksX1_count_5 8 rfl rfl)
theorem dX1_count_145 : decode cX1_count 145 = .ok (.ireturn, 1) := dk_172 (dk_at dksX1_count_5 11 rfl rfl)
theorem dX1_count_146 : decode cX1_count 146 = .ok (.aload_n 0, 1) := dk_42 (dk_at dksX1_count_5 12 rfl rfl)
theorem dX1_count_147 : decode cX1_count 147 = .ok (.getfield 81, 3) := dk_180 0 81 (dk_at dksX1_count_5 13 rfl rfl)
theorem dX1_count_150 : decode cX1_count 150 = .ok (.invokevirtual 189, 3) := dk_182 0 189 (dk_at dksX1_count_5 16 rfl rfl)
theorem dX1_count_153 : decode cX1_count 153 = .ok (.ireturn, 1) := dk_172 (dk_at dksX1_count_5 19 rfl rfl)
theorem dX1_count_154 : decode cX1_count 154 = .ok (.aload_n 0, 1) := dk_42 (dk_at dksX1_count_5 20 rfl rfl)
theorem dX1_count_155 : decode cX1_count 155 = .ok (.invokevirtual 372, 3) := dk_182 1 116 (dk_at dksX1_count_5 21 rfl rfl)
theorem dX1_count_158 : decode cX1_count 158 = .ok (.ireturn, 1) := dk_172 (dk_at dksX1_count_6 0 rfl rfl)
theorem dX1_count_159 : decode cX1_count 159 = .ok (.aload_n 0, 1) := dk_42 (dk_at dksX1_count_6 1 rfl rfl)
theorem dX1_count_160 : decode cX1_count 160 = .ok (.getfield 397, 3) := dk_180 1 141 (dk_at dksX1_count_6 2 rfl rfl)
theorem dX1_count_163 : decode cX1_count 163 = .ok (.ireturn, 1) := dk_172 (dk_at dksX1_count_6 5 rfl rfl)
theorem dX1_count_164 : decode cX1_count 164 = .ok (.iconst (-1), 1) := dk_2 (dk_at dksX1_count_6 6 rfl rfl)
theorem dX1_count_165 : decode cX1_count 165 = .ok (.ireturn, 1) := dk_172 (dk_at dksX1_count_6 7 rfl rfl)
def dkwX1_joined_1 : List UInt8 := [54, 5, 27, 21, 5, 153, 0, 7, 4, 167, 0, 4, 3, 96, 60, 132, 4, 1, 167, 255, 228, 27, 172]
abbrev dktX1_joined_1 : List UInt8 := dkwX1_joined_1 ++ []
def dkwX1_joined_0 : List UInt8 := [3, 60, 42, 180, 0, 134, 77, 44, 190, 62, 3, 54, 4, 21, 4, 29, 162, 0, 28, 44, 21, 4, 51]
abbrev dktX1_joined_0 : List UInt8 := dkwX1_joined_0 ++ dktX1_joined_1
theorem dksX1_joined_0 : cX1_joined.data.toList.drop 0 = dktX1_joined_0 := by decide +kernel
theorem dksX1_joined_1 : cX1_joined.data.toList.drop 23 = dktX1_joined_1 := dk_seg dksX1_joined_0 23 rfl rfl
theorem dX1_joined_0 : decode cX1_joined 0 = .ok (.iconst 0, 1) := dk_3 (dk_at dksX1_joined_0 0 rfl rfl)
theorem dX1_joined_1 : decode cX1_joined 1 = .ok (.istore_n 1, 1) := dk_60 (dk_at dksX1_joined_0 1 rfl rfl)
theorem dX1_joined_2 : decode cX1_joined 2 = .ok (.aload_n 0, 1) := dk_42 (dk_at dksX1_joined_0 2 rfl rfl)
theorem dX1_joined_3 : decode cX1_joined 3 = .ok (.getfield 134, 3) := dk_180 0 134 (dk_at dksX1_joined_0 3 rfl rfl)
theorem dX1_joined_6 : decode cX1_joined 6 = .ok (.astore_n 2, 1) := dk_77 (dk_at dksX1_joined_0 6 rfl rfl)
theorem dX1_joined_7 : decode cX1_joined 7 = .ok (.aload_n 2, 1) := dk_44 (dk_at dksX1_joined_0 7 rfl rfl)
theorem dX1_joined_8 : decode cX1_joined 8 = .ok (.arraylength, 1) := dk_190 (dk_at dksX1_joined_0 8 rfl rfl)
theorem dX1_joined_9 : decode cX1_joined 9 = .ok (.istore_n 3, 1) := dk_62 (dk_at dksX1_joined_0 9 rfl rfl)
theorem dX1_joined_10 : decode cX1_joined 10 = .ok (.iconst 0, 1) := dk_3 (dk_at dksX1_joined_0 10 rfl rfl)
theorem dX1_joined_11 : decode cX1_joined 11 = .ok (.istore 4, 2) := dk_54 4 (dk_at dksX1_joined_0 11 rfl rfl)
theorem dX1_joined_13 : decode cX1_joined 13 = .ok (.iload 4, 2) := dk_21 4 (dk_at dksX1_joined_0 13 rfl rfl)
theorem dX1_joined_15 : decode cX1_joined 15 = .ok (.iload_n 3, 1) := dk_29 (dk_at dksX1_joined_0 15 rfl rfl)
theorem dX1_joined_16 : decode cX1_joined 16 = .ok (.if_icmp .ge 28, 3) := dk_162 0 28 (dk_at dksX1_joined_0 16 rfl rfl)
theorem dX1_joined_19 : decode cX1_joined 19 = .ok (.aload_n 2, 1) := dk_44 (dk_at dksX1_joined_0 19 rfl rfl)
theorem dX1_joined_20 : decode cX1_joined 20 = .ok (.iload 4, 2) := dk_21 4 (dk_at dksX1_joined_0 20 rfl rfl)
theorem dX1_joined_22 : decode cX1_joined 22 = .ok (.baload, 1) := dk_51 (dk_at dksX1_joined_0 22 rfl rfl)
theorem dX1_joined_23 : decode cX1_joined 23 = .ok (.istore 5, 2) := dk_54 5 (dk_at dksX1_joined_1 0 rfl rfl)
theorem dX1_joined_25 : decode cX1_joined 25 = .ok (.iload_n 1, 1) := dk_27 (dk_at dksX1_joined_1 2 rfl rfl)
theorem dX1_joined_26 : decode cX1_joined 26 = .ok (.iload 5, 2) := dk_21 5 (dk_at dksX1_joined_1 3 rfl rfl)
theorem dX1_joined_28 : decode cX1_joined 28 = .ok (.ifCond .eq 7, 3) := dk_153 0 7 (dk_at dksX1_joined_1 5 rfl rfl)
theorem dX1_joined_31 : decode cX1_joined 31 = .ok (.iconst 1, 1) := dk_4 (dk_at dksX1_joined_1 8 rfl rfl)
theorem dX1_joined_32 : decode cX1_joined 32 = .ok (.goto 4, 3) := dk_167 0 4 (dk_at dksX1_joined_1 9 rfl rfl)
theorem dX1_joined_35 : decode cX1_joined 35 = .ok (.iconst 0, 1) := dk_3 (dk_at dksX1_joined_1 12 rfl rfl)
theorem dX1_joined_36 : decode cX1_joined 36 = .ok (.iadd, 1) := dk_96 (dk_at dksX1_joined_1 13 rfl rfl)
theorem dX1_joined_37 : decode cX1_joined 37 = .ok (.istore_n 1, 1) := dk_60 (dk_at dksX1_joined_1 14 rfl rfl)
theorem dX1_joined_38 : decode cX1_joined 38 = .ok (.iinc 4 1, 3) := dk_132 4 1 (dk_at dksX1_joined_1 15 rfl rfl)
theorem dX1_joined_41 : decode cX1_joined 41 = .ok (.goto (-28), 3) := dk_167 255 228 (dk_at dksX1_joined_1 18 rfl rfl)
theorem dX1_joined_44 : decode cX1_joined 44 = .ok (.iload_n 1, 1) := dk_27 (dk_at dksX1_joined_1 21 rfl rfl)
theorem dX1_joined_45 : decode cX1_joined 45 = .ok (.ireturn, 1) := dk_172 (dk_at dksX1_joined_1 22 rfl rfl)
def dkwX1_land_2 : List UInt8 := [182, 0, 216, 172]
abbrev dktX1_land_2 : List UInt8 := dkwX1_land_2 ++ []
def dkwX1_land_1 : List UInt8 := [160, 0, 19, 42, 27, 182, 0, 209, 153, 0, 11, 187, 0, 213, 89, 183, 0, 215, 191, 42, 27, 28]
abbrev dktX1_land_1 : List UInt8 := dkwX1_land_1 ++ dktX1_land_2
def dkwX1_land_0 : List UInt8 := [27, 184, 0, 170, 28, 3, 4, 184, 0, 163, 154, 0, 7, 4, 167, 0, 4, 3, 184, 0, 178, 28, 4]
abbrev dktX1_land_0 : List UInt8 := dkwX1_land_0 ++ dktX1_land_1
theorem dksX1_land_0 : cX1_land.data.toList.drop 0 = dktX1_land_0 := by decide +kernel
theorem dksX1_land_1 : cX1_land.data.toList.drop 23 = dktX1_land_1 := dk_seg dksX1_land_0 23 rfl rfl
theorem dksX1_land_2 : cX1_land.data.toList.drop 45 = dktX1_land_2 := dk_seg dksX1_land_1 22 rfl rfl
theorem dX1_land_0 : decode cX1_land 0 = .ok (.iload_n 1, 1) := dk_27 (dk_at dksX1_land_0 0 rfl rfl)
theorem dX1_land_1 : decode cX1_land 1 = .ok (.invokestatic 170, 3) := dk_184 0 170 (dk_at dksX1_land_0 1 rfl rfl)
theorem dX1_land_4 : decode cX1_land 4 = .ok (.iload_n 2, 1) := dk_28 (dk_at dksX1_land_0 4 rfl rfl)
theorem dX1_land_5 : decode cX1_land 5 = .ok (.iconst 0, 1) := dk_3 (dk_at dksX1_land_0 5 rfl rfl)
theorem dX1_land_6 : decode cX1_land 6 = .ok (.iconst 1, 1) := dk_4 (dk_at dksX1_land_0 6 rfl rfl)
theorem dX1_land_7 : decode cX1_land 7 = .ok (.invokestatic 163, 3) := dk_184 0 163 (dk_at dksX1_land_0 7 rfl rfl)
theorem dX1_land_10 : decode cX1_land 10 = .ok (.ifCond .ne 7, 3) := dk_154 0 7 (dk_at dksX1_land_0 10 rfl rfl)
theorem dX1_land_13 : decode cX1_land 13 = .ok (.iconst 1, 1) := dk_4 (dk_at dksX1_land_0 13 rfl rfl)
theorem dX1_land_14 : decode cX1_land 14 = .ok (.goto 4, 3) := dk_167 0 4 (dk_at dksX1_land_0 14 rfl rfl)
theorem dX1_land_17 : decode cX1_land 17 = .ok (.iconst 0, 1) := dk_3 (dk_at dksX1_land_0 17 rfl rfl)
theorem dX1_land_18 : decode cX1_land 18 = .ok (.invokestatic 178, 3) := dk_184 0 178 (dk_at dksX1_land_0 18 rfl rfl)
theorem dX1_land_21 : decode cX1_land 21 = .ok (.iload_n 2, 1) := dk_28 (dk_at dksX1_land_0 21 rfl rfl)
theorem dX1_land_22 : decode cX1_land 22 = .ok (.iconst 1, 1) := dk_4 (dk_at dksX1_land_0 22 rfl rfl)
theorem dX1_land_23 : decode cX1_land 23 = .ok (.if_icmp .ne 19, 3) := dk_160 0 19 (dk_at dksX1_land_1 0 rfl rfl)
theorem dX1_land_26 : decode cX1_land 26 = .ok (.aload_n 0, 1) := dk_42 (dk_at dksX1_land_1 3 rfl rfl)
theorem dX1_land_27 : decode cX1_land 27 = .ok (.iload_n 1, 1) := dk_27 (dk_at dksX1_land_1 4 rfl rfl)
theorem dX1_land_28 : decode cX1_land 28 = .ok (.invokevirtual 209, 3) := dk_182 0 209 (dk_at dksX1_land_1 5 rfl rfl)
theorem dX1_land_31 : decode cX1_land 31 = .ok (.ifCond .eq 11, 3) := dk_153 0 11 (dk_at dksX1_land_1 8 rfl rfl)
theorem dX1_land_34 : decode cX1_land 34 = .ok (.new 213, 3) := dk_187 0 213 (dk_at dksX1_land_1 11 rfl rfl)
theorem dX1_land_37 : decode cX1_land 37 = .ok (.dup, 1) := dk_89 (dk_at dksX1_land_1 14 rfl rfl)
theorem dX1_land_38 : decode cX1_land 38 = .ok (.invokespecial 215, 3) := dk_183 0 215 (dk_at dksX1_land_1 15 rfl rfl)
theorem dX1_land_41 : decode cX1_land 41 = .ok (.athrow, 1) := dk_191 (dk_at dksX1_land_1 18 rfl rfl)
theorem dX1_land_42 : decode cX1_land 42 = .ok (.aload_n 0, 1) := dk_42 (dk_at dksX1_land_1 19 rfl rfl)
theorem dX1_land_43 : decode cX1_land 43 = .ok (.iload_n 1, 1) := dk_27 (dk_at dksX1_land_1 20 rfl rfl)
theorem dX1_land_44 : decode cX1_land 44 = .ok (.iload_n 2, 1) := dk_28 (dk_at dksX1_land_1 21 rfl rfl)
theorem dX1_land_45 : decode cX1_land 45 = .ok (.invokevirtual 216, 3) := dk_182 0 216 (dk_at dksX1_land_2 0 rfl rfl)
theorem dX1_land_48 : decode cX1_land 48 = .ok (.ireturn, 1) := dk_172 (dk_at dksX1_land_2 3 rfl rfl)
def dkwX1_cell_0 : List UInt8 := [26, 3, 16, 63, 184, 0, 163, 154, 0, 11, 187, 0, 167, 89, 183, 0, 169, 191, 177]
abbrev dktX1_cell_0 : List UInt8 := dkwX1_cell_0 ++ []
theorem dksX1_cell_0 : cX1_cell.data.toList.drop 0 = dktX1_cell_0 := by decide +kernel
theorem dX1_cell_0 : decode cX1_cell 0 = .ok (.iload_n 0, 1) := dk_26 (dk_at dksX1_cell_0 0 rfl rfl)
theorem dX1_cell_1 : decode cX1_cell 1 = .ok (.iconst 0, 1) := dk_3 (dk_at dksX1_cell_0 1 rfl rfl)
theorem dX1_cell_2 : decode cX1_cell 2 = .ok (.bipush 63, 2) := dk_16 63 (dk_at dksX1_cell_0 2 rfl rfl)
theorem dX1_cell_4 : decode cX1_cell 4 = .ok (.invokestatic 163, 3) := dk_184 0 163 (dk_at dksX1_cell_0 4 rfl rfl)
theorem dX1_cell_7 : decode cX1_cell 7 = .ok (.ifCond .ne 11, 3) := dk_154 0 11 (dk_at dksX1_cell_0 7 rfl rfl)
theorem dX1_cell_10 : decode cX1_cell 10 = .ok (.new 167, 3) := dk_187 0 167 (dk_at dksX1_cell_0 10 rfl rfl)
theorem dX1_cell_13 : decode cX1_cell 13 = .ok (.dup, 1) := dk_89 (dk_at dksX1_cell_0 13 rfl rfl)
theorem dX1_cell_14 : decode cX1_cell 14 = .ok (.invokespecial 169, 3) := dk_183 0 169 (dk_at dksX1_cell_0 14 rfl rfl)
theorem dX1_cell_17 : decode cX1_cell 17 = .ok (.athrow, 1) := dk_191 (dk_at dksX1_cell_0 17 rfl rfl)
theorem dX1_cell_18 : decode cX1_cell 18 = .ok (.return_, 1) := dk_177 (dk_at dksX1_cell_0 18 rfl rfl)
def dkwX1_in_0 : List UInt8 := [26, 27, 161, 0, 12, 26, 28, 163, 0, 7, 4, 167, 0, 4, 3, 172]
abbrev dktX1_in_0 : List UInt8 := dkwX1_in_0 ++ []
theorem dksX1_in_0 : cX1_in.data.toList.drop 0 = dktX1_in_0 := by decide +kernel
theorem dX1_in_0 : decode cX1_in 0 = .ok (.iload_n 0, 1) := dk_26 (dk_at dksX1_in_0 0 rfl rfl)
theorem dX1_in_1 : decode cX1_in 1 = .ok (.iload_n 1, 1) := dk_27 (dk_at dksX1_in_0 1 rfl rfl)
theorem dX1_in_2 : decode cX1_in 2 = .ok (.if_icmp .lt 12, 3) := dk_161 0 12 (dk_at dksX1_in_0 2 rfl rfl)
theorem dX1_in_5 : decode cX1_in 5 = .ok (.iload_n 0, 1) := dk_26 (dk_at dksX1_in_0 5 rfl rfl)
theorem dX1_in_6 : decode cX1_in 6 = .ok (.iload_n 2, 1) := dk_28 (dk_at dksX1_in_0 6 rfl rfl)
theorem dX1_in_7 : decode cX1_in 7 = .ok (.if_icmp .gt 7, 3) := dk_163 0 7 (dk_at dksX1_in_0 7 rfl rfl)
theorem dX1_in_10 : decode cX1_in 10 = .ok (.iconst 1, 1) := dk_4 (dk_at dksX1_in_0 10 rfl rfl)
theorem dX1_in_11 : decode cX1_in 11 = .ok (.goto 4, 3) := dk_167 0 4 (dk_at dksX1_in_0 11 rfl rfl)
theorem dX1_in_14 : decode cX1_in 14 = .ok (.iconst 0, 1) := dk_3 (dk_at dksX1_in_0 14 rfl rfl)
theorem dX1_in_15 : decode cX1_in 15 = .ok (.ireturn, 1) := dk_172 (dk_at dksX1_in_0 15 rfl rfl)
def dkwX1_wrong_0 : List UInt8 := [26, 153, 0, 11, 187, 0, 160, 89, 183, 0, 162, 191, 177]
abbrev dktX1_wrong_0 : List UInt8 := dkwX1_wrong_0 ++ []
theorem dksX1_wrong_0 : cX1_wrong.data.toList.drop 0 = dktX1_wrong_0 := by decide +kernel
theorem dX1_wrong_0 : decode cX1_wrong 0 = .ok (.iload_n 0, 1) := dk_26 (dk_at dksX1_wrong_0 0 rfl rfl)
theorem dX1_wrong_1 : decode cX1_wrong 1 = .ok (.ifCond .eq 11, 3) := dk_153 0 11 (dk_at dksX1_wrong_0 1 rfl rfl)
theorem dX1_wrong_4 : decode cX1_wrong 4 = .ok (.new 160, 3) := dk_187 0 160 (dk_at dksX1_wrong_0 4 rfl rfl)
theorem dX1_wrong_7 : decode cX1_wrong 7 = .ok (.dup, 1) := dk_89 (dk_at dksX1_wrong_0 7 rfl rfl)
theorem dX1_wrong_8 : decode cX1_wrong 8 = .ok (.invokespecial 162, 3) := dk_183 0 162 (dk_at dksX1_wrong_0 8 rfl rfl)
theorem dX1_wrong_11 : decode cX1_wrong 11 = .ok (.athrow, 1) := dk_191 (dk_at dksX1_wrong_0 11 rfl rfl)
theorem dX1_wrong_12 : decode cX1_wrong 12 = .ok (.return_, 1) := dk_177 (dk_at dksX1_wrong_0 12 rfl rfl)
def dkwX1_isHerds_4 : List UInt8 := [132, 4, 1, 167, 255, 205, 132, 3, 1, 167, 255, 159, 28, 172]
abbrev dktX1_isHerds_4 : List UInt8 := dkwX1_isHerds_4 ++ []
def dkwX1_isHerds_3 : List UInt8 := [182, 0, 193, 192, 0, 197, 180, 0, 206, 21, 4, 46, 27, 160, 0, 7, 4, 167, 0, 4, 3, 128, 61]
abbrev dktX1_isHerds_3 : List UInt8 := dkwX1_isHerds_3 ++ dktX1_isHerds_4
def dkwX1_isHerds_2 : List UInt8 := [180, 0, 71, 29, 182, 0, 193, 192, 0, 197, 180, 0, 203, 162, 0, 38, 28, 42, 180, 0, 71, 29]
abbrev dktX1_isHerds_2 : List UInt8 := dkwX1_isHerds_2 ++ dktX1_isHerds_3
def dkwX1_isHerds_1 : List UInt8 := [192, 0, 197, 180, 0, 199, 27, 160, 0, 7, 4, 167, 0, 4, 3, 128, 61, 3, 54, 4, 21, 4, 42]
abbrev dktX1_isHerds_1 : List UInt8 := dkwX1_isHerds_1 ++ dktX1_isHerds_2
def dkwX1_isHerds_0 : List UInt8 := [3, 61, 3, 62, 29, 42, 180, 0, 71, 182, 0, 189, 162, 0, 92, 28, 42, 180, 0, 71, 29, 182, 0, 193]
abbrev dktX1_isHerds_0 : List UInt8 := dkwX1_isHerds_0 ++ dktX1_isHerds_1
theorem dksX1_isHerds_0 : cX1_isHerds.data.toList.drop 0 = dktX1_isHerds_0 := by decide +kernel
theorem dksX1_isHerds_1 : cX1_isHerds.data.toList.drop 24 = dktX1_isHerds_1 := dk_seg dksX1_isHerds_0 24 rfl rfl
theorem dksX1_isHerds_2 : cX1_isHerds.data.toList.drop 47 = dktX1_isHerds_2 := dk_seg dksX1_isHerds_1 23 rfl rfl
theorem dksX1_isHerds_3 : cX1_isHerds.data.toList.drop 69 = dktX1_isHerds_3 := dk_seg dksX1_isHerds_2 22 rfl rfl
theorem dksX1_isHerds_4 : cX1_isHerds.data.toList.drop 92 = dktX1_isHerds_4 := dk_seg dksX1_isHerds_3 23 rfl rfl
theorem dX1_isHerds_0 : decode cX1_isHerds 0 = .ok (.iconst 0, 1) := dk_3 (dk_at dksX1_isHerds_0 0 rfl rfl)
theorem dX1_isHerds_1 : decode cX1_isHerds 1 = .ok (.istore_n 2, 1) := dk_61 (dk_at dksX1_isHerds_0 1 rfl rfl)
theorem dX1_isHerds_2 : decode cX1_isHerds 2 = .ok (.iconst 0, 1) := dk_3 (dk_at dksX1_isHerds_0 2 rfl rfl)
theorem dX1_isHerds_3 : decode cX1_isHerds 3 = .ok (.istore_n 3, 1) := dk_62 (dk_at dksX1_isHerds_0 3 rfl rfl)
theorem dX1_isHerds_4 : decode cX1_isHerds 4 = .ok (.iload_n 3, 1) := dk_29 (dk_at dksX1_isHerds_0 4 rfl rfl)
theorem dX1_isHerds_5 : decode cX1_isHerds 5 = .ok (.aload_n 0, 1) := dk_42 (dk_at dksX1_isHerds_0 5 rfl rfl)
theorem dX1_isHerds_6 : decode cX1_isHerds 6 = .ok (.getfield 71, 3) := dk_180 0 71 (dk_at dksX1_isHerds_0 6 rfl rfl)
theorem dX1_isHerds_9 : decode cX1_isHerds 9 = .ok (.invokevirtual 189, 3) := dk_182 0 189 (dk_at dksX1_isHerds_0 9 rfl rfl)
theorem dX1_isHerds_12 : decode cX1_isHerds 12 = .ok (.if_icmp .ge 92, 3) := dk_162 0 92 (dk_at dksX1_isHerds_0 12 rfl rfl)
theorem dX1_isHerds_15 : decode cX1_isHerds 15 = .ok (.iload_n 2, 1) := dk_28 (dk_at dksX1_isHerds_0 15 rfl rfl)
theorem dX1_isHerds_16 : decode cX1_isHerds 16 = .ok (.aload_n 0, 1) := dk_42 (dk_at dksX1_isHerds_0 16 rfl rfl)
theorem dX1_isHerds_17 : decode cX1_isHerds 17 = .ok (.getfield 71, 3) := dk_180 0 71 (dk_at dksX1_isHerds_0 17 rfl rfl)
theorem dX1_isHerds_20 : decode cX1_isHerds 20 = .ok (.iload_n 3, 1) := dk_29 (dk_at dksX1_isHerds_0 20 rfl rfl)
theorem dX1_isHerds_21 : decode cX1_isHerds 21 = .ok (.invokevirtual 193, 3) := dk_182 0 193 (dk_at dksX1_isHerds_0 21 rfl rfl)
theorem dX1_isHerds_24 : decode cX1_isHerds 24 = .ok (.checkcast 197, 3) := dk_192 0 197 (dk_at dksX1_isHerds_1 0 rfl rfl)
theorem dX1_isHerds_27 : decode cX1_isHerds 27 = .ok (.getfield 199, 3) := dk_180 0 199 (dk_at dksX1_isHerds_1 3 rfl rfl)
theorem dX1_isHerds_30 : decode cX1_isHerds 30 = .ok (.iload_n 1, 1) := dk_27 (dk_at dksX1_isHerds_1 6 rfl rfl)
theorem dX1_isHerds_31 : decode cX1_isHerds 31 = .ok (.if_icmp .ne 7, 3) := dk_160 0 7 (dk_at dksX1_isHerds_1 7 rfl rfl)
theorem dX1_isHerds_34 : decode cX1_isHerds 34 = .ok (.iconst 1, 1) := dk_4 (dk_at dksX1_isHerds_1 10 rfl rfl)
theorem dX1_isHerds_35 : decode cX1_isHerds 35 = .ok (.goto 4, 3) := dk_167 0 4 (dk_at dksX1_isHerds_1 11 rfl rfl)
theorem dX1_isHerds_38 : decode cX1_isHerds 38 = .ok (.iconst 0, 1) := dk_3 (dk_at dksX1_isHerds_1 14 rfl rfl)
theorem dX1_isHerds_39 : decode cX1_isHerds 39 = .ok (.ior, 1) := dk_128 (dk_at dksX1_isHerds_1 15 rfl rfl)
theorem dX1_isHerds_40 : decode cX1_isHerds 40 = .ok (.istore_n 2, 1) := dk_61 (dk_at dksX1_isHerds_1 16 rfl rfl)
theorem dX1_isHerds_41 : decode cX1_isHerds 41 = .ok (.iconst 0, 1) := dk_3 (dk_at dksX1_isHerds_1 17 rfl rfl)
theorem dX1_isHerds_42 : decode cX1_isHerds 42 = .ok (.istore 4, 2) := dk_54 4 (dk_at dksX1_isHerds_1 18 rfl rfl)
theorem dX1_isHerds_44 : decode cX1_isHerds 44 = .ok (.iload 4, 2) := dk_21 4 (dk_at dksX1_isHerds_1 20 rfl rfl)
theorem dX1_isHerds_46 : decode cX1_isHerds 46 = .ok (.aload_n 0, 1) := dk_42 (dk_at dksX1_isHerds_1 22 rfl rfl)
theorem dX1_isHerds_47 : decode cX1_isHerds 47 = .ok (.getfield 71, 3) := dk_180 0 71 (dk_at dksX1_isHerds_2 0 rfl rfl)
theorem dX1_isHerds_50 : decode cX1_isHerds 50 = .ok (.iload_n 3, 1) := dk_29 (dk_at dksX1_isHerds_2 3 rfl rfl)
theorem dX1_isHerds_51 : decode cX1_isHerds 51 = .ok (.invokevirtual 193, 3) := dk_182 0 193 (dk_at dksX1_isHerds_2 4 rfl rfl)
theorem dX1_isHerds_54 : decode cX1_isHerds 54 = .ok (.checkcast 197, 3) := dk_192 0 197 (dk_at dksX1_isHerds_2 7 rfl rfl)
theorem dX1_isHerds_57 : decode cX1_isHerds 57 = .ok (.getfield 203, 3) := dk_180 0 203 (dk_at dksX1_isHerds_2 10 rfl rfl)
theorem dX1_isHerds_60 : decode cX1_isHerds 60 = .ok (.if_icmp .ge 38, 3) := dk_162 0 38 (dk_at dksX1_isHerds_2 13 rfl rfl)
theorem dX1_isHerds_63 : decode cX1_isHerds 63 = .ok (.iload_n 2, 1) := dk_28 (dk_at dksX1_isHerds_2 16 rfl rfl)
theorem dX1_isHerds_64 : decode cX1_isHerds 64 = .ok (.aload_n 0, 1) := dk_42 (dk_at dksX1_isHerds_2 17 rfl rfl)
theorem dX1_isHerds_65 : decode cX1_isHerds 65 = .ok (.getfield 71, 3) := dk_180 0 71 (dk_at dksX1_isHerds_2 18 rfl rfl)
theorem dX1_isHerds_68 : decode cX1_isHerds 68 = .ok (.iload_n 3, 1) := dk_29 (dk_at dksX1_isHerds_2 21 rfl rfl)
theorem dX1_isHerds_69 : decode cX1_isHerds 69 = .ok (.invokevirtual 193, 3) := dk_182 0 193 (dk_at dksX1_isHerds_3 0 rfl rfl)
theorem dX1_isHerds_72 : decode cX1_isHerds 72 = .ok (.checkcast 197, 3) := dk_192 0 197 (dk_at dksX1_isHerds_3 3 rfl rfl)
theorem dX1_isHerds_75 : decode cX1_isHerds 75 = .ok (.getfield 206, 3) := dk_180 0 206 (dk_at dksX1_isHerds_3 6 rfl rfl)
theorem dX1_isHerds_78 : decode cX1_isHerds 78 = .ok (.iload 4, 2) := dk_21 4 (dk_at dksX1_isHerds_3 9 rfl rfl)
theorem dX1_isHerds_80 : decode cX1_isHerds 80 = .ok (.iaload, 1) := dk_46 (dk_at dksX1_isHerds_3 11 rfl rfl)
theorem dX1_isHerds_81 : decode cX1_isHerds 81 = .ok (.iload_n 1, 1) := dk_27 (dk_at dksX1_isHerds_3 12 rfl rfl)
theorem dX1_isHerds_82 : decode cX1_isHerds 82 = .ok (.if_icmp .ne 7, 3) := dk_160 0 7 (dk_at dksX1_isHerds_3 13 rfl rfl)
theorem dX1_isHerds_85 : decode cX1_isHerds 85 = .ok (.iconst 1, 1) := dk_4 (dk_at dksX1_isHerds_3 16 rfl rfl)
theorem dX1_isHerds_86 : decode cX1_isHerds 86 = .ok (.goto 4, 3) := dk_167 0 4 (dk_at dksX1_isHerds_3 17 rfl rfl)
theorem dX1_isHerds_89 : decode cX1_isHerds 89 = .ok (.iconst 0, 1) := dk_3 (dk_at dksX1_isHerds_3 20 rfl rfl)
theorem dX1_isHerds_90 : decode cX1_isHerds 90 = .ok (.ior, 1) := dk_128 (dk_at dksX1_isHerds_3 21 rfl rfl)
theorem dX1_isHerds_91 : decode cX1_isHerds 91 = .ok (.istore_n 2, 1) := dk_61 (dk_at dksX1_isHerds_3 22 rfl rfl)
theorem dX1_isHerds_92 : decode cX1_isHerds 92 = .ok (.iinc 4 1, 3) := dk_132 4 1 (dk_at dksX1_isHerds_4 0 rfl rfl)
theorem dX1_isHerds_95 : decode cX1_isHerds 95 = .ok (.goto (-51), 3) := dk_167 255 205 (dk_at dksX1_isHerds_4 3 rfl rfl)
theorem dX1_isHerds_98 : decode cX1_isHerds 98 = .ok (.iinc 3 1, 3) := dk_132 3 1 (dk_at dksX1_isHerds_4 6 rfl rfl)
theorem dX1_isHerds_101 : decode cX1_isHerds 101 = .ok (.goto (-97), 3) := dk_167 255 159 (dk_at dksX1_isHerds_4 9 rfl rfl)
theorem dX1_isHerds_104 : decode cX1_isHerds 104 = .ok (.iload_n 2, 1) := dk_28 (dk_at dksX1_isHerds_4 12 rfl rfl)
theorem dX1_isHerds_105 : decode cX1_isHerds 105 = .ok (.ireturn, 1) := dk_172 (dk_at dksX1_isHerds_4 13 rfl rfl)
def dkwX1_was_1 : List UInt8 := [180, 0, 186, 27, 3, 79, 29, 172]
abbrev dktX1_was_1 : List UInt8 := dkwX1_was_1 ++ []
def dkwX1_was_0 : List UInt8 := [42, 180, 0, 44, 180, 0, 183, 27, 46, 62, 42, 180, 0, 44, 180, 0, 183, 27, 28, 79, 42, 180, 0, 44]
abbrev dktX1_was_0 : List UInt8 := dkwX1_was_0 ++ dktX1_was_1
theorem dksX1_was_0 : cX1_was.data.toList.drop 0 = dktX1_was_0 := by decide +kernel
theorem dksX1_was_1 : cX1_was.data.toList.drop 24 = dktX1_was_1 := dk_seg dksX1_was_0 24 rfl rfl
theorem dX1_was_0 : decode cX1_was 0 = .ok (.aload_n 0, 1) := dk_42 (dk_at dksX1_was_0 0 rfl rfl)
theorem dX1_was_1 : decode cX1_was 1 = .ok (.getfield 44, 3) := dk_180 0 44 (dk_at dksX1_was_0 1 rfl rfl)
theorem dX1_was_4 : decode cX1_was 4 = .ok (.getfield 183, 3) := dk_180 0 183 (dk_at dksX1_was_0 4 rfl rfl)
theorem dX1_was_7 : decode cX1_was 7 = .ok (.iload_n 1, 1) := dk_27 (dk_at dksX1_was_0 7 rfl rfl)
theorem dX1_was_8 : decode cX1_was 8 = .ok (.iaload, 1) := dk_46 (dk_at dksX1_was_0 8 rfl rfl)
theorem dX1_was_9 : decode cX1_was 9 = .ok (.istore_n 3, 1) := dk_62 (dk_at dksX1_was_0 9 rfl rfl)
theorem dX1_was_10 : decode cX1_was 10 = .ok (.aload_n 0, 1) := dk_42 (dk_at dksX1_was_0 10 rfl rfl)
theorem dX1_was_11 : decode cX1_was 11 = .ok (.getfield 44, 3) := dk_180 0 44 (dk_at dksX1_was_0 11 rfl rfl)
theorem dX1_was_14 : decode cX1_was 14 = .ok (.getfield 183, 3) := dk_180 0 183 (dk_at dksX1_was_0 14 rfl rfl)
theorem dX1_was_17 : decode cX1_was 17 = .ok (.iload_n 1, 1) := dk_27 (dk_at dksX1_was_0 17 rfl rfl)
theorem dX1_was_18 : decode cX1_was 18 = .ok (.iload_n 2, 1) := dk_28 (dk_at dksX1_was_0 18 rfl rfl)
theorem dX1_was_19 : decode cX1_was 19 = .ok (.iastore, 1) := dk_79 (dk_at dksX1_was_0 19 rfl rfl)
theorem dX1_was_20 : decode cX1_was 20 = .ok (.aload_n 0, 1) := dk_42 (dk_at dksX1_was_0 20 rfl rfl)
theorem dX1_was_21 : decode cX1_was 21 = .ok (.getfield 44, 3) := dk_180 0 44 (dk_at dksX1_was_0 21 rfl rfl)
theorem dX1_was_24 : decode cX1_was 24 = .ok (.getfield 186, 3) := dk_180 0 186 (dk_at dksX1_was_1 0 rfl rfl)
theorem dX1_was_27 : decode cX1_was 27 = .ok (.iload_n 1, 1) := dk_27 (dk_at dksX1_was_1 3 rfl rfl)
theorem dX1_was_28 : decode cX1_was 28 = .ok (.iconst 0, 1) := dk_3 (dk_at dksX1_was_1 4 rfl rfl)
theorem dX1_was_29 : decode cX1_was 29 = .ok (.iastore, 1) := dk_79 (dk_at dksX1_was_1 5 rfl rfl)
theorem dX1_was_30 : decode cX1_was 30 = .ok (.iload_n 3, 1) := dk_29 (dk_at dksX1_was_1 6 rfl rfl)
theorem dX1_was_31 : decode cX1_was 31 = .ok (.ireturn, 1) := dk_172 (dk_at dksX1_was_1 7 rfl rfl)
def dkwX1_field_3 : List UInt8 := [180, 0, 186, 27, 21, 4, 79, 21, 5, 172]
abbrev dktX1_field_3 : List UInt8 := dkwX1_field_3 ++ []
def dkwX1_field_2 : List UInt8 := [180, 0, 44, 180, 0, 222, 27, 28, 79, 42, 180, 0, 44, 180, 0, 224, 27, 29, 79, 42, 180, 0, 44]
abbrev dktX1_field_2 : List UInt8 := dkwX1_field_2 ++ dktX1_field_3
def dkwX1_field_1 : List UInt8 := [184, 0, 163, 154, 0, 7, 4, 167, 0, 4, 3, 184, 0, 178, 42, 27, 5, 182, 0, 216, 54, 5, 42]
abbrev dktX1_field_1 : List UInt8 := dkwX1_field_1 ++ dktX1_field_2
def dkwX1_field_0 : List UInt8 := [27, 184, 0, 170, 28, 184, 0, 219, 29, 3, 6, 184, 0, 163, 153, 0, 15, 21, 4, 3, 17, 3, 232]
abbrev dktX1_field_0 : List UInt8 := dkwX1_field_0 ++ dktX1_field_1
theorem dksX1_field_0 : cX1_field.data.toList.drop 0 = dktX1_field_0 := by decide +kernel
theorem dksX1_field_1 : cX1_field.data.toList.drop 23 = dktX1_field_1 := dk_seg dksX1_field_0 23 rfl rfl
theorem dksX1_field_2 : cX1_field.data.toList.drop 46 = dktX1_field_2 := dk_seg dksX1_field_1 23 rfl rfl
theorem dksX1_field_3 : cX1_field.data.toList.drop 69 = dktX1_field_3 := dk_seg dksX1_field_2 23 rfl rfl
theorem dX1_field_0 : decode cX1_field 0 = .ok (.iload_n 1, 1) := dk_27 (dk_at dksX1_field_0 0 rfl rfl)
theorem dX1_field_1 : decode cX1_field 1 = .ok (.invokestatic 170, 3) := dk_184 0 170 (dk_at dksX1_field_0 1 rfl rfl)
theorem dX1_field_4 : decode cX1_field 4 = .ok (.iload_n 2, 1) := dk_28 (dk_at dksX1_field_0 4 rfl rfl)
theorem dX1_field_5 : decode cX1_field 5 = .ok (.invokestatic 219, 3) := dk_184 0 219 (dk_at dksX1_field_0 5 rfl rfl)
theorem dX1_field_8 : decode cX1_field 8 = .ok (.iload_n 3, 1) := dk_29 (dk_at dksX1_field_0 8 rfl rfl)
theorem dX1_field_9 : decode cX1_field 9 = .ok (.iconst 0, 1) := dk_3 (dk_at dksX1_field_0 9 rfl rfl)
theorem dX1_field_10 : decode cX1_field 10 = .ok (.iconst 3, 1) := dk_6 (dk_at dksX1_field_0 10 rfl rfl)
theorem dX1_field_11 : decode cX1_field 11 = .ok (.invokestatic 163, 3) := dk_184 0 163 (dk_at dksX1_field_0 11 rfl rfl)
theorem dX1_field_14 : decode cX1_field 14 = .ok (.ifCond .eq 15, 3) := dk_153 0 15 (dk_at dksX1_field_0 14 rfl rfl)
theorem dX1_field_17 : decode cX1_field 17 = .ok (.iload 4, 2) := dk_21 4 (dk_at dksX1_field_0 17 rfl rfl)
theorem dX1_field_19 : decode cX1_field 19 = .ok (.iconst 0, 1) := dk_3 (dk_at dksX1_field_0 19 rfl rfl)
theorem dX1_field_20 : decode cX1_field 20 = .ok (.sipush 1000, 3) := dk_17 3 232 (dk_at dksX1_field_0 20 rfl rfl)
theorem dX1_field_23 : decode cX1_field 23 = .ok (.invokestatic 163, 3) := dk_184 0 163 (dk_at dksX1_field_1 0 rfl rfl)
theorem dX1_field_26 : decode cX1_field 26 = .ok (.ifCond .ne 7, 3) := dk_154 0 7 (dk_at dksX1_field_1 3 rfl rfl)
theorem dX1_field_29 : decode cX1_field 29 = .ok (.iconst 1, 1) := dk_4 (dk_at dksX1_field_1 6 rfl rfl)
theorem dX1_field_30 : decode cX1_field 30 = .ok (.goto 4, 3) := dk_167 0 4 (dk_at dksX1_field_1 7 rfl rfl)
theorem dX1_field_33 : decode cX1_field 33 = .ok (.iconst 0, 1) := dk_3 (dk_at dksX1_field_1 10 rfl rfl)
theorem dX1_field_34 : decode cX1_field 34 = .ok (.invokestatic 178, 3) := dk_184 0 178 (dk_at dksX1_field_1 11 rfl rfl)
theorem dX1_field_37 : decode cX1_field 37 = .ok (.aload_n 0, 1) := dk_42 (dk_at dksX1_field_1 14 rfl rfl)
theorem dX1_field_38 : decode cX1_field 38 = .ok (.iload_n 1, 1) := dk_27 (dk_at dksX1_field_1 15 rfl rfl)
theorem dX1_field_39 : decode cX1_field 39 = .ok (.iconst 2, 1) := dk_5 (dk_at dksX1_field_1 16 rfl rfl)
theorem dX1_field_40 : decode cX1_field 40 = .ok (.invokevirtual 216, 3) := dk_182 0 216 (dk_at dksX1_field_1 17 rfl rfl)
theorem dX1_field_43 : decode cX1_field 43 = .ok (.istore 5, 2) := dk_54 5 (dk_at dksX1_field_1 20 rfl rfl)
theorem dX1_field_45 : decode cX1_field 45 = .ok (.aload_n 0, 1) := dk_42 (dk_at dksX1_field_1 22 rfl rfl)
theorem dX1_field_46 : decode cX1_field 46 = .ok (.getfield 44, 3) := dk_180 0 44 (dk_at dksX1_field_2 0 rfl rfl)
theorem dX1_field_49 : decode cX1_field 49 = .ok (.getfield 222, 3) := dk_180 0 222 (dk_at dksX1_field_2 3 rfl rfl)
theorem dX1_field_52 : decode cX1_field 52 = .ok (.iload_n 1, 1) := dk_27 (dk_at dksX1_field_2 6 rfl rfl)
theorem dX1_field_53 : decode cX1_field 53 = .ok (.iload_n 2, 1) := dk_28 (dk_at dksX1_field_2 7 rfl rfl)
theorem dX1_field_54 : decode cX1_field 54 = .ok (.iastore, 1) := dk_79 (dk_at dksX1_field_2 8 rfl rfl)
theorem dX1_field_55 : decode cX1_field 55 = .ok (.aload_n 0, 1) := dk_42 (dk_at dksX1_field_2 9 rfl rfl)
theorem dX1_field_56 : decode cX1_field 56 = .ok (.getfield 44, 3) := dk_180 0 44 (dk_at dksX1_field_2 10 rfl rfl)
theorem dX1_field_59 : decode cX1_field 59 = .ok (.getfield 224, 3) := dk_180 0 224 (dk_at dksX1_field_2 13 rfl rfl)
theorem dX1_field_62 : decode cX1_field 62 = .ok (.iload_n 1, 1) := dk_27 (dk_at dksX1_field_2 16 rfl rfl)
theorem dX1_field_63 : decode cX1_field 63 = .ok (.iload_n 3, 1) := dk_29 (dk_at dksX1_field_2 17 rfl rfl)
theorem dX1_field_64 : decode cX1_field 64 = .ok (.iastore, 1) := dk_79 (dk_at dksX1_field_2 18 rfl rfl)
theorem dX1_field_65 : decode cX1_field 65 = .ok (.aload_n 0, 1) := dk_42 (dk_at dksX1_field_2 19 rfl rfl)
theorem dX1_field_66 : decode cX1_field 66 = .ok (.getfield 44, 3) := dk_180 0 44 (dk_at dksX1_field_2 20 rfl rfl)
theorem dX1_field_69 : decode cX1_field 69 = .ok (.getfield 186, 3) := dk_180 0 186 (dk_at dksX1_field_3 0 rfl rfl)
theorem dX1_field_72 : decode cX1_field 72 = .ok (.iload_n 1, 1) := dk_27 (dk_at dksX1_field_3 3 rfl rfl)
theorem dX1_field_73 : decode cX1_field 73 = .ok (.iload 4, 2) := dk_21 4 (dk_at dksX1_field_3 4 rfl rfl)
theorem dX1_field_75 : decode cX1_field 75 = .ok (.iastore, 1) := dk_79 (dk_at dksX1_field_3 6 rfl rfl)
theorem dX1_field_76 : decode cX1_field 76 = .ok (.iload 5, 2) := dk_21 5 (dk_at dksX1_field_3 7 rfl rfl)
theorem dX1_field_78 : decode cX1_field 78 = .ok (.ireturn, 1) := dk_172 (dk_at dksX1_field_3 9 rfl rfl)
def dkwX1_family_0 : List UInt8 := [26, 3, 16, 9, 184, 0, 163, 154, 0, 7, 4, 167, 0, 4, 3, 184, 0, 178, 177]
abbrev dktX1_family_0 : List UInt8 := dkwX1_family_0 ++ []
theorem dksX1_family_0 : cX1_family.data.toList.drop 0 = dktX1_family_0 := by decide +kernel
theorem dX1_family_0 : decode cX1_family 0 = .ok (.iload_n 0, 1) := dk_26 (dk_at dksX1_family_0 0 rfl rfl)
theorem dX1_family_1 : decode cX1_family 1 = .ok (.iconst 0, 1) := dk_3 (dk_at dksX1_family_0 1 rfl rfl)
theorem dX1_family_2 : decode cX1_family 2 = .ok (.bipush 9, 2) := dk_16 9 (dk_at dksX1_family_0 2 rfl rfl)
theorem dX1_family_4 : decode cX1_family 4 = .ok (.invokestatic 163, 3) := dk_184 0 163 (dk_at dksX1_family_0 4 rfl rfl)
theorem dX1_family_7 : decode cX1_family 7 = .ok (.ifCond .ne 7, 3) := dk_154 0 7 (dk_at dksX1_family_0 7 rfl rfl)
theorem dX1_family_10 : decode cX1_family 10 = .ok (.iconst 1, 1) := dk_4 (dk_at dksX1_family_0 10 rfl rfl)
theorem dX1_family_11 : decode cX1_family 11 = .ok (.goto 4, 3) := dk_167 0 4 (dk_at dksX1_family_0 11 rfl rfl)
theorem dX1_family_14 : decode cX1_family 14 = .ok (.iconst 0, 1) := dk_3 (dk_at dksX1_family_0 14 rfl rfl)
theorem dX1_family_15 : decode cX1_family 15 = .ok (.invokestatic 178, 3) := dk_184 0 178 (dk_at dksX1_family_0 15 rfl rfl)
theorem dX1_family_18 : decode cX1_family 18 = .ok (.return_, 1) := dk_177 (dk_at dksX1_family_0 18 rfl rfl)
def dkwX1_stalks_1 : List UInt8 := [27, 46, 167, 0, 4, 2, 172]
abbrev dktX1_stalks_1 : List UInt8 := dkwX1_stalks_1 ++ []
def dkwX1_stalks_0 : List UInt8 := [27, 184, 0, 170, 42, 180, 0, 44, 180, 0, 183, 27, 46, 5, 160, 0, 15, 42, 180, 0, 44, 180, 0, 186]
abbrev dktX1_stalks_0 : List UInt8 := dkwX1_stalks_0 ++ dktX1_stalks_1
theorem dksX1_stalks_0 : cX1_stalks.data.toList.drop 0 = dktX1_stalks_0 := by decide +kernel
theorem dksX1_stalks_1 : cX1_stalks.data.toList.drop 24 = dktX1_stalks_1 := dk_seg dksX1_stalks_0 24 rfl rfl
theorem dX1_stalks_0 : decode cX1_stalks 0 = .ok (.iload_n 1, 1) := dk_27 (dk_at dksX1_stalks_0 0 rfl rfl)
theorem dX1_stalks_1 : decode cX1_stalks 1 = .ok (.invokestatic 170, 3) := dk_184 0 170 (dk_at dksX1_stalks_0 1 rfl rfl)
theorem dX1_stalks_4 : decode cX1_stalks 4 = .ok (.aload_n 0, 1) := dk_42 (dk_at dksX1_stalks_0 4 rfl rfl)
theorem dX1_stalks_5 : decode cX1_stalks 5 = .ok (.getfield 44, 3) := dk_180 0 44 (dk_at dksX1_stalks_0 5 rfl rfl)
theorem dX1_stalks_8 : decode cX1_stalks 8 = .ok (.getfield 183, 3) := dk_180 0 183 (dk_at dksX1_stalks_0 8 rfl rfl)
theorem dX1_stalks_11 : decode cX1_stalks 11 = .ok (.iload_n 1, 1) := dk_27 (dk_at dksX1_stalks_0 11 rfl rfl)
theorem dX1_stalks_12 : decode cX1_stalks 12 = .ok (.iaload, 1) := dk_46 (dk_at dksX1_stalks_0 12 rfl rfl)
theorem dX1_stalks_13 : decode cX1_stalks 13 = .ok (.iconst 2, 1) := dk_5 (dk_at dksX1_stalks_0 13 rfl rfl)
theorem dX1_stalks_14 : decode cX1_stalks 14 = .ok (.if_icmp .ne 15, 3) := dk_160 0 15 (dk_at dksX1_stalks_0 14 rfl rfl)
theorem dX1_stalks_17 : decode cX1_stalks 17 = .ok (.aload_n 0, 1) := dk_42 (dk_at dksX1_stalks_0 17 rfl rfl)
theorem dX1_stalks_18 : decode cX1_stalks 18 = .ok (.getfield 44, 3) := dk_180 0 44 (dk_at dksX1_stalks_0 18 rfl rfl)
theorem dX1_stalks_21 : decode cX1_stalks 21 = .ok (.getfield 186, 3) := dk_180 0 186 (dk_at dksX1_stalks_0 21 rfl rfl)
theorem dX1_stalks_24 : decode cX1_stalks 24 = .ok (.iload_n 1, 1) := dk_27 (dk_at dksX1_stalks_1 0 rfl rfl)
theorem dX1_stalks_25 : decode cX1_stalks 25 = .ok (.iaload, 1) := dk_46 (dk_at dksX1_stalks_1 1 rfl rfl)
theorem dX1_stalks_26 : decode cX1_stalks 26 = .ok (.goto 4, 3) := dk_167 0 4 (dk_at dksX1_stalks_1 2 rfl rfl)
theorem dX1_stalks_29 : decode cX1_stalks 29 = .ok (.iconst (-1), 1) := dk_2 (dk_at dksX1_stalks_1 5 rfl rfl)
theorem dX1_stalks_30 : decode cX1_stalks 30 = .ok (.ireturn, 1) := dk_172 (dk_at dksX1_stalks_1 6 rfl rfl)
def dkwX1_village_1 : List UInt8 := [180, 0, 84, 27, 46, 62, 42, 180, 0, 84, 27, 28, 79, 29, 172]
abbrev dktX1_village_1 : List UInt8 := dkwX1_village_1 ++ []
def dkwX1_village_0 : List UInt8 := [27, 184, 0, 219, 28, 3, 4, 184, 0, 163, 154, 0, 7, 4, 167, 0, 4, 3, 184, 0, 178, 42]
abbrev dktX1_village_0 : List UInt8 := dkwX1_village_0 ++ dktX1_village_1
theorem dksX1_village_0 : cX1_village.data.toList.drop 0 = dktX1_village_0 := by decide +kernel
theorem dksX1_village_1 : cX1_village.data.toList.drop 22 = dktX1_village_1 := dk_seg dksX1_village_0 22 rfl rfl
theorem dX1_village_0 : decode cX1_village 0 = .ok (.iload_n 1, 1) := dk_27 (dk_at dksX1_village_0 0 rfl rfl)
theorem dX1_village_1 : decode cX1_village 1 = .ok (.invokestatic 219, 3) := dk_184 0 219 (dk_at dksX1_village_0 1 rfl rfl)
theorem dX1_village_4 : decode cX1_village 4 = .ok (.iload_n 2, 1) := dk_28 (dk_at dksX1_village_0 4 rfl rfl)
theorem dX1_village_5 : decode cX1_village 5 = .ok (.iconst 0, 1) := dk_3 (dk_at dksX1_village_0 5 rfl rfl)
theorem dX1_village_6 : decode cX1_village 6 = .ok (.iconst 1, 1) := dk_4 (dk_at dksX1_village_0 6 rfl rfl)
theorem dX1_village_7 : decode cX1_village 7 = .ok (.invokestatic 163, 3) := dk_184 0 163 (dk_at dksX1_village_0 7 rfl rfl)
theorem dX1_village_10 : decode cX1_village 10 = .ok (.ifCond .ne 7, 3) := dk_154 0 7 (dk_at dksX1_village_0 10 rfl rfl)
theorem dX1_village_13 : decode cX1_village 13 = .ok (.iconst 1, 1) := dk_4 (dk_at dksX1_village_0 13 rfl rfl)
theorem dX1_village_14 : decode cX1_village 14 = .ok (.goto 4, 3) := dk_167 0 4 (dk_at dksX1_village_0 14 rfl rfl)
theorem dX1_village_17 : decode cX1_village 17 = .ok (.iconst 0, 1) := dk_3 (dk_at dksX1_village_0 17 rfl rfl)
theorem dX1_village_18 : decode cX1_village 18 = .ok (.invokestatic 178, 3) := dk_184 0 178 (dk_at dksX1_village_0 18 rfl rfl)
theorem dX1_village_21 : decode cX1_village 21 = .ok (.aload_n 0, 1) := dk_42 (dk_at dksX1_village_0 21 rfl rfl)
theorem dX1_village_22 : decode cX1_village 22 = .ok (.getfield 84, 3) := dk_180 0 84 (dk_at dksX1_village_1 0 rfl rfl)
theorem dX1_village_25 : decode cX1_village 25 = .ok (.iload_n 1, 1) := dk_27 (dk_at dksX1_village_1 3 rfl rfl)
theorem dX1_village_26 : decode cX1_village 26 = .ok (.iaload, 1) := dk_46 (dk_at dksX1_village_1 4 rfl rfl)
theorem dX1_village_27 : decode cX1_village 27 = .ok (.istore_n 3, 1) := dk_62 (dk_at dksX1_village_1 5 rfl rfl)
theorem dX1_village_28 : decode cX1_village 28 = .ok (.aload_n 0, 1) := dk_42 (dk_at dksX1_village_1 6 rfl rfl)
theorem dX1_village_29 : decode cX1_village 29 = .ok (.getfield 84, 3) := dk_180 0 84 (dk_at dksX1_village_1 7 rfl rfl)
theorem dX1_village_32 : decode cX1_village 32 = .ok (.iload_n 1, 1) := dk_27 (dk_at dksX1_village_1 10 rfl rfl)
theorem dX1_village_33 : decode cX1_village 33 = .ok (.iload_n 2, 1) := dk_28 (dk_at dksX1_village_1 11 rfl rfl)
theorem dX1_village_34 : decode cX1_village 34 = .ok (.iastore, 1) := dk_79 (dk_at dksX1_village_1 12 rfl rfl)
theorem dX1_village_35 : decode cX1_village 35 = .ok (.iload_n 3, 1) := dk_29 (dk_at dksX1_village_1 13 rfl rfl)
theorem dX1_village_36 : decode cX1_village 36 = .ok (.ireturn, 1) := dk_172 (dk_at dksX1_village_1 14 rfl rfl)
def dkwX1_fence_2 : List UInt8 := [180, 0, 44, 27, 28, 29, 182, 0, 234, 42, 180, 0, 44, 27, 28, 21, 4, 182, 0, 237, 21, 5, 172]
abbrev dktX1_fence_2 : List UInt8 := dkwX1_fence_2 ++ []
def dkwX1_fence_1 : List UInt8 := [154, 0, 7, 4, 167, 0, 4, 3, 184, 0, 178, 42, 180, 0, 44, 27, 28, 182, 0, 231, 54, 5, 42]
abbrev dktX1_fence_1 : List UInt8 := dkwX1_fence_1 ++ dktX1_fence_2
def dkwX1_fence_0 : List UInt8 := [27, 28, 184, 0, 227, 29, 3, 16, 100, 184, 0, 163, 153, 0, 13, 21, 4, 3, 4, 184, 0, 163]
abbrev dktX1_fence_0 : List UInt8 := dkwX1_fence_0 ++ dktX1_fence_1
theorem dksX1_fence_0 : cX1_fence.data.toList.drop 0 = dktX1_fence_0 := by decide +kernel
theorem dksX1_fence_1 : cX1_fence.data.toList.drop 22 = dktX1_fence_1 := dk_seg dksX1_fence_0 22 rfl rfl
theorem dksX1_fence_2 : cX1_fence.data.toList.drop 45 = dktX1_fence_2 := dk_seg dksX1_fence_1 23 rfl rfl
theorem dX1_fence_0 : decode cX1_fence 0 = .ok (.iload_n 1, 1) := dk_27 (dk_at dksX1_fence_0 0 rfl rfl)
theorem dX1_fence_1 : decode cX1_fence 1 = .ok (.iload_n 2, 1) := dk_28 (dk_at dksX1_fence_0 1 rfl rfl)
theorem dX1_fence_2 : decode cX1_fence 2 = .ok (.invokestatic 227, 3) := dk_184 0 227 (dk_at dksX1_fence_0 2 rfl rfl)
theorem dX1_fence_5 : decode cX1_fence 5 = .ok (.iload_n 3, 1) := dk_29 (dk_at dksX1_fence_0 5 rfl rfl)
theorem dX1_fence_6 : decode cX1_fence 6 = .ok (.iconst 0, 1) := dk_3 (dk_at dksX1_fence_0 6 rfl rfl)
theorem dX1_fence_7 : decode cX1_fence 7 = .ok (.bipush 100, 2) := dk_16 100 (dk_at dksX1_fence_0 7 rfl rfl)
theorem dX1_fence_9 : decode cX1_fence 9 = .ok (.invokestatic 163, 3) := dk_184 0 163 (dk_at dksX1_fence_0 9 rfl rfl)
theorem dX1_fence_12 : decode cX1_fence 12 = .ok (.ifCond .eq 13, 3) := dk_153 0 13 (dk_at dksX1_fence_0 12 rfl rfl)
theorem dX1_fence_15 : decode cX1_fence 15 = .ok (.iload 4, 2) := dk_21 4 (dk_at dksX1_fence_0 15 rfl rfl)
theorem dX1_fence_17 : decode cX1_fence 17 = .ok (.iconst 0, 1) := dk_3 (dk_at dksX1_fence_0 17 rfl rfl)
theorem dX1_fence_18 : decode cX1_fence 18 = .ok (.iconst 1, 1) := dk_4 (dk_at dksX1_fence_0 18 rfl rfl)
theorem dX1_fence_19 : decode cX1_fence 19 = .ok (.invokestatic 163, 3) := dk_184 0 163 (dk_at dksX1_fence_0 19 rfl rfl)
theorem dX1_fence_22 : decode cX1_fence 22 = .ok (.ifCond .ne 7, 3) := dk_154 0 7 (dk_at dksX1_fence_1 0 rfl rfl)
theorem dX1_fence_25 : decode cX1_fence 25 = .ok (.iconst 1, 1) := dk_4 (dk_at dksX1_fence_1 3 rfl rfl)
theorem dX1_fence_26 : decode cX1_fence 26 = .ok (.goto 4, 3) := dk_167 0 4 (dk_at dksX1_fence_1 4 rfl rfl)
theorem dX1_fence_29 : decode cX1_fence 29 = .ok (.iconst 0, 1) := dk_3 (dk_at dksX1_fence_1 7 rfl rfl)
theorem dX1_fence_30 : decode cX1_fence 30 = .ok (.invokestatic 178, 3) := dk_184 0 178 (dk_at dksX1_fence_1 8 rfl rfl)
theorem dX1_fence_33 : decode cX1_fence 33 = .ok (.aload_n 0, 1) := dk_42 (dk_at dksX1_fence_1 11 rfl rfl)
theorem dX1_fence_34 : decode cX1_fence 34 = .ok (.getfield 44, 3) := dk_180 0 44 (dk_at dksX1_fence_1 12 rfl rfl)
theorem dX1_fence_37 : decode cX1_fence 37 = .ok (.iload_n 1, 1) := dk_27 (dk_at dksX1_fence_1 15 rfl rfl)
theorem dX1_fence_38 : decode cX1_fence 38 = .ok (.iload_n 2, 1) := dk_28 (dk_at dksX1_fence_1 16 rfl rfl)
theorem dX1_fence_39 : decode cX1_fence 39 = .ok (.invokevirtual 231, 3) := dk_182 0 231 (dk_at dksX1_fence_1 17 rfl rfl)
theorem dX1_fence_42 : decode cX1_fence 42 = .ok (.istore 5, 2) := dk_54 5 (dk_at dksX1_fence_1 20 rfl rfl)
theorem dX1_fence_44 : decode cX1_fence 44 = .ok (.aload_n 0, 1) := dk_42 (dk_at dksX1_fence_1 22 rfl rfl)
theorem dX1_fence_45 : decode cX1_fence 45 = .ok (.getfield 44, 3) := dk_180 0 44 (dk_at dksX1_fence_2 0 rfl rfl)
theorem dX1_fence_48 : decode cX1_fence 48 = .ok (.iload_n 1, 1) := dk_27 (dk_at dksX1_fence_2 3 rfl rfl)
theorem dX1_fence_49 : decode cX1_fence 49 = .ok (.iload_n 2, 1) := dk_28 (dk_at dksX1_fence_2 4 rfl rfl)
theorem dX1_fence_50 : decode cX1_fence 50 = .ok (.iload_n 3, 1) := dk_29 (dk_at dksX1_fence_2 5 rfl rfl)
theorem dX1_fence_51 : decode cX1_fence 51 = .ok (.invokevirtual 234, 3) := dk_182 0 234 (dk_at dksX1_fence_2 6 rfl rfl)
theorem dX1_fence_54 : decode cX1_fence 54 = .ok (.aload_n 0, 1) := dk_42 (dk_at dksX1_fence_2 9 rfl rfl)
theorem dX1_fence_55 : decode cX1_fence 55 = .ok (.getfield 44, 3) := dk_180 0 44 (dk_at dksX1_fence_2 10 rfl rfl)
theorem dX1_fence_58 : decode cX1_fence 58 = .ok (.iload_n 1, 1) := dk_27 (dk_at dksX1_fence_2 13 rfl rfl)
theorem dX1_fence_59 : decode cX1_fence 59 = .ok (.iload_n 2, 1) := dk_28 (dk_at dksX1_fence_2 14 rfl rfl)
theorem dX1_fence_60 : decode cX1_fence 60 = .ok (.iload 4, 2) := dk_21 4 (dk_at dksX1_fence_2 15 rfl rfl)
theorem dX1_fence_62 : decode cX1_fence 62 = .ok (.invokevirtual 237, 3) := dk_182 0 237 (dk_at dksX1_fence_2 17 rfl rfl)
theorem dX1_fence_65 : decode cX1_fence 65 = .ok (.iload 5, 2) := dk_21 5 (dk_at dksX1_fence_2 20 rfl rfl)
theorem dX1_fence_67 : decode cX1_fence 67 = .ok (.ireturn, 1) := dk_172 (dk_at dksX1_fence_2 22 rfl rfl)
def dkwX1_edge_1 : List UInt8 := [177]
abbrev dktX1_edge_1 : List UInt8 := dkwX1_edge_1 ++ []
def dkwX1_edge_0 : List UInt8 := [26, 184, 0, 170, 27, 184, 0, 170, 26, 27, 184, 0, 174, 154, 0, 7, 4, 167, 0, 4, 3, 184, 0, 178]
abbrev dktX1_edge_0 : List UInt8 := dkwX1_edge_0 ++ dktX1_edge_1
theorem dksX1_edge_0 : cX1_edge.data.toList.drop 0 = dktX1_edge_0 := by decide +kernel
theorem dksX1_edge_1 : cX1_edge.data.toList.drop 24 = dktX1_edge_1 := dk_seg dksX1_edge_0 24 rfl rfl
theorem dX1_edge_0 : decode cX1_edge 0 = .ok (.iload_n 0, 1) := dk_26 (dk_at dksX1_edge_0 0 rfl rfl)
theorem dX1_edge_1 : decode cX1_edge 1 = .ok (.invokestatic 170, 3) := dk_184 0 170 (dk_at dksX1_edge_0 1 rfl rfl)
theorem dX1_edge_4 : decode cX1_edge 4 = .ok (.iload_n 1, 1) := dk_27 (dk_at dksX1_edge_0 4 rfl rfl)
theorem dX1_edge_5 : decode cX1_edge 5 = .ok (.invokestatic 170, 3) := dk_184 0 170 (dk_at dksX1_edge_0 5 rfl rfl)
theorem dX1_edge_8 : decode cX1_edge 8 = .ok (.iload_n 0, 1) := dk_26 (dk_at dksX1_edge_0 8 rfl rfl)
theorem dX1_edge_9 : decode cX1_edge 9 = .ok (.iload_n 1, 1) := dk_27 (dk_at dksX1_edge_0 9 rfl rfl)
theorem dX1_edge_10 : decode cX1_edge 10 = .ok (.invokestatic 174, 3) := dk_184 0 174 (dk_at dksX1_edge_0 10 rfl rfl)
theorem dX1_edge_13 : decode cX1_edge 13 = .ok (.ifCond .ne 7, 3) := dk_154 0 7 (dk_at dksX1_edge_0 13 rfl rfl)
theorem dX1_edge_16 : decode cX1_edge 16 = .ok (.iconst 1, 1) := dk_4 (dk_at dksX1_edge_0 16 rfl rfl)
theorem dX1_edge_17 : decode cX1_edge 17 = .ok (.goto 4, 3) := dk_167 0 4 (dk_at dksX1_edge_0 17 rfl rfl)
theorem dX1_edge_20 : decode cX1_edge 20 = .ok (.iconst 0, 1) := dk_3 (dk_at dksX1_edge_0 20 rfl rfl)
theorem dX1_edge_21 : decode cX1_edge 21 = .ok (.invokestatic 178, 3) := dk_184 0 178 (dk_at dksX1_edge_0 21 rfl rfl)
theorem dX1_edge_24 : decode cX1_edge 24 = .ok (.return_, 1) := dk_177 (dk_at dksX1_edge_1 0 rfl rfl)
def dkwX1_isBeside_1 : List UInt8 := [128, 61, 132, 3, 1, 167, 255, 231, 28, 172]
abbrev dktX1_isBeside_1 : List UInt8 := dkwX1_isBeside_1 ++ []
def dkwX1_isBeside_0 : List UInt8 := [3, 61, 3, 62, 29, 7, 162, 0, 26, 28, 26, 29, 184, 0, 21, 27, 160, 0, 7, 4, 167, 0, 4, 3]
abbrev dktX1_isBeside_0 : List UInt8 := dkwX1_isBeside_0 ++ dktX1_isBeside_1
theorem dksX1_isBeside_0 : cX1_isBeside.data.toList.drop 0 = dktX1_isBeside_0 := by decide +kernel
theorem dksX1_isBeside_1 : cX1_isBeside.data.toList.drop 24 = dktX1_isBeside_1 := dk_seg dksX1_isBeside_0 24 rfl rfl
theorem dX1_isBeside_0 : decode cX1_isBeside 0 = .ok (.iconst 0, 1) := dk_3 (dk_at dksX1_isBeside_0 0 rfl rfl)
theorem dX1_isBeside_1 : decode cX1_isBeside 1 = .ok (.istore_n 2, 1) := dk_61 (dk_at dksX1_isBeside_0 1 rfl rfl)
theorem dX1_isBeside_2 : decode cX1_isBeside 2 = .ok (.iconst 0, 1) := dk_3 (dk_at dksX1_isBeside_0 2 rfl rfl)
theorem dX1_isBeside_3 : decode cX1_isBeside 3 = .ok (.istore_n 3, 1) := dk_62 (dk_at dksX1_isBeside_0 3 rfl rfl)
theorem dX1_isBeside_4 : decode cX1_isBeside 4 = .ok (.iload_n 3, 1) := dk_29 (dk_at dksX1_isBeside_0 4 rfl rfl)
theorem dX1_isBeside_5 : decode cX1_isBeside 5 = .ok (.iconst 4, 1) := dk_7 (dk_at dksX1_isBeside_0 5 rfl rfl)
theorem dX1_isBeside_6 : decode cX1_isBeside 6 = .ok (.if_icmp .ge 26, 3) := dk_162 0 26 (dk_at dksX1_isBeside_0 6 rfl rfl)
theorem dX1_isBeside_9 : decode cX1_isBeside 9 = .ok (.iload_n 2, 1) := dk_28 (dk_at dksX1_isBeside_0 9 rfl rfl)
theorem dX1_isBeside_10 : decode cX1_isBeside 10 = .ok (.iload_n 0, 1) := dk_26 (dk_at dksX1_isBeside_0 10 rfl rfl)
theorem dX1_isBeside_11 : decode cX1_isBeside 11 = .ok (.iload_n 3, 1) := dk_29 (dk_at dksX1_isBeside_0 11 rfl rfl)
theorem dX1_isBeside_12 : decode cX1_isBeside 12 = .ok (.invokestatic 21, 3) := dk_184 0 21 (dk_at dksX1_isBeside_0 12 rfl rfl)
theorem dX1_isBeside_15 : decode cX1_isBeside 15 = .ok (.iload_n 1, 1) := dk_27 (dk_at dksX1_isBeside_0 15 rfl rfl)
theorem dX1_isBeside_16 : decode cX1_isBeside 16 = .ok (.if_icmp .ne 7, 3) := dk_160 0 7 (dk_at dksX1_isBeside_0 16 rfl rfl)
theorem dX1_isBeside_19 : decode cX1_isBeside 19 = .ok (.iconst 1, 1) := dk_4 (dk_at dksX1_isBeside_0 19 rfl rfl)
theorem dX1_isBeside_20 : decode cX1_isBeside 20 = .ok (.goto 4, 3) := dk_167 0 4 (dk_at dksX1_isBeside_0 20 rfl rfl)
theorem dX1_isBeside_23 : decode cX1_isBeside 23 = .ok (.iconst 0, 1) := dk_3 (dk_at dksX1_isBeside_0 23 rfl rfl)
theorem dX1_isBeside_24 : decode cX1_isBeside 24 = .ok (.ior, 1) := dk_128 (dk_at dksX1_isBeside_1 0 rfl rfl)
theorem dX1_isBeside_25 : decode cX1_isBeside 25 = .ok (.istore_n 2, 1) := dk_61 (dk_at dksX1_isBeside_1 1 rfl rfl)
theorem dX1_isBeside_26 : decode cX1_isBeside 26 = .ok (.iinc 3 1, 3) := dk_132 3 1 (dk_at dksX1_isBeside_1 2 rfl rfl)
theorem dX1_isBeside_29 : decode cX1_isBeside 29 = .ok (.goto (-25), 3) := dk_167 255 231 (dk_at dksX1_isBeside_1 5 rfl rfl)
theorem dX1_isBeside_32 : decode cX1_isBeside 32 = .ok (.iload_n 2, 1) := dk_28 (dk_at dksX1_isBeside_1 8 rfl rfl)
theorem dX1_isBeside_33 : decode cX1_isBeside 33 = .ok (.ireturn, 1) := dk_172 (dk_at dksX1_isBeside_1 9 rfl rfl)
def dkwX1_fenced_0 : List UInt8 := [27, 28, 184, 0, 227, 42, 180, 0, 44, 27, 28, 182, 0, 231, 172]
abbrev dktX1_fenced_0 : List UInt8 := dkwX1_fenced_0 ++ []
theorem dksX1_fenced_0 : cX1_fenced.data.toList.drop 0 = dktX1_fenced_0 := by decide +kernel
theorem dX1_fenced_0 : decode cX1_fenced 0 = .ok (.iload_n 1, 1) := dk_27 (dk_at dksX1_fenced_0 0 rfl rfl)
theorem dX1_fenced_1 : decode cX1_fenced 1 = .ok (.iload_n 2, 1) := dk_28 (dk_at dksX1_fenced_0 1 rfl rfl)
theorem dX1_fenced_2 : decode cX1_fenced 2 = .ok (.invokestatic 227, 3) := dk_184 0 227 (dk_at dksX1_fenced_0 2 rfl rfl)
theorem dX1_fenced_5 : decode cX1_fenced 5 = .ok (.aload_n 0, 1) := dk_42 (dk_at dksX1_fenced_0 5 rfl rfl)
theorem dX1_fenced_6 : decode cX1_fenced 6 = .ok (.getfield 44, 3) := dk_180 0 44 (dk_at dksX1_fenced_0 6 rfl rfl)
theorem dX1_fenced_9 : decode cX1_fenced 9 = .ok (.iload_n 1, 1) := dk_27 (dk_at dksX1_fenced_0 9 rfl rfl)
theorem dX1_fenced_10 : decode cX1_fenced 10 = .ok (.iload_n 2, 1) := dk_28 (dk_at dksX1_fenced_0 10 rfl rfl)
theorem dX1_fenced_11 : decode cX1_fenced 11 = .ok (.invokevirtual 231, 3) := dk_182 0 231 (dk_at dksX1_fenced_0 11 rfl rfl)
theorem dX1_fenced_14 : decode cX1_fenced 14 = .ok (.ireturn, 1) := dk_172 (dk_at dksX1_fenced_0 14 rfl rfl)
def dkwX1_fear_0 : List UInt8 := [27, 184, 0, 170, 42, 180, 0, 44, 180, 0, 240, 27, 46, 172]
abbrev dktX1_fear_0 : List UInt8 := dkwX1_fear_0 ++ []
theorem dksX1_fear_0 : cX1_fear.data.toList.drop 0 = dktX1_fear_0 := by decide +kernel
theorem dX1_fear_0 : decode cX1_fear 0 = .ok (.iload_n 1, 1) := dk_27 (dk_at dksX1_fear_0 0 rfl rfl)
theorem dX1_fear_1 : decode cX1_fear 1 = .ok (.invokestatic 170, 3) := dk_184 0 170 (dk_at dksX1_fear_0 1 rfl rfl)
theorem dX1_fear_4 : decode cX1_fear 4 = .ok (.aload_n 0, 1) := dk_42 (dk_at dksX1_fear_0 4 rfl rfl)
theorem dX1_fear_5 : decode cX1_fear 5 = .ok (.getfield 44, 3) := dk_180 0 44 (dk_at dksX1_fear_0 5 rfl rfl)
theorem dX1_fear_8 : decode cX1_fear 8 = .ok (.getfield 240, 3) := dk_180 0 240 (dk_at dksX1_fear_0 8 rfl rfl)
theorem dX1_fear_11 : decode cX1_fear 11 = .ok (.iload_n 1, 1) := dk_27 (dk_at dksX1_fear_0 11 rfl rfl)
theorem dX1_fear_12 : decode cX1_fear 12 = .ok (.iaload, 1) := dk_46 (dk_at dksX1_fear_0 12 rfl rfl)
theorem dX1_fear_13 : decode cX1_fear 13 = .ok (.ireturn, 1) := dk_172 (dk_at dksX1_fear_0 13 rfl rfl)
def dkwX1_rule_2 : List UInt8 := [180, 0, 251, 100, 172, 42, 44, 181, 0, 156, 44, 180, 0, 253, 172]
abbrev dktX1_rule_2 : List UInt8 := dkwX1_rule_2 ++ []
def dkwX1_rule_1 : List UInt8 := [181, 0, 243, 187, 0, 151, 89, 42, 27, 183, 0, 153, 77, 44, 182, 0, 246, 167, 0, 12, 78, 16, 254, 44]
abbrev dktX1_rule_1 : List UInt8 := dkwX1_rule_1 ++ dktX1_rule_2
def dkwX1_rule_0 : List UInt8 := [27, 3, 42, 180, 0, 243, 184, 0, 163, 154, 0, 7, 4, 167, 0, 4, 3, 184, 0, 178, 42, 3]
abbrev dktX1_rule_0 : List UInt8 := dkwX1_rule_0 ++ dktX1_rule_1
theorem dksX1_rule_0 : cX1_rule.data.toList.drop 0 = dktX1_rule_0 := by decide +kernel
theorem dksX1_rule_1 : cX1_rule.data.toList.drop 22 = dktX1_rule_1 := dk_seg dksX1_rule_0 22 rfl rfl
theorem dksX1_rule_2 : cX1_rule.data.toList.drop 46 = dktX1_rule_2 := dk_seg dksX1_rule_1 24 rfl rfl
theorem dX1_rule_0 : decode cX1_rule 0 = .ok (.iload_n 1, 1) := dk_27 (dk_at dksX1_rule_0 0 rfl rfl)
theorem dX1_rule_1 : decode cX1_rule 1 = .ok (.iconst 0, 1) := dk_3 (dk_at dksX1_rule_0 1 rfl rfl)
theorem dX1_rule_2 : decode cX1_rule 2 = .ok (.aload_n 0, 1) := dk_42 (dk_at dksX1_rule_0 2 rfl rfl)
theorem dX1_rule_3 : decode cX1_rule 3 = .ok (.getfield 243, 3) := dk_180 0 243 (dk_at dksX1_rule_0 3 rfl rfl)
theorem dX1_rule_6 : decode cX1_rule 6 = .ok (.invokestatic 163, 3) := dk_184 0 163 (dk_at dksX1_rule_0 6 rfl rfl)
theorem dX1_rule_9 : decode cX1_rule 9 = .ok (.ifCond .ne 7, 3) := dk_154 0 7 (dk_at dksX1_rule_0 9 rfl rfl)
theorem dX1_rule_12 : decode cX1_rule 12 = .ok (.iconst 1, 1) := dk_4 (dk_at dksX1_rule_0 12 rfl rfl)
theorem dX1_rule_13 : decode cX1_rule 13 = .ok (.goto 4, 3) := dk_167 0 4 (dk_at dksX1_rule_0 13 rfl rfl)
theorem dX1_rule_16 : decode cX1_rule 16 = .ok (.iconst 0, 1) := dk_3 (dk_at dksX1_rule_0 16 rfl rfl)
theorem dX1_rule_17 : decode cX1_rule 17 = .ok (.invokestatic 178, 3) := dk_184 0 178 (dk_at dksX1_rule_0 17 rfl rfl)
theorem dX1_rule_20 : decode cX1_rule 20 = .ok (.aload_n 0, 1) := dk_42 (dk_at dksX1_rule_0 20 rfl rfl)
theorem dX1_rule_21 : decode cX1_rule 21 = .ok (.iconst 0, 1) := dk_3 (dk_at dksX1_rule_0 21 rfl rfl)
theorem dX1_rule_22 : decode cX1_rule 22 = .ok (.putfield 243, 3) := dk_181 0 243 (dk_at dksX1_rule_1 0 rfl rfl)
theorem dX1_rule_25 : decode cX1_rule 25 = .ok (.new 151, 3) := dk_187 0 151 (dk_at dksX1_rule_1 3 rfl rfl)
theorem dX1_rule_28 : decode cX1_rule 28 = .ok (.dup, 1) := dk_89 (dk_at dksX1_rule_1 6 rfl rfl)
theorem dX1_rule_29 : decode cX1_rule 29 = .ok (.aload_n 0, 1) := dk_42 (dk_at dksX1_rule_1 7 rfl rfl)
theorem dX1_rule_30 : decode cX1_rule 30 = .ok (.iload_n 1, 1) := dk_27 (dk_at dksX1_rule_1 8 rfl rfl)
theorem dX1_rule_31 : decode cX1_rule 31 = .ok (.invokespecial 153, 3) := dk_183 0 153 (dk_at dksX1_rule_1 9 rfl rfl)
theorem dX1_rule_34 : decode cX1_rule 34 = .ok (.astore_n 2, 1) := dk_77 (dk_at dksX1_rule_1 12 rfl rfl)
theorem dX1_rule_35 : decode cX1_rule 35 = .ok (.aload_n 2, 1) := dk_44 (dk_at dksX1_rule_1 13 rfl rfl)
theorem dX1_rule_36 : decode cX1_rule 36 = .ok (.invokevirtual 246, 3) := dk_182 0 246 (dk_at dksX1_rule_1 14 rfl rfl)
theorem dX1_rule_39 : decode cX1_rule 39 = .ok (.goto 12, 3) := dk_167 0 12 (dk_at dksX1_rule_1 17 rfl rfl)
theorem dX1_rule_42 : decode cX1_rule 42 = .ok (.astore_n 3, 1) := dk_78 (dk_at dksX1_rule_1 20 rfl rfl)
theorem dX1_rule_43 : decode cX1_rule 43 = .ok (.bipush (-2), 2) := dk_16 254 (dk_at dksX1_rule_1 21 rfl rfl)
theorem dX1_rule_45 : decode cX1_rule 45 = .ok (.aload_n 2, 1) := dk_44 (dk_at dksX1_rule_1 23 rfl rfl)
theorem dX1_rule_46 : decode cX1_rule 46 = .ok (.getfield 251, 3) := dk_180 0 251 (dk_at dksX1_rule_2 0 rfl rfl)
theorem dX1_rule_49 : decode cX1_rule 49 = .ok (.isub, 1) := dk_100 (dk_at dksX1_rule_2 3 rfl rfl)
theorem dX1_rule_50 : decode cX1_rule 50 = .ok (.ireturn, 1) := dk_172 (dk_at dksX1_rule_2 4 rfl rfl)
theorem dX1_rule_51 : decode cX1_rule 51 = .ok (.aload_n 0, 1) := dk_42 (dk_at dksX1_rule_2 5 rfl rfl)
theorem dX1_rule_52 : decode cX1_rule 52 = .ok (.aload_n 2, 1) := dk_44 (dk_at dksX1_rule_2 6 rfl rfl)
theorem dX1_rule_53 : decode cX1_rule 53 = .ok (.putfield 156, 3) := dk_181 0 156 (dk_at dksX1_rule_2 7 rfl rfl)
theorem dX1_rule_56 : decode cX1_rule 56 = .ok (.aload_n 2, 1) := dk_44 (dk_at dksX1_rule_2 10 rfl rfl)
theorem dX1_rule_57 : decode cX1_rule 57 = .ok (.getfield 253, 3) := dk_180 0 253 (dk_at dksX1_rule_2 11 rfl rfl)
theorem dX1_rule_60 : decode cX1_rule 60 = .ok (.ireturn, 1) := dk_172 (dk_at dksX1_rule_2 14 rfl rfl)
def dkwX1_cropName_2 : List UInt8 := [18, 1, 176, 18, 3, 176, 18, 5, 176, 18, 7, 176]
abbrev dktX1_cropName_2 : List UInt8 := dkwX1_cropName_2 ++ []
def dkwX1_cropName_1 : List UInt8 := [170, 0, 0, 0, 0, 0, 36, 0, 0, 0, 0, 0, 0, 0, 2, 0, 0, 0, 27, 0, 0, 0, 30, 0, 0, 0, 33]
abbrev dktX1_cropName_1 : List UInt8 := dkwX1_cropName_1 ++ dktX1_cropName_2
def dkwX1_cropName_0 : List UInt8 := [26]
abbrev dktX1_cropName_0 : List UInt8 := dkwX1_cropName_0 ++ dktX1_cropName_1
theorem dksX1_cropName_0 : cX1_cropName.data.toList.drop 0 = dktX1_cropName_0 := by decide +kernel
theorem dksX1_cropName_1 : cX1_cropName.data.toList.drop 1 = dktX1_cropName_1 := dk_seg dksX1_cropName_0 1 rfl rfl
theorem dksX1_cropName_2 : cX1_cropName.data.toList.drop 28 = dktX1_cropName_2 := dk_seg dksX1_cropName_1 27 rfl rfl
theorem dX1_cropName_0 : decode cX1_cropName 0 = .ok (.iload_n 0, 1) := dk_26 (dk_at dksX1_cropName_0 0 rfl rfl)
theorem dX1_cropName_1 : decode cX1_cropName 1 = .ok (.tableswitch 36 0 2 #[27, 30, 33], 27) := by decide +kernel
theorem dX1_cropName_28 : decode cX1_cropName 28 = .ok (.ldc 1, 2) := dk_18 1 (dk_at dksX1_cropName_2 0 rfl rfl)
theorem dX1_cropName_30 : decode cX1_cropName 30 = .ok (.areturn, 1) := dk_176 (dk_at dksX1_cropName_2 2 rfl rfl)
theorem dX1_cropName_31 : decode cX1_cropName 31 = .ok (.ldc 3, 2) := dk_18 3 (dk_at dksX1_cropName_2 3 rfl rfl)
theorem dX1_cropName_33 : decode cX1_cropName 33 = .ok (.areturn, 1) := dk_176 (dk_at dksX1_cropName_2 5 rfl rfl)
theorem dX1_cropName_34 : decode cX1_cropName 34 = .ok (.ldc 5, 2) := dk_18 5 (dk_at dksX1_cropName_2 6 rfl rfl)
theorem dX1_cropName_36 : decode cX1_cropName 36 = .ok (.areturn, 1) := dk_176 (dk_at dksX1_cropName_2 8 rfl rfl)
theorem dX1_cropName_37 : decode cX1_cropName 37 = .ok (.ldc 7, 2) := dk_18 7 (dk_at dksX1_cropName_2 9 rfl rfl)
theorem dX1_cropName_39 : decode cX1_cropName 39 = .ok (.areturn, 1) := dk_176 (dk_at dksX1_cropName_2 11 rfl rfl)
def dkwX1_isDigit_0 : List UInt8 := [26, 16, 48, 161, 0, 13, 26, 16, 57, 163, 0, 7, 4, 167, 0, 4, 3, 172]
abbrev dktX1_isDigit_0 : List UInt8 := dkwX1_isDigit_0 ++ []
theorem dksX1_isDigit_0 : cX1_isDigit.data.toList.drop 0 = dktX1_isDigit_0 := by decide +kernel
theorem dX1_isDigit_0 : decode cX1_isDigit 0 = .ok (.iload_n 0, 1) := dk_26 (dk_at dksX1_isDigit_0 0 rfl rfl)
theorem dX1_isDigit_1 : decode cX1_isDigit 1 = .ok (.bipush 48, 2) := dk_16 48 (dk_at dksX1_isDigit_0 1 rfl rfl)
theorem dX1_isDigit_3 : decode cX1_isDigit 3 = .ok (.if_icmp .lt 13, 3) := dk_161 0 13 (dk_at dksX1_isDigit_0 3 rfl rfl)
theorem dX1_isDigit_6 : decode cX1_isDigit 6 = .ok (.iload_n 0, 1) := dk_26 (dk_at dksX1_isDigit_0 6 rfl rfl)
theorem dX1_isDigit_7 : decode cX1_isDigit 7 = .ok (.bipush 57, 2) := dk_16 57 (dk_at dksX1_isDigit_0 7 rfl rfl)
theorem dX1_isDigit_9 : decode cX1_isDigit 9 = .ok (.if_icmp .gt 7, 3) := dk_163 0 7 (dk_at dksX1_isDigit_0 9 rfl rfl)
theorem dX1_isDigit_12 : decode cX1_isDigit 12 = .ok (.iconst 1, 1) := dk_4 (dk_at dksX1_isDigit_0 12 rfl rfl)
theorem dX1_isDigit_13 : decode cX1_isDigit 13 = .ok (.goto 4, 3) := dk_167 0 4 (dk_at dksX1_isDigit_0 13 rfl rfl)
theorem dX1_isDigit_16 : decode cX1_isDigit 16 = .ok (.iconst 0, 1) := dk_3 (dk_at dksX1_isDigit_0 16 rfl rfl)
theorem dX1_isDigit_17 : decode cX1_isDigit 17 = .ok (.ireturn, 1) := dk_172 (dk_at dksX1_isDigit_0 17 rfl rfl)
def dkwX1_toldName_2 : List UInt8 := [18, 9, 176, 18, 11, 176, 18, 13, 176, 18, 15, 176, 18, 17, 176]
abbrev dktX1_toldName_2 : List UInt8 := dkwX1_toldName_2 ++ []
def dkwX1_toldName_1 : List UInt8 := [170, 0, 0, 0, 0, 0, 43, 0, 0, 0, 0, 0, 0, 0, 3, 0, 0, 0, 31, 0, 0, 0, 34, 0, 0, 0, 37, 0, 0, 0, 40]
abbrev dktX1_toldName_1 : List UInt8 := dkwX1_toldName_1 ++ dktX1_toldName_2
def dkwX1_toldName_0 : List UInt8 := [26]
abbrev dktX1_toldName_0 : List UInt8 := dkwX1_toldName_0 ++ dktX1_toldName_1
theorem dksX1_toldName_0 : cX1_toldName.data.toList.drop 0 = dktX1_toldName_0 := by decide +kernel
theorem dksX1_toldName_1 : cX1_toldName.data.toList.drop 1 = dktX1_toldName_1 := dk_seg dksX1_toldName_0 1 rfl rfl
theorem dksX1_toldName_2 : cX1_toldName.data.toList.drop 32 = dktX1_toldName_2 := dk_seg dksX1_toldName_1 31 rfl rfl
theorem dX1_toldName_0 : decode cX1_toldName 0 = .ok (.iload_n 0, 1) := dk_26 (dk_at dksX1_toldName_0 0 rfl rfl)
theorem dX1_toldName_1 : decode cX1_toldName 1 = .ok (.tableswitch 43 0 3 #[31, 34, 37, 40], 31) := by decide +kernel
theorem dX1_toldName_32 : decode cX1_toldName 32 = .ok (.ldc 9, 2) := dk_18 9 (dk_at dksX1_toldName_2 0 rfl rfl)
theorem dX1_toldName_34 : decode cX1_toldName 34 = .ok (.areturn, 1) := dk_176 (dk_at dksX1_toldName_2 2 rfl rfl)
theorem dX1_toldName_35 : decode cX1_toldName 35 = .ok (.ldc 11, 2) := dk_18 11 (dk_at dksX1_toldName_2 3 rfl rfl)
theorem dX1_toldName_37 : decode cX1_toldName 37 = .ok (.areturn, 1) := dk_176 (dk_at dksX1_toldName_2 5 rfl rfl)
theorem dX1_toldName_38 : decode cX1_toldName 38 = .ok (.ldc 13, 2) := dk_18 13 (dk_at dksX1_toldName_2 6 rfl rfl)
theorem dX1_toldName_40 : decode cX1_toldName 40 = .ok (.areturn, 1) := dk_176 (dk_at dksX1_toldName_2 8 rfl rfl)
theorem dX1_toldName_41 : decode cX1_toldName 41 = .ok (.ldc 15, 2) := dk_18 15 (dk_at dksX1_toldName_2 9 rfl rfl)
theorem dX1_toldName_43 : decode cX1_toldName 43 = .ok (.areturn, 1) := dk_176 (dk_at dksX1_toldName_2 11 rfl rfl)
theorem dX1_toldName_44 : decode cX1_toldName 44 = .ok (.ldc 17, 2) := dk_18 17 (dk_at dksX1_toldName_2 12 rfl rfl)
theorem dX1_toldName_46 : decode cX1_toldName 46 = .ok (.areturn, 1) := dk_176 (dk_at dksX1_toldName_2 14 rfl rfl)
def dkwX1_like_1 : List UInt8 := [184, 0, 178, 42, 180, 0, 156, 27, 28, 182, 1, 0, 172]
abbrev dktX1_like_1 : List UInt8 := dkwX1_like_1 ++ []
def dkwX1_like_0 : List UInt8 := [27, 3, 6, 184, 0, 163, 153, 0, 13, 28, 3, 16, 11, 184, 0, 163, 154, 0, 7, 4, 167, 0, 4, 3]
abbrev dktX1_like_0 : List UInt8 := dkwX1_like_0 ++ dktX1_like_1
theorem dksX1_like_0 : cX1_like.data.toList.drop 0 = dktX1_like_0 := by decide +kernel
theorem dksX1_like_1 : cX1_like.data.toList.drop 24 = dktX1_like_1 := dk_seg dksX1_like_0 24 rfl rfl
theorem dX1_like_0 : decode cX1_like 0 = .ok (.iload_n 1, 1) := dk_27 (dk_at dksX1_like_0 0 rfl rfl)
theorem dX1_like_1 : decode cX1_like 1 = .ok (.iconst 0, 1) := dk_3 (dk_at dksX1_like_0 1 rfl rfl)
theorem dX1_like_2 : decode cX1_like 2 = .ok (.iconst 3, 1) := dk_6 (dk_at dksX1_like_0 2 rfl rfl)
theorem dX1_like_3 : decode cX1_like 3 = .ok (.invokestatic 163, 3) := dk_184 0 163 (dk_at dksX1_like_0 3 rfl rfl)
theorem dX1_like_6 : decode cX1_like 6 = .ok (.ifCond .eq 13, 3) := dk_153 0 13 (dk_at dksX1_like_0 6 rfl rfl)
theorem dX1_like_9 : decode cX1_like 9 = .ok (.iload_n 2, 1) := dk_28 (dk_at dksX1_like_0 9 rfl rfl)
theorem dX1_like_10 : decode cX1_like 10 = .ok (.iconst 0, 1) := dk_3 (dk_at dksX1_like_0 10 rfl rfl)
theorem dX1_like_11 : decode cX1_like 11 = .ok (.bipush 11, 2) := dk_16 11 (dk_at dksX1_like_0 11 rfl rfl)
theorem dX1_like_13 : decode cX1_like 13 = .ok (.invokestatic 163, 3) := dk_184 0 163 (dk_at dksX1_like_0 13 rfl rfl)
theorem dX1_like_16 : decode cX1_like 16 = .ok (.ifCond .ne 7, 3) := dk_154 0 7 (dk_at dksX1_like_0 16 rfl rfl)
theorem dX1_like_19 : decode cX1_like 19 = .ok (.iconst 1, 1) := dk_4 (dk_at dksX1_like_0 19 rfl rfl)
theorem dX1_like_20 : decode cX1_like 20 = .ok (.goto 4, 3) := dk_167 0 4 (dk_at dksX1_like_0 20 rfl rfl)
theorem dX1_like_23 : decode cX1_like 23 = .ok (.iconst 0, 1) := dk_3 (dk_at dksX1_like_0 23 rfl rfl)
theorem dX1_like_24 : decode cX1_like 24 = .ok (.invokestatic 178, 3) := dk_184 0 178 (dk_at dksX1_like_1 0 rfl rfl)
theorem dX1_like_27 : decode cX1_like 27 = .ok (.aload_n 0, 1) := dk_42 (dk_at dksX1_like_1 3 rfl rfl)
theorem dX1_like_28 : decode cX1_like 28 = .ok (.getfield 156, 3) := dk_180 0 156 (dk_at dksX1_like_1 4 rfl rfl)
theorem dX1_like_31 : decode cX1_like 31 = .ok (.iload_n 1, 1) := dk_27 (dk_at dksX1_like_1 7 rfl rfl)
theorem dX1_like_32 : decode cX1_like 32 = .ok (.iload_n 2, 1) := dk_28 (dk_at dksX1_like_1 8 rfl rfl)
theorem dX1_like_33 : decode cX1_like 33 = .ok (.invokevirtual 256, 3) := dk_182 1 0 (dk_at dksX1_like_1 9 rfl rfl)
theorem dX1_like_36 : decode cX1_like 36 = .ok (.ireturn, 1) := dk_172 (dk_at dksX1_like_1 12 rfl rfl)
def dkwX1_herd_3 : List UInt8 := [183, 1, 3, 182, 1, 5, 87, 42, 180, 0, 71, 182, 0, 189, 4, 100, 172]
abbrev dktX1_herd_3 : List UInt8 := dkwX1_herd_3 ++ []
def dkwX1_herd_2 : List UInt8 := [180, 0, 71, 182, 0, 189, 7, 160, 0, 5, 2, 172, 42, 180, 0, 71, 187, 0, 197, 89, 27, 28, 29]
abbrev dktX1_herd_2 : List UInt8 := dkwX1_herd_2 ++ dktX1_herd_3
def dkwX1_herd_1 : List UInt8 := [184, 0, 163, 153, 0, 12, 29, 4, 6, 184, 0, 163, 154, 0, 7, 4, 167, 0, 4, 3, 184, 0, 178, 42]
abbrev dktX1_herd_1 : List UInt8 := dkwX1_herd_1 ++ dktX1_herd_2
def dkwX1_herd_0 : List UInt8 := [27, 184, 0, 170, 42, 180, 0, 44, 180, 0, 183, 27, 46, 4, 159, 0, 23, 28, 4, 17, 0, 200]
abbrev dktX1_herd_0 : List UInt8 := dkwX1_herd_0 ++ dktX1_herd_1
theorem dksX1_herd_0 : cX1_herd.data.toList.drop 0 = dktX1_herd_0 := by decide +kernel
theorem dksX1_herd_1 : cX1_herd.data.toList.drop 22 = dktX1_herd_1 := dk_seg dksX1_herd_0 22 rfl rfl
theorem dksX1_herd_2 : cX1_herd.data.toList.drop 46 = dktX1_herd_2 := dk_seg dksX1_herd_1 24 rfl rfl
theorem dksX1_herd_3 : cX1_herd.data.toList.drop 69 = dktX1_herd_3 := dk_seg dksX1_herd_2 23 rfl rfl
theorem dX1_herd_0 : decode cX1_herd 0 = .ok (.iload_n 1, 1) := dk_27 (dk_at dksX1_herd_0 0 rfl rfl)
theorem dX1_herd_1 : decode cX1_herd 1 = .ok (.invokestatic 170, 3) := dk_184 0 170 (dk_at dksX1_herd_0 1 rfl rfl)
theorem dX1_herd_4 : decode cX1_herd 4 = .ok (.aload_n 0, 1) := dk_42 (dk_at dksX1_herd_0 4 rfl rfl)
theorem dX1_herd_5 : decode cX1_herd 5 = .ok (.getfield 44, 3) := dk_180 0 44 (dk_at dksX1_herd_0 5 rfl rfl)
theorem dX1_herd_8 : decode cX1_herd 8 = .ok (.getfield 183, 3) := dk_180 0 183 (dk_at dksX1_herd_0 8 rfl rfl)
theorem dX1_herd_11 : decode cX1_herd 11 = .ok (.iload_n 1, 1) := dk_27 (dk_at dksX1_herd_0 11 rfl rfl)
theorem dX1_herd_12 : decode cX1_herd 12 = .ok (.iaload, 1) := dk_46 (dk_at dksX1_herd_0 12 rfl rfl)
theorem dX1_herd_13 : decode cX1_herd 13 = .ok (.iconst 1, 1) := dk_4 (dk_at dksX1_herd_0 13 rfl rfl)
theorem dX1_herd_14 : decode cX1_herd 14 = .ok (.if_icmp .eq 23, 3) := dk_159 0 23 (dk_at dksX1_herd_0 14 rfl rfl)
theorem dX1_herd_17 : decode cX1_herd 17 = .ok (.iload_n 2, 1) := dk_28 (dk_at dksX1_herd_0 17 rfl rfl)
theorem dX1_herd_18 : decode cX1_herd 18 = .ok (.iconst 1, 1) := dk_4 (dk_at dksX1_herd_0 18 rfl rfl)
theorem dX1_herd_19 : decode cX1_herd 19 = .ok (.sipush 200, 3) := dk_17 0 200 (dk_at dksX1_herd_0 19 rfl rfl)
theorem dX1_herd_22 : decode cX1_herd 22 = .ok (.invokestatic 163, 3) := dk_184 0 163 (dk_at dksX1_herd_1 0 rfl rfl)
theorem dX1_herd_25 : decode cX1_herd 25 = .ok (.ifCond .eq 12, 3) := dk_153 0 12 (dk_at dksX1_herd_1 3 rfl rfl)
theorem dX1_herd_28 : decode cX1_herd 28 = .ok (.iload_n 3, 1) := dk_29 (dk_at dksX1_herd_1 6 rfl rfl)
theorem dX1_herd_29 : decode cX1_herd 29 = .ok (.iconst 1, 1) := dk_4 (dk_at dksX1_herd_1 7 rfl rfl)
theorem dX1_herd_30 : decode cX1_herd 30 = .ok (.iconst 3, 1) := dk_6 (dk_at dksX1_herd_1 8 rfl rfl)
theorem dX1_herd_31 : decode cX1_herd 31 = .ok (.invokestatic 163, 3) := dk_184 0 163 (dk_at dksX1_herd_1 9 rfl rfl)
theorem dX1_herd_34 : decode cX1_herd 34 = .ok (.ifCond .ne 7, 3) := dk_154 0 7 (dk_at dksX1_herd_1 12 rfl rfl)
theorem dX1_herd_37 : decode cX1_herd 37 = .ok (.iconst 1, 1) := dk_4 (dk_at dksX1_herd_1 15 rfl rfl)
theorem dX1_herd_38 : decode cX1_herd 38 = .ok (.goto 4, 3) := dk_167 0 4 (dk_at dksX1_herd_1 16 rfl rfl)
theorem dX1_herd_41 : decode cX1_herd 41 = .ok (.iconst 0, 1) := dk_3 (dk_at dksX1_herd_1 19 rfl rfl)
theorem dX1_herd_42 : decode cX1_herd 42 = .ok (.invokestatic 178, 3) := dk_184 0 178 (dk_at dksX1_herd_1 20 rfl rfl)
theorem dX1_herd_45 : decode cX1_herd 45 = .ok (.aload_n 0, 1) := dk_42 (dk_at dksX1_herd_1 23 rfl rfl)
theorem dX1_herd_46 : decode cX1_herd 46 = .ok (.getfield 71, 3) := dk_180 0 71 (dk_at dksX1_herd_2 0 rfl rfl)
theorem dX1_herd_49 : decode cX1_herd 49 = .ok (.invokevirtual 189, 3) := dk_182 0 189 (dk_at dksX1_herd_2 3 rfl rfl)
theorem dX1_herd_52 : decode cX1_herd 52 = .ok (.iconst 4, 1) := dk_7 (dk_at dksX1_herd_2 6 rfl rfl)
theorem dX1_herd_53 : decode cX1_herd 53 = .ok (.if_icmp .ne 5, 3) := dk_160 0 5 (dk_at dksX1_herd_2 7 rfl rfl)
theorem dX1_herd_56 : decode cX1_herd 56 = .ok (.iconst (-1), 1) := dk_2 (dk_at dksX1_herd_2 10 rfl rfl)
theorem dX1_herd_57 : decode cX1_herd 57 = .ok (.ireturn, 1) := dk_172 (dk_at dksX1_herd_2 11 rfl rfl)
theorem dX1_herd_58 : decode cX1_herd 58 = .ok (.aload_n 0, 1) := dk_42 (dk_at dksX1_herd_2 12 rfl rfl)
theorem dX1_herd_59 : decode cX1_herd 59 = .ok (.getfield 71, 3) := dk_180 0 71 (dk_at dksX1_herd_2 13 rfl rfl)
theorem dX1_herd_62 : decode cX1_herd 62 = .ok (.new 197, 3) := dk_187 0 197 (dk_at dksX1_herd_2 16 rfl rfl)
theorem dX1_herd_65 : decode cX1_herd 65 = .ok (.dup, 1) := dk_89 (dk_at dksX1_herd_2 19 rfl rfl)
theorem dX1_herd_66 : decode cX1_herd 66 = .ok (.iload_n 1, 1) := dk_27 (dk_at dksX1_herd_2 20 rfl rfl)
theorem dX1_herd_67 : decode cX1_herd 67 = .ok (.iload_n 2, 1) := dk_28 (dk_at dksX1_herd_2 21 rfl rfl)
theorem dX1_herd_68 : decode cX1_herd 68 = .ok (.iload_n 3, 1) := dk_29 (dk_at dksX1_herd_2 22 rfl rfl)
theorem dX1_herd_69 : decode cX1_herd 69 = .ok (.invokespecial 259, 3) := dk_183 1 3 (dk_at dksX1_herd_3 0 rfl rfl)
theorem dX1_herd_72 : decode cX1_herd 72 = .ok (.invokevirtual 261, 3) := dk_182 1 5 (dk_at dksX1_herd_3 3 rfl rfl)
theorem dX1_herd_75 : decode cX1_herd 75 = .ok (.pop, 1) := dk_87 (dk_at dksX1_herd_3 6 rfl rfl)
theorem dX1_herd_76 : decode cX1_herd 76 = .ok (.aload_n 0, 1) := dk_42 (dk_at dksX1_herd_3 7 rfl rfl)
theorem dX1_herd_77 : decode cX1_herd 77 = .ok (.getfield 71, 3) := dk_180 0 71 (dk_at dksX1_herd_3 8 rfl rfl)
theorem dX1_herd_80 : decode cX1_herd 80 = .ok (.invokevirtual 189, 3) := dk_182 0 189 (dk_at dksX1_herd_3 11 rfl rfl)
theorem dX1_herd_83 : decode cX1_herd 83 = .ok (.iconst 1, 1) := dk_4 (dk_at dksX1_herd_3 14 rfl rfl)
theorem dX1_herd_84 : decode cX1_herd 84 = .ok (.isub, 1) := dk_100 (dk_at dksX1_herd_3 15 rfl rfl)
theorem dX1_herd_85 : decode cX1_herd 85 = .ok (.ireturn, 1) := dk_172 (dk_at dksX1_herd_3 16 rfl rfl)
def dkwX1_cost_2 : List UInt8 := [160, 0, 7, 2, 167, 0, 12, 42, 180, 0, 57, 180, 1, 23, 28, 46, 172]
abbrev dktX1_cost_2 : List UInt8 := dkwX1_cost_2 ++ []
def dkwX1_cost_1 : List UInt8 := [180, 0, 156, 180, 1, 16, 3, 182, 1, 19, 42, 180, 0, 57, 180, 1, 23, 28, 46, 19, 1, 26]
abbrev dktX1_cost_1 : List UInt8 := dkwX1_cost_1 ++ dktX1_cost_2
def dkwX1_cost_0 : List UInt8 := [42, 27, 182, 1, 12, 78, 28, 184, 0, 170, 42, 180, 0, 57, 42, 180, 0, 44, 45, 180, 0, 199, 42]
abbrev dktX1_cost_0 : List UInt8 := dkwX1_cost_0 ++ dktX1_cost_1
theorem dksX1_cost_0 : cX1_cost.data.toList.drop 0 = dktX1_cost_0 := by decide +kernel
theorem dksX1_cost_1 : cX1_cost.data.toList.drop 23 = dktX1_cost_1 := dk_seg dksX1_cost_0 23 rfl rfl
theorem dksX1_cost_2 : cX1_cost.data.toList.drop 45 = dktX1_cost_2 := dk_seg dksX1_cost_1 22 rfl rfl
theorem dX1_cost_0 : decode cX1_cost 0 = .ok (.aload_n 0, 1) := dk_42 (dk_at dksX1_cost_0 0 rfl rfl)
theorem dX1_cost_1 : decode cX1_cost 1 = .ok (.iload_n 1, 1) := dk_27 (dk_at dksX1_cost_0 1 rfl rfl)
theorem dX1_cost_2 : decode cX1_cost 2 = .ok (.invokevirtual 268, 3) := dk_182 1 12 (dk_at dksX1_cost_0 2 rfl rfl)
theorem dX1_cost_5 : decode cX1_cost 5 = .ok (.astore_n 3, 1) := dk_78 (dk_at dksX1_cost_0 5 rfl rfl)
theorem dX1_cost_6 : decode cX1_cost 6 = .ok (.iload_n 2, 1) := dk_28 (dk_at dksX1_cost_0 6 rfl rfl)
theorem dX1_cost_7 : decode cX1_cost 7 = .ok (.invokestatic 170, 3) := dk_184 0 170 (dk_at dksX1_cost_0 7 rfl rfl)
theorem dX1_cost_10 : decode cX1_cost 10 = .ok (.aload_n 0, 1) := dk_42 (dk_at dksX1_cost_0 10 rfl rfl)
theorem dX1_cost_11 : decode cX1_cost 11 = .ok (.getfield 57, 3) := dk_180 0 57 (dk_at dksX1_cost_0 11 rfl rfl)
theorem dX1_cost_14 : decode cX1_cost 14 = .ok (.aload_n 0, 1) := dk_42 (dk_at dksX1_cost_0 14 rfl rfl)
theorem dX1_cost_15 : decode cX1_cost 15 = .ok (.getfield 44, 3) := dk_180 0 44 (dk_at dksX1_cost_0 15 rfl rfl)
theorem dX1_cost_18 : decode cX1_cost 18 = .ok (.aload_n 3, 1) := dk_45 (dk_at dksX1_cost_0 18 rfl rfl)
theorem dX1_cost_19 : decode cX1_cost 19 = .ok (.getfield 199, 3) := dk_180 0 199 (dk_at dksX1_cost_0 19 rfl rfl)
theorem dX1_cost_22 : decode cX1_cost 22 = .ok (.aload_n 0, 1) := dk_42 (dk_at dksX1_cost_0 22 rfl rfl)
theorem dX1_cost_23 : decode cX1_cost 23 = .ok (.getfield 156, 3) := dk_180 0 156 (dk_at dksX1_cost_1 0 rfl rfl)
theorem dX1_cost_26 : decode cX1_cost 26 = .ok (.getfield 272, 3) := dk_180 1 16 (dk_at dksX1_cost_1 3 rfl rfl)
theorem dX1_cost_29 : decode cX1_cost 29 = .ok (.iconst 0, 1) := dk_3 (dk_at dksX1_cost_1 6 rfl rfl)
theorem dX1_cost_30 : decode cX1_cost 30 = .ok (.invokevirtual 275, 3) := dk_182 1 19 (dk_at dksX1_cost_1 7 rfl rfl)
theorem dX1_cost_33 : decode cX1_cost 33 = .ok (.aload_n 0, 1) := dk_42 (dk_at dksX1_cost_1 10 rfl rfl)
theorem dX1_cost_34 : decode cX1_cost 34 = .ok (.getfield 57, 3) := dk_180 0 57 (dk_at dksX1_cost_1 11 rfl rfl)
theorem dX1_cost_37 : decode cX1_cost 37 = .ok (.getfield 279, 3) := dk_180 1 23 (dk_at dksX1_cost_1 14 rfl rfl)
theorem dX1_cost_40 : decode cX1_cost 40 = .ok (.iload_n 2, 1) := dk_28 (dk_at dksX1_cost_1 17 rfl rfl)
theorem dX1_cost_41 : decode cX1_cost 41 = .ok (.iaload, 1) := dk_46 (dk_at dksX1_cost_1 18 rfl rfl)
theorem dX1_cost_42 : decode cX1_cost 42 = .ok (.ldc_w 282, 3) := dk_19 1 26 (dk_at dksX1_cost_1 19 rfl rfl)
theorem dX1_cost_45 : decode cX1_cost 45 = .ok (.if_icmp .ne 7, 3) := dk_160 0 7 (dk_at dksX1_cost_2 0 rfl rfl)
theorem dX1_cost_48 : decode cX1_cost 48 = .ok (.iconst (-1), 1) := dk_2 (dk_at dksX1_cost_2 3 rfl rfl)
theorem dX1_cost_49 : decode cX1_cost 49 = .ok (.goto 12, 3) := dk_167 0 12 (dk_at dksX1_cost_2 4 rfl rfl)
theorem dX1_cost_52 : decode cX1_cost 52 = .ok (.aload_n 0, 1) := dk_42 (dk_at dksX1_cost_2 7 rfl rfl)
theorem dX1_cost_53 : decode cX1_cost 53 = .ok (.getfield 57, 3) := dk_180 0 57 (dk_at dksX1_cost_2 8 rfl rfl)
theorem dX1_cost_56 : decode cX1_cost 56 = .ok (.getfield 279, 3) := dk_180 1 23 (dk_at dksX1_cost_2 11 rfl rfl)
theorem dX1_cost_59 : decode cX1_cost 59 = .ok (.iload_n 2, 1) := dk_28 (dk_at dksX1_cost_2 14 rfl rfl)
theorem dX1_cost_60 : decode cX1_cost 60 = .ok (.iaload, 1) := dk_46 (dk_at dksX1_cost_2 15 rfl rfl)
theorem dX1_cost_61 : decode cX1_cost 61 = .ok (.ireturn, 1) := dk_172 (dk_at dksX1_cost_2 16 rfl rfl)
def dkwX1_herdAt_1 : List UInt8 := [191, 42, 180, 0, 71, 27, 182, 0, 193, 192, 0, 197, 176]
abbrev dktX1_herdAt_1 : List UInt8 := dkwX1_herdAt_1 ++ []
def dkwX1_herdAt_0 : List UInt8 := [27, 3, 42, 180, 0, 71, 182, 0, 189, 4, 100, 184, 0, 163, 154, 0, 11, 187, 1, 9, 89, 183, 1, 11]
abbrev dktX1_herdAt_0 : List UInt8 := dkwX1_herdAt_0 ++ dktX1_herdAt_1
theorem dksX1_herdAt_0 : cX1_herdAt.data.toList.drop 0 = dktX1_herdAt_0 := by decide +kernel
theorem dksX1_herdAt_1 : cX1_herdAt.data.toList.drop 24 = dktX1_herdAt_1 := dk_seg dksX1_herdAt_0 24 rfl rfl
theorem dX1_herdAt_0 : decode cX1_herdAt 0 = .ok (.iload_n 1, 1) := dk_27 (dk_at dksX1_herdAt_0 0 rfl rfl)
theorem dX1_herdAt_1 : decode cX1_herdAt 1 = .ok (.iconst 0, 1) := dk_3 (dk_at dksX1_herdAt_0 1 rfl rfl)
theorem dX1_herdAt_2 : decode cX1_herdAt 2 = .ok (.aload_n 0, 1) := dk_42 (dk_at dksX1_herdAt_0 2 rfl rfl)
theorem dX1_herdAt_3 : decode cX1_herdAt 3 = .ok (.getfield 71, 3) := dk_180 0 71 (dk_at dksX1_herdAt_0 3 rfl rfl)
theorem dX1_herdAt_6 : decode cX1_herdAt 6 = .ok (.invokevirtual 189, 3) := dk_182 0 189 (dk_at dksX1_herdAt_0 6 rfl rfl)
theorem dX1_herdAt_9 : decode cX1_herdAt 9 = .ok (.iconst 1, 1) := dk_4 (dk_at dksX1_herdAt_0 9 rfl rfl)
theorem dX1_herdAt_10 : decode cX1_herdAt 10 = .ok (.isub, 1) := dk_100 (dk_at dksX1_herdAt_0 10 rfl rfl)
theorem dX1_herdAt_11 : decode cX1_herdAt 11 = .ok (.invokestatic 163, 3) := dk_184 0 163 (dk_at dksX1_herdAt_0 11 rfl rfl)
theorem dX1_herdAt_14 : decode cX1_herdAt 14 = .ok (.ifCond .ne 11, 3) := dk_154 0 11 (dk_at dksX1_herdAt_0 14 rfl rfl)
theorem dX1_herdAt_17 : decode cX1_herdAt 17 = .ok (.new 265, 3) := dk_187 1 9 (dk_at dksX1_herdAt_0 17 rfl rfl)
theorem dX1_herdAt_20 : decode cX1_herdAt 20 = .ok (.dup, 1) := dk_89 (dk_at dksX1_herdAt_0 20 rfl rfl)
theorem dX1_herdAt_21 : decode cX1_herdAt 21 = .ok (.invokespecial 267, 3) := dk_183 1 11 (dk_at dksX1_herdAt_0 21 rfl rfl)
theorem dX1_herdAt_24 : decode cX1_herdAt 24 = .ok (.athrow, 1) := dk_191 (dk_at dksX1_herdAt_1 0 rfl rfl)
theorem dX1_herdAt_25 : decode cX1_herdAt 25 = .ok (.aload_n 0, 1) := dk_42 (dk_at dksX1_herdAt_1 1 rfl rfl)
theorem dX1_herdAt_26 : decode cX1_herdAt 26 = .ok (.getfield 71, 3) := dk_180 0 71 (dk_at dksX1_herdAt_1 2 rfl rfl)
theorem dX1_herdAt_29 : decode cX1_herdAt 29 = .ok (.iload_n 1, 1) := dk_27 (dk_at dksX1_herdAt_1 5 rfl rfl)
theorem dX1_herdAt_30 : decode cX1_herdAt 30 = .ok (.invokevirtual 193, 3) := dk_182 0 193 (dk_at dksX1_herdAt_1 6 rfl rfl)
theorem dX1_herdAt_33 : decode cX1_herdAt 33 = .ok (.checkcast 197, 3) := dk_192 0 197 (dk_at dksX1_herdAt_1 9 rfl rfl)
theorem dX1_herdAt_36 : decode cX1_herdAt 36 = .ok (.areturn, 1) := dk_176 (dk_at dksX1_herdAt_1 12 rfl rfl)
def dkwX1_way_2 : List UInt8 := [184, 0, 163, 153, 0, 15, 42, 180, 0, 57, 180, 1, 34, 29, 46, 167, 0, 4, 2, 172]
abbrev dktX1_way_2 : List UInt8 := dkwX1_way_2 ++ []
def dkwX1_way_1 : List UInt8 := [28, 42, 180, 0, 156, 180, 1, 16, 182, 1, 27, 29, 3, 42, 180, 0, 57, 180, 1, 31, 4, 100]
abbrev dktX1_way_1 : List UInt8 := dkwX1_way_1 ++ dktX1_way_2
def dkwX1_way_0 : List UInt8 := [42, 27, 182, 1, 12, 58, 4, 28, 184, 0, 170, 42, 180, 0, 57, 42, 180, 0, 44, 25, 4, 180, 0, 199]
abbrev dktX1_way_0 : List UInt8 := dkwX1_way_0 ++ dktX1_way_1
theorem dksX1_way_0 : cX1_way.data.toList.drop 0 = dktX1_way_0 := by decide +kernel
theorem dksX1_way_1 : cX1_way.data.toList.drop 24 = dktX1_way_1 := dk_seg dksX1_way_0 24 rfl rfl
theorem dksX1_way_2 : cX1_way.data.toList.drop 46 = dktX1_way_2 := dk_seg dksX1_way_1 22 rfl rfl
theorem dX1_way_0 : decode cX1_way 0 = .ok (.aload_n 0, 1) := dk_42 (dk_at dksX1_way_0 0 rfl rfl)
theorem dX1_way_1 : decode cX1_way 1 = .ok (.iload_n 1, 1) := dk_27 (dk_at dksX1_way_0 1 rfl rfl)
theorem dX1_way_2 : decode cX1_way 2 = .ok (.invokevirtual 268, 3) := dk_182 1 12 (dk_at dksX1_way_0 2 rfl rfl)
theorem dX1_way_5 : decode cX1_way 5 = .ok (.astore 4, 2) := dk_58 4 (dk_at dksX1_way_0 5 rfl rfl)
theorem dX1_way_7 : decode cX1_way 7 = .ok (.iload_n 2, 1) := dk_28 (dk_at dksX1_way_0 7 rfl rfl)
theorem dX1_way_8 : decode cX1_way 8 = .ok (.invokestatic 170, 3) := dk_184 0 170 (dk_at dksX1_way_0 8 rfl rfl)
theorem dX1_way_11 : decode cX1_way 11 = .ok (.aload_n 0, 1) := dk_42 (dk_at dksX1_way_0 11 rfl rfl)
theorem dX1_way_12 : decode cX1_way 12 = .ok (.getfield 57, 3) := dk_180 0 57 (dk_at dksX1_way_0 12 rfl rfl)
theorem dX1_way_15 : decode cX1_way 15 = .ok (.aload_n 0, 1) := dk_42 (dk_at dksX1_way_0 15 rfl rfl)
theorem dX1_way_16 : decode cX1_way 16 = .ok (.getfield 44, 3) := dk_180 0 44 (dk_at dksX1_way_0 16 rfl rfl)
theorem dX1_way_19 : decode cX1_way 19 = .ok (.aload 4, 2) := dk_25 4 (dk_at dksX1_way_0 19 rfl rfl)
theorem dX1_way_21 : decode cX1_way 21 = .ok (.getfield 199, 3) := dk_180 0 199 (dk_at dksX1_way_0 21 rfl rfl)
theorem dX1_way_24 : decode cX1_way 24 = .ok (.iload_n 2, 1) := dk_28 (dk_at dksX1_way_1 0 rfl rfl)
theorem dX1_way_25 : decode cX1_way 25 = .ok (.aload_n 0, 1) := dk_42 (dk_at dksX1_way_1 1 rfl rfl)
theorem dX1_way_26 : decode cX1_way 26 = .ok (.getfield 156, 3) := dk_180 0 156 (dk_at dksX1_way_1 2 rfl rfl)
theorem dX1_way_29 : decode cX1_way 29 = .ok (.getfield 272, 3) := dk_180 1 16 (dk_at dksX1_way_1 5 rfl rfl)
theorem dX1_way_32 : decode cX1_way 32 = .ok (.invokevirtual 283, 3) := dk_182 1 27 (dk_at dksX1_way_1 8 rfl rfl)
theorem dX1_way_35 : decode cX1_way 35 = .ok (.iload_n 3, 1) := dk_29 (dk_at dksX1_way_1 11 rfl rfl)
theorem dX1_way_36 : decode cX1_way 36 = .ok (.iconst 0, 1) := dk_3 (dk_at dksX1_way_1 12 rfl rfl)
theorem dX1_way_37 : decode cX1_way 37 = .ok (.aload_n 0, 1) := dk_42 (dk_at dksX1_way_1 13 rfl rfl)
theorem dX1_way_38 : decode cX1_way 38 = .ok (.getfield 57, 3) := dk_180 0 57 (dk_at dksX1_way_1 14 rfl rfl)
theorem dX1_way_41 : decode cX1_way 41 = .ok (.getfield 287, 3) := dk_180 1 31 (dk_at dksX1_way_1 17 rfl rfl)
theorem dX1_way_44 : decode cX1_way 44 = .ok (.iconst 1, 1) := dk_4 (dk_at dksX1_way_1 20 rfl rfl)
theorem dX1_way_45 : decode cX1_way 45 = .ok (.isub, 1) := dk_100 (dk_at dksX1_way_1 21 rfl rfl)
theorem dX1_way_46 : decode cX1_way 46 = .ok (.invokestatic 163, 3) := dk_184 0 163 (dk_at dksX1_way_2 0 rfl rfl)
theorem dX1_way_49 : decode cX1_way 49 = .ok (.ifCond .eq 15, 3) := dk_153 0 15 (dk_at dksX1_way_2 3 rfl rfl)
theorem dX1_way_52 : decode cX1_way 52 = .ok (.aload_n 0, 1) := dk_42 (dk_at dksX1_way_2 6 rfl rfl)
theorem dX1_way_53 : decode cX1_way 53 = .ok (.getfield 57, 3) := dk_180 0 57 (dk_at dksX1_way_2 7 rfl rfl)
theorem dX1_way_56 : decode cX1_way 56 = .ok (.getfield 290, 3) := dk_180 1 34 (dk_at dksX1_way_2 10 rfl rfl)
theorem dX1_way_59 : decode cX1_way 59 = .ok (.iload_n 3, 1) := dk_29 (dk_at dksX1_way_2 13 rfl rfl)
theorem dX1_way_60 : decode cX1_way 60 = .ok (.iaload, 1) := dk_46 (dk_at dksX1_way_2 14 rfl rfl)
theorem dX1_way_61 : decode cX1_way 61 = .ok (.goto 4, 3) := dk_167 0 4 (dk_at dksX1_way_2 15 rfl rfl)
theorem dX1_way_64 : decode cX1_way 64 = .ok (.iconst (-1), 1) := dk_2 (dk_at dksX1_way_2 18 rfl rfl)
theorem dX1_way_65 : decode cX1_way 65 = .ok (.ireturn, 1) := dk_172 (dk_at dksX1_way_2 19 rfl rfl)
def dkwX1_foretold_2 : List UInt8 := [167, 0, 9, 42, 180, 0, 121, 27, 46, 172]
abbrev dktX1_foretold_2 : List UInt8 := dkwX1_foretold_2 ++ []
def dkwX1_foretold_1 : List UInt8 := [180, 0, 48, 42, 180, 0, 44, 182, 1, 85, 42, 28, 182, 1, 87, 62, 27, 2, 160, 0, 7, 29]
abbrev dktX1_foretold_1 : List UInt8 := dkwX1_foretold_1 ++ dktX1_foretold_2
def dkwX1_foretold_0 : List UInt8 := [27, 2, 16, 9, 184, 0, 163, 154, 0, 7, 4, 167, 0, 4, 3, 184, 0, 178, 28, 184, 1, 82, 42]
abbrev dktX1_foretold_0 : List UInt8 := dkwX1_foretold_0 ++ dktX1_foretold_1
theorem dksX1_foretold_0 : cX1_foretold.data.toList.drop 0 = dktX1_foretold_0 := by decide +kernel
theorem dksX1_foretold_1 : cX1_foretold.data.toList.drop 23 = dktX1_foretold_1 := dk_seg dksX1_foretold_0 23 rfl rfl
theorem dksX1_foretold_2 : cX1_foretold.data.toList.drop 45 = dktX1_foretold_2 := dk_seg dksX1_foretold_1 22 rfl rfl
theorem dX1_foretold_0 : decode cX1_foretold 0 = .ok (.iload_n 1, 1) := dk_27 (dk_at dksX1_foretold_0 0 rfl rfl)
theorem dX1_foretold_1 : decode cX1_foretold 1 = .ok (.iconst (-1), 1) := dk_2 (dk_at dksX1_foretold_0 1 rfl rfl)
theorem dX1_foretold_2 : decode cX1_foretold 2 = .ok (.bipush 9, 2) := dk_16 9 (dk_at dksX1_foretold_0 2 rfl rfl)
theorem dX1_foretold_4 : decode cX1_foretold 4 = .ok (.invokestatic 163, 3) := dk_184 0 163 (dk_at dksX1_foretold_0 4 rfl rfl)
theorem dX1_foretold_7 : decode cX1_foretold 7 = .ok (.ifCond .ne 7, 3) := dk_154 0 7 (dk_at dksX1_foretold_0 7 rfl rfl)
theorem dX1_foretold_10 : decode cX1_foretold 10 = .ok (.iconst 1, 1) := dk_4 (dk_at dksX1_foretold_0 10 rfl rfl)
theorem dX1_foretold_11 : decode cX1_foretold 11 = .ok (.goto 4, 3) := dk_167 0 4 (dk_at dksX1_foretold_0 11 rfl rfl)
theorem dX1_foretold_14 : decode cX1_foretold 14 = .ok (.iconst 0, 1) := dk_3 (dk_at dksX1_foretold_0 14 rfl rfl)
theorem dX1_foretold_15 : decode cX1_foretold 15 = .ok (.invokestatic 178, 3) := dk_184 0 178 (dk_at dksX1_foretold_0 15 rfl rfl)
theorem dX1_foretold_18 : decode cX1_foretold 18 = .ok (.iload_n 2, 1) := dk_28 (dk_at dksX1_foretold_0 18 rfl rfl)
theorem dX1_foretold_19 : decode cX1_foretold 19 = .ok (.invokestatic 338, 3) := dk_184 1 82 (dk_at dksX1_foretold_0 19 rfl rfl)
theorem dX1_foretold_22 : decode cX1_foretold 22 = .ok (.aload_n 0, 1) := dk_42 (dk_at dksX1_foretold_0 22 rfl rfl)
theorem dX1_foretold_23 : decode cX1_foretold 23 = .ok (.getfield 48, 3) := dk_180 0 48 (dk_at dksX1_foretold_1 0 rfl rfl)
theorem dX1_foretold_26 : decode cX1_foretold 26 = .ok (.aload_n 0, 1) := dk_42 (dk_at dksX1_foretold_1 3 rfl rfl)
theorem dX1_foretold_27 : decode cX1_foretold 27 = .ok (.getfield 44, 3) := dk_180 0 44 (dk_at dksX1_foretold_1 4 rfl rfl)
theorem dX1_foretold_30 : decode cX1_foretold 30 = .ok (.invokevirtual 341, 3) := dk_182 1 85 (dk_at dksX1_foretold_1 7 rfl rfl)
theorem dX1_foretold_33 : decode cX1_foretold 33 = .ok (.aload_n 0, 1) := dk_42 (dk_at dksX1_foretold_1 10 rfl rfl)
theorem dX1_foretold_34 : decode cX1_foretold 34 = .ok (.iload_n 2, 1) := dk_28 (dk_at dksX1_foretold_1 11 rfl rfl)
theorem dX1_foretold_35 : decode cX1_foretold 35 = .ok (.invokevirtual 343, 3) := dk_182 1 87 (dk_at dksX1_foretold_1 12 rfl rfl)
theorem dX1_foretold_38 : decode cX1_foretold 38 = .ok (.istore_n 3, 1) := dk_62 (dk_at dksX1_foretold_1 15 rfl rfl)
theorem dX1_foretold_39 : decode cX1_foretold 39 = .ok (.iload_n 1, 1) := dk_27 (dk_at dksX1_foretold_1 16 rfl rfl)
theorem dX1_foretold_40 : decode cX1_foretold 40 = .ok (.iconst (-1), 1) := dk_2 (dk_at dksX1_foretold_1 17 rfl rfl)
theorem dX1_foretold_41 : decode cX1_foretold 41 = .ok (.if_icmp .ne 7, 3) := dk_160 0 7 (dk_at dksX1_foretold_1 18 rfl rfl)
theorem dX1_foretold_44 : decode cX1_foretold 44 = .ok (.iload_n 3, 1) := dk_29 (dk_at dksX1_foretold_1 21 rfl rfl)
theorem dX1_foretold_45 : decode cX1_foretold 45 = .ok (.goto 9, 3) := dk_167 0 9 (dk_at dksX1_foretold_2 0 rfl rfl)
theorem dX1_foretold_48 : decode cX1_foretold 48 = .ok (.aload_n 0, 1) := dk_42 (dk_at dksX1_foretold_2 3 rfl rfl)
theorem dX1_foretold_49 : decode cX1_foretold 49 = .ok (.getfield 121, 3) := dk_180 0 121 (dk_at dksX1_foretold_2 4 rfl rfl)
theorem dX1_foretold_52 : decode cX1_foretold 52 = .ok (.iload_n 1, 1) := dk_27 (dk_at dksX1_foretold_2 7 rfl rfl)
theorem dX1_foretold_53 : decode cX1_foretold 53 = .ok (.iaload, 1) := dk_46 (dk_at dksX1_foretold_2 8 rfl rfl)
theorem dX1_foretold_54 : decode cX1_foretold 54 = .ok (.ireturn, 1) := dk_172 (dk_at dksX1_foretold_2 9 rfl rfl)
def dkwX1_some_0 : List UInt8 := [26, 4, 8, 184, 0, 163, 154, 0, 7, 4, 167, 0, 4, 3, 184, 0, 178, 177]
abbrev dktX1_some_0 : List UInt8 := dkwX1_some_0 ++ []
theorem dksX1_some_0 : cX1_some.data.toList.drop 0 = dktX1_some_0 := by decide +kernel
theorem dX1_some_0 : decode cX1_some 0 = .ok (.iload_n 0, 1) := dk_26 (dk_at dksX1_some_0 0 rfl rfl)
theorem dX1_some_1 : decode cX1_some 1 = .ok (.iconst 1, 1) := dk_4 (dk_at dksX1_some_0 1 rfl rfl)
theorem dX1_some_2 : decode cX1_some 2 = .ok (.iconst 5, 1) := dk_8 (dk_at dksX1_some_0 2 rfl rfl)
theorem dX1_some_3 : decode cX1_some 3 = .ok (.invokestatic 163, 3) := dk_184 0 163 (dk_at dksX1_some_0 3 rfl rfl)
theorem dX1_some_6 : decode cX1_some 6 = .ok (.ifCond .ne 7, 3) := dk_154 0 7 (dk_at dksX1_some_0 6 rfl rfl)
theorem dX1_some_9 : decode cX1_some 9 = .ok (.iconst 1, 1) := dk_4 (dk_at dksX1_some_0 9 rfl rfl)
theorem dX1_some_10 : decode cX1_some 10 = .ok (.goto 4, 3) := dk_167 0 4 (dk_at dksX1_some_0 10 rfl rfl)
theorem dX1_some_13 : decode cX1_some 13 = .ok (.iconst 0, 1) := dk_3 (dk_at dksX1_some_0 13 rfl rfl)
theorem dX1_some_14 : decode cX1_some 14 = .ok (.invokestatic 178, 3) := dk_184 0 178 (dk_at dksX1_some_0 14 rfl rfl)
theorem dX1_some_17 : decode cX1_some 17 = .ok (.return_, 1) := dk_177 (dk_at dksX1_some_0 17 rfl rfl)
def dkwX1_pushed_3 : List UInt8 := [172]
abbrev dktX1_pushed_3 : List UInt8 := dkwX1_pushed_3 ++ []
def dkwX1_pushed_2 : List UInt8 := [180, 0, 48, 27, 28, 3, 182, 0, 234, 42, 4, 182, 1, 87, 87, 21, 4, 42, 180, 0, 121, 29, 46, 100]
abbrev dktX1_pushed_2 : List UInt8 := dkwX1_pushed_2 ++ dktX1_pushed_3
def dkwX1_pushed_1 : List UInt8 := [182, 1, 87, 87, 42, 180, 0, 121, 29, 46, 54, 4, 42, 180, 0, 48, 42, 180, 0, 44, 182, 1, 85, 42]
abbrev dktX1_pushed_1 : List UInt8 := dkwX1_pushed_1 ++ dktX1_pushed_2
def dkwX1_pushed_0 : List UInt8 := [27, 28, 184, 0, 227, 29, 184, 0, 219, 42, 180, 0, 48, 42, 180, 0, 44, 182, 1, 85, 42, 4]
abbrev dktX1_pushed_0 : List UInt8 := dkwX1_pushed_0 ++ dktX1_pushed_1
theorem dksX1_pushed_0 : cX1_pushed.data.toList.drop 0 = dktX1_pushed_0 := by decide +kernel
theorem dksX1_pushed_1 : cX1_pushed.data.toList.drop 22 = dktX1_pushed_1 := dk_seg dksX1_pushed_0 22 rfl rfl
theorem dksX1_pushed_2 : cX1_pushed.data.toList.drop 46 = dktX1_pushed_2 := dk_seg dksX1_pushed_1 24 rfl rfl
theorem dksX1_pushed_3 : cX1_pushed.data.toList.drop 70 = dktX1_pushed_3 := dk_seg dksX1_pushed_2 24 rfl rfl
theorem dX1_pushed_0 : decode cX1_pushed 0 = .ok (.iload_n 1, 1) := dk_27 (dk_at dksX1_pushed_0 0 rfl rfl)
theorem dX1_pushed_1 : decode cX1_pushed 1 = .ok (.iload_n 2, 1) := dk_28 (dk_at dksX1_pushed_0 1 rfl rfl)
theorem dX1_pushed_2 : decode cX1_pushed 2 = .ok (.invokestatic 227, 3) := dk_184 0 227 (dk_at dksX1_pushed_0 2 rfl rfl)
theorem dX1_pushed_5 : decode cX1_pushed 5 = .ok (.iload_n 3, 1) := dk_29 (dk_at dksX1_pushed_0 5 rfl rfl)
theorem dX1_pushed_6 : decode cX1_pushed 6 = .ok (.invokestatic 219, 3) := dk_184 0 219 (dk_at dksX1_pushed_0 6 rfl rfl)
theorem dX1_pushed_9 : decode cX1_pushed 9 = .ok (.aload_n 0, 1) := dk_42 (dk_at dksX1_pushed_0 9 rfl rfl)
theorem dX1_pushed_10 : decode cX1_pushed 10 = .ok (.getfield 48, 3) := dk_180 0 48 (dk_at dksX1_pushed_0 10 rfl rfl)
theorem dX1_pushed_13 : decode cX1_pushed 13 = .ok (.aload_n 0, 1) := dk_42 (dk_at dksX1_pushed_0 13 rfl rfl)
theorem dX1_pushed_14 : decode cX1_pushed 14 = .ok (.getfield 44, 3) := dk_180 0 44 (dk_at dksX1_pushed_0 14 rfl rfl)
theorem dX1_pushed_17 : decode cX1_pushed 17 = .ok (.invokevirtual 341, 3) := dk_182 1 85 (dk_at dksX1_pushed_0 17 rfl rfl)
theorem dX1_pushed_20 : decode cX1_pushed 20 = .ok (.aload_n 0, 1) := dk_42 (dk_at dksX1_pushed_0 20 rfl rfl)
theorem dX1_pushed_21 : decode cX1_pushed 21 = .ok (.iconst 1, 1) := dk_4 (dk_at dksX1_pushed_0 21 rfl rfl)
theorem dX1_pushed_22 : decode cX1_pushed 22 = .ok (.invokevirtual 343, 3) := dk_182 1 87 (dk_at dksX1_pushed_1 0 rfl rfl)
theorem dX1_pushed_25 : decode cX1_pushed 25 = .ok (.pop, 1) := dk_87 (dk_at dksX1_pushed_1 3 rfl rfl)
theorem dX1_pushed_26 : decode cX1_pushed 26 = .ok (.aload_n 0, 1) := dk_42 (dk_at dksX1_pushed_1 4 rfl rfl)
theorem dX1_pushed_27 : decode cX1_pushed 27 = .ok (.getfield 121, 3) := dk_180 0 121 (dk_at dksX1_pushed_1 5 rfl rfl)
theorem dX1_pushed_30 : decode cX1_pushed 30 = .ok (.iload_n 3, 1) := dk_29 (dk_at dksX1_pushed_1 8 rfl rfl)
theorem dX1_pushed_31 : decode cX1_pushed 31 = .ok (.iaload, 1) := dk_46 (dk_at dksX1_pushed_1 9 rfl rfl)
theorem dX1_pushed_32 : decode cX1_pushed 32 = .ok (.istore 4, 2) := dk_54 4 (dk_at dksX1_pushed_1 10 rfl rfl)
theorem dX1_pushed_34 : decode cX1_pushed 34 = .ok (.aload_n 0, 1) := dk_42 (dk_at dksX1_pushed_1 12 rfl rfl)
theorem dX1_pushed_35 : decode cX1_pushed 35 = .ok (.getfield 48, 3) := dk_180 0 48 (dk_at dksX1_pushed_1 13 rfl rfl)
theorem dX1_pushed_38 : decode cX1_pushed 38 = .ok (.aload_n 0, 1) := dk_42 (dk_at dksX1_pushed_1 16 rfl rfl)
theorem dX1_pushed_39 : decode cX1_pushed 39 = .ok (.getfield 44, 3) := dk_180 0 44 (dk_at dksX1_pushed_1 17 rfl rfl)
theorem dX1_pushed_42 : decode cX1_pushed 42 = .ok (.invokevirtual 341, 3) := dk_182 1 85 (dk_at dksX1_pushed_1 20 rfl rfl)
theorem dX1_pushed_45 : decode cX1_pushed 45 = .ok (.aload_n 0, 1) := dk_42 (dk_at dksX1_pushed_1 23 rfl rfl)
theorem dX1_pushed_46 : decode cX1_pushed 46 = .ok (.getfield 48, 3) := dk_180 0 48 (dk_at dksX1_pushed_2 0 rfl rfl)
theorem dX1_pushed_49 : decode cX1_pushed 49 = .ok (.iload_n 1, 1) := dk_27 (dk_at dksX1_pushed_2 3 rfl rfl)
theorem dX1_pushed_50 : decode cX1_pushed 50 = .ok (.iload_n 2, 1) := dk_28 (dk_at dksX1_pushed_2 4 rfl rfl)
theorem dX1_pushed_51 : decode cX1_pushed 51 = .ok (.iconst 0, 1) := dk_3 (dk_at dksX1_pushed_2 5 rfl rfl)
theorem dX1_pushed_52 : decode cX1_pushed 52 = .ok (.invokevirtual 234, 3) := dk_182 0 234 (dk_at dksX1_pushed_2 6 rfl rfl)
theorem dX1_pushed_55 : decode cX1_pushed 55 = .ok (.aload_n 0, 1) := dk_42 (dk_at dksX1_pushed_2 9 rfl rfl)
theorem dX1_pushed_56 : decode cX1_pushed 56 = .ok (.iconst 1, 1) := dk_4 (dk_at dksX1_pushed_2 10 rfl rfl)
theorem dX1_pushed_57 : decode cX1_pushed 57 = .ok (.invokevirtual 343, 3) := dk_182 1 87 (dk_at dksX1_pushed_2 11 rfl rfl)
theorem dX1_pushed_60 : decode cX1_pushed 60 = .ok (.pop, 1) := dk_87 (dk_at dksX1_pushed_2 14 rfl rfl)
theorem dX1_pushed_61 : decode cX1_pushed 61 = .ok (.iload 4, 2) := dk_21 4 (dk_at dksX1_pushed_2 15 rfl rfl)
theorem dX1_pushed_63 : decode cX1_pushed 63 = .ok (.aload_n 0, 1) := dk_42 (dk_at dksX1_pushed_2 17 rfl rfl)
theorem dX1_pushed_64 : decode cX1_pushed 64 = .ok (.getfield 121, 3) := dk_180 0 121 (dk_at dksX1_pushed_2 18 rfl rfl)
theorem dX1_pushed_67 : decode cX1_pushed 67 = .ok (.iload_n 3, 1) := dk_29 (dk_at dksX1_pushed_2 21 rfl rfl)
theorem dX1_pushed_68 : decode cX1_pushed 68 = .ok (.iaload, 1) := dk_46 (dk_at dksX1_pushed_2 22 rfl rfl)
theorem dX1_pushed_69 : decode cX1_pushed 69 = .ok (.isub, 1) := dk_100 (dk_at dksX1_pushed_2 23 rfl rfl)
theorem dX1_pushed_70 : decode cX1_pushed 70 = .ok (.ireturn, 1) := dk_172 (dk_at dksX1_pushed_3 0 rfl rfl)
def dkwX1_build_10 : List UInt8 := [154, 0, 8, 21, 6, 167, 0, 15, 28, 4, 160, 0, 8, 21, 7, 167, 0, 5, 21, 5, 172]
abbrev dktX1_build_10 : List UInt8 := dkwX1_build_10 ++ []
def dkwX1_build_9 : List UInt8 := [132, 9, 1, 167, 255, 138, 132, 8, 1, 167, 255, 122, 21, 6, 2, 160, 0, 7, 2, 167, 0, 24, 28]
abbrev dktX1_build_9 : List UInt8 := dkwX1_build_9 ++ dktX1_build_10
def dkwX1_build_8 : List UInt8 := [21, 11, 21, 5, 161, 0, 6, 167, 0, 15, 21, 11, 54, 5, 21, 8, 54, 6, 21, 10, 54, 7]
abbrev dktX1_build_8 : List UInt8 := dkwX1_build_8 ++ dktX1_build_9
def dkwX1_build_7 : List UInt8 := [182, 1, 85, 42, 180, 0, 48, 21, 8, 21, 10, 16, 100, 182, 0, 234, 42, 27, 182, 1, 87, 54, 11]
abbrev dktX1_build_7 : List UInt8 := dkwX1_build_7 ++ dktX1_build_8
def dkwX1_build_6 : List UInt8 := [180, 0, 44, 21, 10, 182, 1, 93, 154, 0, 6, 167, 0, 56, 42, 180, 0, 48, 42, 180, 0, 44]
abbrev dktX1_build_6 : List UInt8 := dkwX1_build_6 ++ dktX1_build_7
def dkwX1_build_5 : List UInt8 := [154, 0, 10, 45, 21, 10, 51, 153, 0, 83, 42, 180, 0, 44, 21, 8, 182, 1, 93, 153, 0, 71, 42]
abbrev dktX1_build_5 : List UInt8 := dkwX1_build_5 ++ dktX1_build_6
def dkwX1_build_4 : List UInt8 := [162, 0, 118, 21, 8, 21, 9, 184, 0, 21, 54, 10, 21, 10, 2, 159, 0, 97, 45, 21, 8, 51]
abbrev dktX1_build_4 : List UInt8 := dkwX1_build_4 ++ dktX1_build_5
def dkwX1_build_3 : List UInt8 := [132, 8, 1, 167, 255, 236, 3, 54, 8, 21, 8, 16, 64, 162, 0, 133, 5, 54, 9, 21, 9, 7]
abbrev dktX1_build_3 : List UInt8 := dkwX1_build_3 ++ dktX1_build_4
def dkwX1_build_2 : List UInt8 := [2, 54, 7, 3, 54, 8, 21, 8, 21, 4, 162, 0, 19, 45, 42, 180, 0, 97, 21, 8, 46, 4, 84]
abbrev dktX1_build_2 : List UInt8 := dkwX1_build_2 ++ dktX1_build_3
def dkwX1_build_1 : List UInt8 := [188, 4, 78, 42, 180, 0, 44, 42, 180, 0, 97, 182, 1, 90, 54, 4, 19, 1, 26, 54, 5, 2, 54, 6]
abbrev dktX1_build_1 : List UInt8 := dkwX1_build_1 ++ dktX1_build_2
def dkwX1_build_0 : List UInt8 := [27, 184, 1, 82, 28, 3, 5, 184, 0, 163, 154, 0, 7, 4, 167, 0, 4, 3, 184, 0, 178, 16, 64]
abbrev dktX1_build_0 : List UInt8 := dkwX1_build_0 ++ dktX1_build_1
theorem dksX1_build_0 : cX1_build.data.toList.drop 0 = dktX1_build_0 := by decide +kernel
theorem dksX1_build_1 : cX1_build.data.toList.drop 23 = dktX1_build_1 := dk_seg dksX1_build_0 23 rfl rfl
theorem dksX1_build_2 : cX1_build.data.toList.drop 47 = dktX1_build_2 := dk_seg dksX1_build_1 24 rfl rfl
theorem dksX1_build_3 : cX1_build.data.toList.drop 70 = dktX1_build_3 := dk_seg dksX1_build_2 23 rfl rfl
theorem dksX1_build_4 : cX1_build.data.toList.drop 92 = dktX1_build_4 := dk_seg dksX1_build_3 22 rfl rfl
theorem dksX1_build_5 : cX1_build.data.toList.drop 114 = dktX1_build_5 := dk_seg dksX1_build_4 22 rfl rfl
theorem dksX1_build_6 : cX1_build.data.toList.drop 137 = dktX1_build_6 := dk_seg dksX1_build_5 23 rfl rfl
theorem dksX1_build_7 : cX1_build.data.toList.drop 159 = dktX1_build_7 := dk_seg dksX1_build_6 22 rfl rfl
theorem dksX1_build_8 : cX1_build.data.toList.drop 182 = dktX1_build_8 := dk_seg dksX1_build_7 23 rfl rfl
theorem dksX1_build_9 : cX1_build.data.toList.drop 204 = dktX1_build_9 := dk_seg dksX1_build_8 22 rfl rfl
theorem dksX1_build_10 : cX1_build.data.toList.drop 227 = dktX1_build_10 := dk_seg dksX1_build_9 23 rfl rfl
theorem dX1_build_0 : decode cX1_build 0 = .ok (.iload_n 1, 1) := dk_27 (dk_at dksX1_build_0 0 rfl rfl)
theorem dX1_build_1 : decode cX1_build 1 = .ok (.invokestatic 338, 3) := dk_184 1 82 (dk_at dksX1_build_0 1 rfl rfl)
theorem dX1_build_4 : decode cX1_build 4 = .ok (.iload_n 2, 1) := dk_28 (dk_at dksX1_build_0 4 rfl rfl)
theorem dX1_build_5 : decode cX1_build 5 = .ok (.iconst 0, 1) := dk_3 (dk_at dksX1_build_0 5 rfl rfl)
theorem dX1_build_6 : decode cX1_build 6 = .ok (.iconst 2, 1) := dk_5 (dk_at dksX1_build_0 6 rfl rfl)
theorem dX1_build_7 : decode cX1_build 7 = .ok (.invokestatic 163, 3) := dk_184 0 163 (dk_at dksX1_build_0 7 rfl rfl)
theorem dX1_build_10 : decode cX1_build 10 = .ok (.ifCond .ne 7, 3) := dk_154 0 7 (dk_at dksX1_build_0 10 rfl rfl)
theorem dX1_build_13 : decode cX1_build 13 = .ok (.iconst 1, 1) := dk_4 (dk_at dksX1_build_0 13 rfl rfl)
theorem dX1_build_14 : decode cX1_build 14 = .ok (.goto 4, 3) := dk_167 0 4 (dk_at dksX1_build_0 14 rfl rfl)
theorem dX1_build_17 : decode cX1_build 17 = .ok (.iconst 0, 1) := dk_3 (dk_at dksX1_build_0 17 rfl rfl)
theorem dX1_build_18 : decode cX1_build 18 = .ok (.invokestatic 178, 3) := dk_184 0 178 (dk_at dksX1_build_0 18 rfl rfl)
theorem dX1_build_21 : decode cX1_build 21 = .ok (.bipush 64, 2) := dk_16 64 (dk_at dksX1_build_0 21 rfl rfl)
theorem dX1_build_23 : decode cX1_build 23 = .ok (.newarray .boolean, 2) := dk_188_4 (dk_at dksX1_build_1 0 rfl rfl)
theorem dX1_build_25 : decode cX1_build 25 = .ok (.astore_n 3, 1) := dk_78 (dk_at dksX1_build_1 2 rfl rfl)
theorem dX1_build_26 : decode cX1_build 26 = .ok (.aload_n 0, 1) := dk_42 (dk_at dksX1_build_1 3 rfl rfl)
theorem dX1_build_27 : decode cX1_build 27 = .ok (.getfield 44, 3) := dk_180 0 44 (dk_at dksX1_build_1 4 rfl rfl)
theorem dX1_build_30 : decode cX1_build 30 = .ok (.aload_n 0, 1) := dk_42 (dk_at dksX1_build_1 7 rfl rfl)
theorem dX1_build_31 : decode cX1_build 31 = .ok (.getfield 97, 3) := dk_180 0 97 (dk_at dksX1_build_1 8 rfl rfl)
theorem dX1_build_34 : decode cX1_build 34 = .ok (.invokevirtual 346, 3) := dk_182 1 90 (dk_at dksX1_build_1 11 rfl rfl)
theorem dX1_build_37 : decode cX1_build 37 = .ok (.istore 4, 2) := dk_54 4 (dk_at dksX1_build_1 14 rfl rfl)
theorem dX1_build_39 : decode cX1_build 39 = .ok (.ldc_w 282, 3) := dk_19 1 26 (dk_at dksX1_build_1 16 rfl rfl)
theorem dX1_build_42 : decode cX1_build 42 = .ok (.istore 5, 2) := dk_54 5 (dk_at dksX1_build_1 19 rfl rfl)
theorem dX1_build_44 : decode cX1_build 44 = .ok (.iconst (-1), 1) := dk_2 (dk_at dksX1_build_1 21 rfl rfl)
theorem dX1_build_45 : decode cX1_build 45 = .ok (.istore 6, 2) := dk_54 6 (dk_at dksX1_build_1 22 rfl rfl)
theorem dX1_build_47 : decode cX1_build 47 = .ok (.iconst (-1), 1) := dk_2 (dk_at dksX1_build_2 0 rfl rfl)
theorem dX1_build_48 : decode cX1_build 48 = .ok (.istore 7, 2) := dk_54 7 (dk_at dksX1_build_2 1 rfl rfl)
theorem dX1_build_50 : decode cX1_build 50 = .ok (.iconst 0, 1) := dk_3 (dk_at dksX1_build_2 3 rfl rfl)
theorem dX1_build_51 : decode cX1_build 51 = .ok (.istore 8, 2) := dk_54 8 (dk_at dksX1_build_2 4 rfl rfl)
theorem dX1_build_53 : decode cX1_build 53 = .ok (.iload 8, 2) := dk_21 8 (dk_at dksX1_build_2 6 rfl rfl)
theorem dX1_build_55 : decode cX1_build 55 = .ok (.iload 4, 2) := dk_21 4 (dk_at dksX1_build_2 8 rfl rfl)
theorem dX1_build_57 : decode cX1_build 57 = .ok (.if_icmp .ge 19, 3) := dk_162 0 19 (dk_at dksX1_build_2 10 rfl rfl)
theorem dX1_build_60 : decode cX1_build 60 = .ok (.aload_n 3, 1) := dk_45 (dk_at dksX1_build_2 13 rfl rfl)
theorem dX1_build_61 : decode cX1_build 61 = .ok (.aload_n 0, 1) := dk_42 (dk_at dksX1_build_2 14 rfl rfl)
theorem dX1_build_62 : decode cX1_build 62 = .ok (.getfield 97, 3) := dk_180 0 97 (dk_at dksX1_build_2 15 rfl rfl)
theorem dX1_build_65 : decode cX1_build 65 = .ok (.iload 8, 2) := dk_21 8 (dk_at dksX1_build_2 18 rfl rfl)
theorem dX1_build_67 : decode cX1_build 67 = .ok (.iaload, 1) := dk_46 (dk_at dksX1_build_2 20 rfl rfl)
theorem dX1_build_68 : decode cX1_build 68 = .ok (.iconst 1, 1) := dk_4 (dk_at dksX1_build_2 21 rfl rfl)
theorem dX1_build_69 : decode cX1_build 69 = .ok (.bastore, 1) := dk_84 (dk_at dksX1_build_2 22 rfl rfl)
theorem dX1_build_70 : decode cX1_build 70 = .ok (.iinc 8 1, 3) := dk_132 8 1 (dk_at dksX1_build_3 0 rfl rfl)
theorem dX1_build_73 : decode cX1_build 73 = .ok (.goto (-20), 3) := dk_167 255 236 (dk_at dksX1_build_3 3 rfl rfl)
theorem dX1_build_76 : decode cX1_build 76 = .ok (.iconst 0, 1) := dk_3 (dk_at dksX1_build_3 6 rfl rfl)
theorem dX1_build_77 : decode cX1_build 77 = .ok (.istore 8, 2) := dk_54 8 (dk_at dksX1_build_3 7 rfl rfl)
theorem dX1_build_79 : decode cX1_build 79 = .ok (.iload 8, 2) := dk_21 8 (dk_at dksX1_build_3 9 rfl rfl)
theorem dX1_build_81 : decode cX1_build 81 = .ok (.bipush 64, 2) := dk_16 64 (dk_at dksX1_build_3 11 rfl rfl)
theorem dX1_build_83 : decode cX1_build 83 = .ok (.if_icmp .ge 133, 3) := dk_162 0 133 (dk_at dksX1_build_3 13 rfl rfl)
theorem dX1_build_86 : decode cX1_build 86 = .ok (.iconst 2, 1) := dk_5 (dk_at dksX1_build_3 16 rfl rfl)
theorem dX1_build_87 : decode cX1_build 87 = .ok (.istore 9, 2) := dk_54 9 (dk_at dksX1_build_3 17 rfl rfl)
theorem dX1_build_89 : decode cX1_build 89 = .ok (.iload 9, 2) := dk_21 9 (dk_at dksX1_build_3 19 rfl rfl)
theorem dX1_build_91 : decode cX1_build 91 = .ok (.iconst 4, 1) := dk_7 (dk_at dksX1_build_3 21 rfl rfl)
theorem dX1_build_92 : decode cX1_build 92 = .ok (.if_icmp .ge 118, 3) := dk_162 0 118 (dk_at dksX1_build_4 0 rfl rfl)
theorem dX1_build_95 : decode cX1_build 95 = .ok (.iload 8, 2) := dk_21 8 (dk_at dksX1_build_4 3 rfl rfl)
theorem dX1_build_97 : decode cX1_build 97 = .ok (.iload 9, 2) := dk_21 9 (dk_at dksX1_build_4 5 rfl rfl)
theorem dX1_build_99 : decode cX1_build 99 = .ok (.invokestatic 21, 3) := dk_184 0 21 (dk_at dksX1_build_4 7 rfl rfl)
theorem dX1_build_102 : decode cX1_build 102 = .ok (.istore 10, 2) := dk_54 10 (dk_at dksX1_build_4 10 rfl rfl)
theorem dX1_build_104 : decode cX1_build 104 = .ok (.iload 10, 2) := dk_21 10 (dk_at dksX1_build_4 12 rfl rfl)
theorem dX1_build_106 : decode cX1_build 106 = .ok (.iconst (-1), 1) := dk_2 (dk_at dksX1_build_4 14 rfl rfl)
theorem dX1_build_107 : decode cX1_build 107 = .ok (.if_icmp .eq 97, 3) := dk_159 0 97 (dk_at dksX1_build_4 15 rfl rfl)
theorem dX1_build_110 : decode cX1_build 110 = .ok (.aload_n 3, 1) := dk_45 (dk_at dksX1_build_4 18 rfl rfl)
theorem dX1_build_111 : decode cX1_build 111 = .ok (.iload 8, 2) := dk_21 8 (dk_at dksX1_build_4 19 rfl rfl)
theorem dX1_build_113 : decode cX1_build 113 = .ok (.baload, 1) := dk_51 (dk_at dksX1_build_4 21 rfl rfl)
theorem dX1_build_114 : decode cX1_build 114 = .ok (.ifCond .ne 10, 3) := dk_154 0 10 (dk_at dksX1_build_5 0 rfl rfl)
theorem dX1_build_117 : decode cX1_build 117 = .ok (.aload_n 3, 1) := dk_45 (dk_at dksX1_build_5 3 rfl rfl)
theorem dX1_build_118 : decode cX1_build 118 = .ok (.iload 10, 2) := dk_21 10 (dk_at dksX1_build_5 4 rfl rfl)
theorem dX1_build_120 : decode cX1_build 120 = .ok (.baload, 1) := dk_51 (dk_at dksX1_build_5 6 rfl rfl)
theorem dX1_build_121 : decode cX1_build 121 = .ok (.ifCond .eq 83, 3) := dk_153 0 83 (dk_at dksX1_build_5 7 rfl rfl)
theorem dX1_build_124 : decode cX1_build 124 = .ok (.aload_n 0, 1) := dk_42 (dk_at dksX1_build_5 10 rfl rfl)
theorem dX1_build_125 : decode cX1_build 125 = .ok (.getfield 44, 3) := dk_180 0 44 (dk_at dksX1_build_5 11 rfl rfl)
theorem dX1_build_128 : decode cX1_build 128 = .ok (.iload 8, 2) := dk_21 8 (dk_at dksX1_build_5 14 rfl rfl)
theorem dX1_build_130 : decode cX1_build 130 = .ok (.invokevirtual 349, 3) := dk_182 1 93 (dk_at dksX1_build_5 16 rfl rfl)
theorem dX1_build_133 : decode cX1_build 133 = .ok (.ifCond .eq 71, 3) := dk_153 0 71 (dk_at dksX1_build_5 19 rfl rfl)
theorem dX1_build_136 : decode cX1_build 136 = .ok (.aload_n 0, 1) := dk_42 (dk_at dksX1_build_5 22 rfl rfl)
theorem dX1_build_137 : decode cX1_build 137 = .ok (.getfield 44, 3) := dk_180 0 44 (dk_at dksX1_build_6 0 rfl rfl)
theorem dX1_build_140 : decode cX1_build 140 = .ok (.iload 10, 2) := dk_21 10 (dk_at dksX1_build_6 3 rfl rfl)
theorem dX1_build_142 : decode cX1_build 142 = .ok (.invokevirtual 349, 3) := dk_182 1 93 (dk_at dksX1_build_6 5 rfl rfl)
theorem dX1_build_145 : decode cX1_build 145 = .ok (.ifCond .ne 6, 3) := dk_154 0 6 (dk_at dksX1_build_6 8 rfl rfl)
theorem dX1_build_148 : decode cX1_build 148 = .ok (.goto 56, 3) := dk_167 0 56 (dk_at dksX1_build_6 11 rfl rfl)
theorem dX1_build_151 : decode cX1_build 151 = .ok (.aload_n 0, 1) := dk_42 (dk_at dksX1_build_6 14 rfl rfl)
theorem dX1_build_152 : decode cX1_build 152 = .ok (.getfield 48, 3) := dk_180 0 48 (dk_at dksX1_build_6 15 rfl rfl)
theorem dX1_build_155 : decode cX1_build 155 = .ok (.aload_n 0, 1) := dk_42 (dk_at dksX1_build_6 18 rfl rfl)
theorem dX1_build_156 : decode cX1_build 156 = .ok (.getfield 44, 3) := dk_180 0 44 (dk_at dksX1_build_6 19 rfl rfl)
theorem dX1_build_159 : decode cX1_build 159 = .ok (.invokevirtual 341, 3) := dk_182 1 85 (dk_at dksX1_build_7 0 rfl rfl)
theorem dX1_build_162 : decode cX1_build 162 = .ok (.aload_n 0, 1) := dk_42 (dk_at dksX1_build_7 3 rfl rfl)
theorem dX1_build_163 : decode cX1_build 163 = .ok (.getfield 48, 3) := dk_180 0 48 (dk_at dksX1_build_7 4 rfl rfl)
theorem dX1_build_166 : decode cX1_build 166 = .ok (.iload 8, 2) := dk_21 8 (dk_at dksX1_build_7 7 rfl rfl)
theorem dX1_build_168 : decode cX1_build 168 = .ok (.iload 10, 2) := dk_21 10 (dk_at dksX1_build_7 9 rfl rfl)
theorem dX1_build_170 : decode cX1_build 170 = .ok (.bipush 100, 2) := dk_16 100 (dk_at dksX1_build_7 11 rfl rfl)
theorem dX1_build_172 : decode cX1_build 172 = .ok (.invokevirtual 234, 3) := dk_182 0 234 (dk_at dksX1_build_7 13 rfl rfl)
theorem dX1_build_175 : decode cX1_build 175 = .ok (.aload_n 0, 1) := dk_42 (dk_at dksX1_build_7 16 rfl rfl)
theorem dX1_build_176 : decode cX1_build 176 = .ok (.iload_n 1, 1) := dk_27 (dk_at dksX1_build_7 17 rfl rfl)
theorem dX1_build_177 : decode cX1_build 177 = .ok (.invokevirtual 343, 3) := dk_182 1 87 (dk_at dksX1_build_7 18 rfl rfl)
theorem dX1_build_180 : decode cX1_build 180 = .ok (.istore 11, 2) := dk_54 11 (dk_at dksX1_build_7 21 rfl rfl)
theorem dX1_build_182 : decode cX1_build 182 = .ok (.iload 11, 2) := dk_21 11 (dk_at dksX1_build_8 0 rfl rfl)
theorem dX1_build_184 : decode cX1_build 184 = .ok (.iload 5, 2) := dk_21 5 (dk_at dksX1_build_8 2 rfl rfl)
theorem dX1_build_186 : decode cX1_build 186 = .ok (.if_icmp .lt 6, 3) := dk_161 0 6 (dk_at dksX1_build_8 4 rfl rfl)
theorem dX1_build_189 : decode cX1_build 189 = .ok (.goto 15, 3) := dk_167 0 15 (dk_at dksX1_build_8 7 rfl rfl)
theorem dX1_build_192 : decode cX1_build 192 = .ok (.iload 11, 2) := dk_21 11 (dk_at dksX1_build_8 10 rfl rfl)
theorem dX1_build_194 : decode cX1_build 194 = .ok (.istore 5, 2) := dk_54 5 (dk_at dksX1_build_8 12 rfl rfl)
theorem dX1_build_196 : decode cX1_build 196 = .ok (.iload 8, 2) := dk_21 8 (dk_at dksX1_build_8 14 rfl rfl)
theorem dX1_build_198 : decode cX1_build 198 = .ok (.istore 6, 2) := dk_54 6 (dk_at dksX1_build_8 16 rfl rfl)
theorem dX1_build_200 : decode cX1_build 200 = .ok (.iload 10, 2) := dk_21 10 (dk_at dksX1_build_8 18 rfl rfl)
theorem dX1_build_202 : decode cX1_build 202 = .ok (.istore 7, 2) := dk_54 7 (dk_at dksX1_build_8 20 rfl rfl)
theorem dX1_build_204 : decode cX1_build 204 = .ok (.iinc 9 1, 3) := dk_132 9 1 (dk_at dksX1_build_9 0 rfl rfl)
theorem dX1_build_207 : decode cX1_build 207 = .ok (.goto (-118), 3) := dk_167 255 138 (dk_at dksX1_build_9 3 rfl rfl)
theorem dX1_build_210 : decode cX1_build 210 = .ok (.iinc 8 1, 3) := dk_132 8 1 (dk_at dksX1_build_9 6 rfl rfl)
theorem dX1_build_213 : decode cX1_build 213 = .ok (.goto (-134), 3) := dk_167 255 122 (dk_at dksX1_build_9 9 rfl rfl)
theorem dX1_build_216 : decode cX1_build 216 = .ok (.iload 6, 2) := dk_21 6 (dk_at dksX1_build_9 12 rfl rfl)
theorem dX1_build_218 : decode cX1_build 218 = .ok (.iconst (-1), 1) := dk_2 (dk_at dksX1_build_9 14 rfl rfl)
theorem dX1_build_219 : decode cX1_build 219 = .ok (.if_icmp .ne 7, 3) := dk_160 0 7 (dk_at dksX1_build_9 15 rfl rfl)
theorem dX1_build_222 : decode cX1_build 222 = .ok (.iconst (-1), 1) := dk_2 (dk_at dksX1_build_9 18 rfl rfl)
theorem dX1_build_223 : decode cX1_build 223 = .ok (.goto 24, 3) := dk_167 0 24 (dk_at dksX1_build_9 19 rfl rfl)
theorem dX1_build_226 : decode cX1_build 226 = .ok (.iload_n 2, 1) := dk_28 (dk_at dksX1_build_9 22 rfl rfl)
theorem dX1_build_227 : decode cX1_build 227 = .ok (.ifCond .ne 8, 3) := dk_154 0 8 (dk_at dksX1_build_10 0 rfl rfl)
theorem dX1_build_230 : decode cX1_build 230 = .ok (.iload 6, 2) := dk_21 6 (dk_at dksX1_build_10 3 rfl rfl)
theorem dX1_build_232 : decode cX1_build 232 = .ok (.goto 15, 3) := dk_167 0 15 (dk_at dksX1_build_10 5 rfl rfl)
theorem dX1_build_235 : decode cX1_build 235 = .ok (.iload_n 2, 1) := dk_28 (dk_at dksX1_build_10 8 rfl rfl)
theorem dX1_build_236 : decode cX1_build 236 = .ok (.iconst 1, 1) := dk_4 (dk_at dksX1_build_10 9 rfl rfl)
theorem dX1_build_237 : decode cX1_build 237 = .ok (.if_icmp .ne 8, 3) := dk_160 0 8 (dk_at dksX1_build_10 10 rfl rfl)
theorem dX1_build_240 : decode cX1_build 240 = .ok (.iload 7, 2) := dk_21 7 (dk_at dksX1_build_10 13 rfl rfl)
theorem dX1_build_242 : decode cX1_build 242 = .ok (.goto 5, 3) := dk_167 0 5 (dk_at dksX1_build_10 15 rfl rfl)
theorem dX1_build_245 : decode cX1_build 245 = .ok (.iload 5, 2) := dk_21 5 (dk_at dksX1_build_10 18 rfl rfl)
theorem dX1_build_247 : decode cX1_build 247 = .ok (.ireturn, 1) := dk_172 (dk_at dksX1_build_10 20 rfl rfl)
def dkwX1_debt_0 : List UInt8 := [27, 3, 4, 184, 0, 163, 154, 0, 7, 4, 167, 0, 4, 3, 184, 0, 178, 42, 180, 0, 100, 27, 46, 172]
abbrev dktX1_debt_0 : List UInt8 := dkwX1_debt_0 ++ []
theorem dksX1_debt_0 : cX1_debt.data.toList.drop 0 = dktX1_debt_0 := by decide +kernel
theorem dX1_debt_0 : decode cX1_debt 0 = .ok (.iload_n 1, 1) := dk_27 (dk_at dksX1_debt_0 0 rfl rfl)
theorem dX1_debt_1 : decode cX1_debt 1 = .ok (.iconst 0, 1) := dk_3 (dk_at dksX1_debt_0 1 rfl rfl)
theorem dX1_debt_2 : decode cX1_debt 2 = .ok (.iconst 1, 1) := dk_4 (dk_at dksX1_debt_0 2 rfl rfl)
theorem dX1_debt_3 : decode cX1_debt 3 = .ok (.invokestatic 163, 3) := dk_184 0 163 (dk_at dksX1_debt_0 3 rfl rfl)
theorem dX1_debt_6 : decode cX1_debt 6 = .ok (.ifCond .ne 7, 3) := dk_154 0 7 (dk_at dksX1_debt_0 6 rfl rfl)
theorem dX1_debt_9 : decode cX1_debt 9 = .ok (.iconst 1, 1) := dk_4 (dk_at dksX1_debt_0 9 rfl rfl)
theorem dX1_debt_10 : decode cX1_debt 10 = .ok (.goto 4, 3) := dk_167 0 4 (dk_at dksX1_debt_0 10 rfl rfl)
theorem dX1_debt_13 : decode cX1_debt 13 = .ok (.iconst 0, 1) := dk_3 (dk_at dksX1_debt_0 13 rfl rfl)
theorem dX1_debt_14 : decode cX1_debt 14 = .ok (.invokestatic 178, 3) := dk_184 0 178 (dk_at dksX1_debt_0 14 rfl rfl)
theorem dX1_debt_17 : decode cX1_debt 17 = .ok (.aload_n 0, 1) := dk_42 (dk_at dksX1_debt_0 17 rfl rfl)
theorem dX1_debt_18 : decode cX1_debt 18 = .ok (.getfield 100, 3) := dk_180 0 100 (dk_at dksX1_debt_0 18 rfl rfl)
theorem dX1_debt_21 : decode cX1_debt 21 = .ok (.iload_n 1, 1) := dk_27 (dk_at dksX1_debt_0 21 rfl rfl)
theorem dX1_debt_22 : decode cX1_debt 22 = .ok (.iaload, 1) := dk_46 (dk_at dksX1_debt_0 22 rfl rfl)
theorem dX1_debt_23 : decode cX1_debt 23 = .ok (.ireturn, 1) := dk_172 (dk_at dksX1_debt_0 23 rfl rfl)
def dkwX1_watch_2_3 : List UInt8 := [181, 1, 40, 42, 180, 1, 40, 172]
abbrev dktX1_watch_2_3 : List UInt8 := dkwX1_watch_2_3 ++ []
def dkwX1_watch_2_2 : List UInt8 := [180, 1, 40, 27, 79, 42, 180, 0, 91, 42, 180, 1, 40, 28, 79, 42, 89, 180, 1, 40, 4, 96]
abbrev dktX1_watch_2_2 : List UInt8 := dkwX1_watch_2_2 ++ dktX1_watch_2_3
def dkwX1_watch_2_1 : List UInt8 := [153, 0, 6, 16, 254, 172, 42, 180, 0, 130, 27, 51, 153, 0, 6, 16, 253, 172, 42, 180, 0, 88, 42]
